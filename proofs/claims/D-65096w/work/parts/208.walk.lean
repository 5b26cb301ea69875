set_option maxRecDepth 100000
theorem dX67_perform_0 : decode cX67_perform 0 = .ok (.aload_n 0, 1) := by decide +kernel
theorem dX67_perform_1 : decode cX67_perform 1 = .ok (.getfield 104, 3) := by decide +kernel
theorem dX67_perform_4 : decode cX67_perform 4 = .ok (.iload_n 1, 1) := by decide +kernel
theorem dX67_perform_5 : decode cX67_perform 5 = .ok (.iaload, 1) := by decide +kernel
theorem dX67_perform_6 : decode cX67_perform 6 = .ok (.istore_n 2, 1) := by decide +kernel
theorem dX67_perform_7 : decode cX67_perform 7 = .ok (.aload_n 0, 1) := by decide +kernel
theorem dX67_perform_8 : decode cX67_perform 8 = .ok (.getfield 107, 3) := by decide +kernel
theorem dX67_perform_11 : decode cX67_perform 11 = .ok (.iload_n 1, 1) := by decide +kernel
theorem dX67_perform_12 : decode cX67_perform 12 = .ok (.iaload, 1) := by decide +kernel
theorem dX67_perform_13 : decode cX67_perform 13 = .ok (.istore_n 3, 1) := by decide +kernel
theorem dX67_perform_14 : decode cX67_perform 14 = .ok (.aload_n 0, 1) := by decide +kernel
theorem dX67_perform_15 : decode cX67_perform 15 = .ok (.iload_n 1, 1) := by decide +kernel
theorem dX67_perform_16 : decode cX67_perform 16 = .ok (.iload_n 2, 1) := by decide +kernel
theorem dX67_perform_17 : decode cX67_perform 17 = .ok (.iload_n 3, 1) := by decide +kernel
theorem dX67_perform_18 : decode cX67_perform 18 = .ok (.aload_n 0, 1) := by decide +kernel
theorem dX67_perform_19 : decode cX67_perform 19 = .ok (.getfield 110, 3) := by decide +kernel
theorem dX67_perform_22 : decode cX67_perform 22 = .ok (.iload_n 1, 1) := by decide +kernel
theorem dX67_perform_23 : decode cX67_perform 23 = .ok (.iaload, 1) := by decide +kernel
theorem dX67_perform_24 : decode cX67_perform 24 = .ok (.iconst 2, 1) := by decide +kernel
theorem dX67_perform_25 : decode cX67_perform 25 = .ok (.invokevirtual 573, 3) := by decide +kernel
theorem dX67_perform_28 : decode cX67_perform 28 = .ok (.ifCond .ne 4, 3) := by decide +kernel
theorem dX67_perform_31 : decode cX67_perform 31 = .ok (.return_, 1) := by decide +kernel
theorem dX67_perform_32 : decode cX67_perform 32 = .ok (.aload_n 0, 1) := by decide +kernel
theorem dX67_perform_33 : decode cX67_perform 33 = .ok (.iload_n 1, 1) := by decide +kernel
theorem dX67_perform_34 : decode cX67_perform 34 = .ok (.iload_n 2, 1) := by decide +kernel
theorem dX67_perform_35 : decode cX67_perform 35 = .ok (.iload_n 3, 1) := by decide +kernel
theorem dX67_perform_36 : decode cX67_perform 36 = .ok (.invokevirtual 576, 3) := by decide +kernel
theorem dX67_perform_39 : decode cX67_perform 39 = .ok (.lstore 4, 2) := by decide +kernel
theorem dX67_perform_41 : decode cX67_perform 41 = .ok (.aload_n 0, 1) := by decide +kernel
theorem dX67_perform_42 : decode cX67_perform 42 = .ok (.lload 4, 2) := by decide +kernel
theorem dX67_perform_44 : decode cX67_perform 44 = .ok (.bipush 30, 2) := by decide +kernel
theorem dX67_perform_46 : decode cX67_perform 46 = .ok (.lshr, 1) := by decide +kernel
theorem dX67_perform_47 : decode cX67_perform 47 = .ok (.l2i, 1) := by decide +kernel
theorem dX67_perform_48 : decode cX67_perform 48 = .ok (.putfield 537, 3) := by decide +kernel
theorem dX67_perform_51 : decode cX67_perform 51 = .ok (.aload_n 0, 1) := by decide +kernel
theorem dX67_perform_52 : decode cX67_perform 52 = .ok (.lload 4, 2) := by decide +kernel
theorem dX67_perform_54 : decode cX67_perform 54 = .ok (.bipush 27, 2) := by decide +kernel
theorem dX67_perform_56 : decode cX67_perform 56 = .ok (.lshr, 1) := by decide +kernel
theorem dX67_perform_57 : decode cX67_perform 57 = .ok (.ldc2_w 476, 3) := by decide +kernel
theorem dX67_perform_60 : decode cX67_perform 60 = .ok (.land, 1) := by decide +kernel
theorem dX67_perform_61 : decode cX67_perform 61 = .ok (.l2i, 1) := by decide +kernel
theorem dX67_perform_62 : decode cX67_perform 62 = .ok (.putfield 546, 3) := by decide +kernel
theorem dX67_perform_65 : decode cX67_perform 65 = .ok (.aload_n 0, 1) := by decide +kernel
theorem dX67_perform_66 : decode cX67_perform 66 = .ok (.lload 4, 2) := by decide +kernel
theorem dX67_perform_68 : decode cX67_perform 68 = .ok (.bipush 24, 2) := by decide +kernel
theorem dX67_perform_70 : decode cX67_perform 70 = .ok (.lshr, 1) := by decide +kernel
theorem dX67_perform_71 : decode cX67_perform 71 = .ok (.ldc2_w 476, 3) := by decide +kernel
theorem dX67_perform_74 : decode cX67_perform 74 = .ok (.land, 1) := by decide +kernel
theorem dX67_perform_75 : decode cX67_perform 75 = .ok (.l2i, 1) := by decide +kernel
theorem dX67_perform_76 : decode cX67_perform 76 = .ok (.putfield 564, 3) := by decide +kernel
theorem dX67_perform_79 : decode cX67_perform 79 = .ok (.lload 4, 2) := by decide +kernel
theorem dX67_perform_81 : decode cX67_perform 81 = .ok (.bipush 21, 2) := by decide +kernel
theorem dX67_perform_83 : decode cX67_perform 83 = .ok (.lshr, 1) := by decide +kernel
theorem dX67_perform_84 : decode cX67_perform 84 = .ok (.ldc2_w 476, 3) := by decide +kernel
theorem dX67_perform_87 : decode cX67_perform 87 = .ok (.land, 1) := by decide +kernel
theorem dX67_perform_88 : decode cX67_perform 88 = .ok (.l2i, 1) := by decide +kernel
theorem dX67_perform_89 : decode cX67_perform 89 = .ok (.istore 6, 2) := by decide +kernel
theorem dX67_perform_91 : decode cX67_perform 91 = .ok (.aload_n 0, 1) := by decide +kernel
theorem dX67_perform_92 : decode cX67_perform 92 = .ok (.lload 4, 2) := by decide +kernel
theorem dX67_perform_94 : decode cX67_perform 94 = .ok (.bipush 18, 2) := by decide +kernel
theorem dX67_perform_96 : decode cX67_perform 96 = .ok (.lshr, 1) := by decide +kernel
theorem dX67_perform_97 : decode cX67_perform 97 = .ok (.ldc2_w 476, 3) := by decide +kernel
theorem dX67_perform_100 : decode cX67_perform 100 = .ok (.land, 1) := by decide +kernel
theorem dX67_perform_101 : decode cX67_perform 101 = .ok (.l2i, 1) := by decide +kernel
theorem dX67_perform_102 : decode cX67_perform 102 = .ok (.putfield 549, 3) := by decide +kernel
theorem dX67_perform_105 : decode cX67_perform 105 = .ok (.aload_n 0, 1) := by decide +kernel
theorem dX67_perform_106 : decode cX67_perform 106 = .ok (.lload 4, 2) := by decide +kernel
theorem dX67_perform_108 : decode cX67_perform 108 = .ok (.ldc2_w 582, 3) := by decide +kernel
theorem dX67_perform_111 : decode cX67_perform 111 = .ok (.land, 1) := by decide +kernel
theorem dX67_perform_112 : decode cX67_perform 112 = .ok (.l2i, 1) := by decide +kernel
theorem dX67_perform_113 : decode cX67_perform 113 = .ok (.putfield 552, 3) := by decide +kernel
theorem dX67_perform_116 : decode cX67_perform 116 = .ok (.aload_n 0, 1) := by decide +kernel
theorem dX67_perform_117 : decode cX67_perform 117 = .ok (.iload 6, 2) := by decide +kernel
theorem dX67_perform_119 : decode cX67_perform 119 = .ok (.invokevirtual 623, 3) := by decide +kernel
theorem dX67_perform_122 : decode cX67_perform 122 = .ok (.ifCond .ne 18, 3) := by decide +kernel
theorem dX67_perform_125 : decode cX67_perform 125 = .ok (.aload_n 0, 1) := by decide +kernel
theorem dX67_perform_126 : decode cX67_perform 126 = .ok (.bipush 8, 2) := by decide +kernel
theorem dX67_perform_128 : decode cX67_perform 128 = .ok (.iload_n 2, 1) := by decide +kernel
theorem dX67_perform_129 : decode cX67_perform 129 = .ok (.iload_n 3, 1) := by decide +kernel
theorem dX67_perform_130 : decode cX67_perform 130 = .ok (.aload_n 0, 1) := by decide +kernel
theorem dX67_perform_131 : decode cX67_perform 131 = .ok (.getfield 110, 3) := by decide +kernel
theorem dX67_perform_134 : decode cX67_perform 134 = .ok (.iload_n 1, 1) := by decide +kernel
theorem dX67_perform_135 : decode cX67_perform 135 = .ok (.iaload, 1) := by decide +kernel
theorem dX67_perform_136 : decode cX67_perform 136 = .ok (.invokevirtual 531, 3) := by decide +kernel
theorem dX67_perform_139 : decode cX67_perform 139 = .ok (.return_, 1) := by decide +kernel
theorem dX67_perform_140 : decode cX67_perform 140 = .ok (.aload_n 0, 1) := by decide +kernel
theorem dX67_perform_141 : decode cX67_perform 141 = .ok (.getfield 537, 3) := by decide +kernel
theorem dX67_perform_144 : decode cX67_perform 144 = .ok (.iconst 2, 1) := by decide +kernel
theorem dX67_perform_145 : decode cX67_perform 145 = .ok (.if_icmp .lt 12, 3) := by decide +kernel
theorem dX67_perform_148 : decode cX67_perform 148 = .ok (.aload_n 0, 1) := by decide +kernel
theorem dX67_perform_149 : decode cX67_perform 149 = .ok (.getfield 537, 3) := by decide +kernel
theorem dX67_perform_152 : decode cX67_perform 152 = .ok (.bipush 35, 2) := by decide +kernel
theorem dX67_perform_154 : decode cX67_perform 154 = .ok (.if_icmp .le 7, 3) := by decide +kernel
theorem dX67_perform_157 : decode cX67_perform 157 = .ok (.iconst 1, 1) := by decide +kernel
theorem dX67_perform_158 : decode cX67_perform 158 = .ok (.goto 4, 3) := by decide +kernel
theorem dX67_perform_161 : decode cX67_perform 161 = .ok (.iconst 0, 1) := by decide +kernel
theorem dX67_perform_162 : decode cX67_perform 162 = .ok (.istore 7, 2) := by decide +kernel
theorem dX67_perform_164 : decode cX67_perform 164 = .ok (.iload 7, 2) := by decide +kernel
theorem dX67_perform_166 : decode cX67_perform 166 = .ok (.ifCond .ne 12, 3) := by decide +kernel
theorem dX67_perform_169 : decode cX67_perform 169 = .ok (.aload_n 0, 1) := by decide +kernel
theorem dX67_perform_170 : decode cX67_perform 170 = .ok (.iload_n 1, 1) := by decide +kernel
theorem dX67_perform_171 : decode cX67_perform 171 = .ok (.invokevirtual 626, 3) := by decide +kernel
theorem dX67_perform_174 : decode cX67_perform 174 = .ok (.ifCond .ne 4, 3) := by decide +kernel
theorem dX67_perform_177 : decode cX67_perform 177 = .ok (.return_, 1) := by decide +kernel
theorem dX67_perform_178 : decode cX67_perform 178 = .ok (.iload_n 3, 1) := by decide +kernel
theorem dX67_perform_179 : decode cX67_perform 179 = .ok (.iconst 1, 1) := by decide +kernel
theorem dX67_perform_180 : decode cX67_perform 180 = .ok (.iadd, 1) := by decide +kernel
theorem dX67_perform_181 : decode cX67_perform 181 = .ok (.ldc 56, 2) := by decide +kernel
theorem dX67_perform_183 : decode cX67_perform 183 = .ok (.irem, 1) := by decide +kernel
theorem dX67_perform_184 : decode cX67_perform 184 = .ok (.istore 8, 2) := by decide +kernel
theorem dX67_perform_186 : decode cX67_perform 186 = .ok (.aload_n 0, 1) := by decide +kernel
theorem dX67_perform_187 : decode cX67_perform 187 = .ok (.getfield 537, 3) := by decide +kernel
theorem dX67_perform_190 : decode cX67_perform 190 = .ok (.bipush 33, 2) := by decide +kernel
theorem dX67_perform_192 : decode cX67_perform 192 = .ok (.if_icmp .ne 13, 3) := by decide +kernel
theorem dX67_perform_195 : decode cX67_perform 195 = .ok (.aload_n 0, 1) := by decide +kernel
theorem dX67_perform_196 : decode cX67_perform 196 = .ok (.iload_n 1, 1) := by decide +kernel
theorem dX67_perform_197 : decode cX67_perform 197 = .ok (.iload_n 2, 1) := by decide +kernel
theorem dX67_perform_198 : decode cX67_perform 198 = .ok (.iload_n 3, 1) := by decide +kernel
theorem dX67_perform_199 : decode cX67_perform 199 = .ok (.invokevirtual 629, 3) := by decide +kernel
theorem dX67_perform_202 : decode cX67_perform 202 = .ok (.goto 66, 3) := by decide +kernel
theorem dX67_perform_205 : decode cX67_perform 205 = .ok (.aload_n 0, 1) := by decide +kernel
theorem dX67_perform_206 : decode cX67_perform 206 = .ok (.getfield 537, 3) := by decide +kernel
theorem dX67_perform_209 : decode cX67_perform 209 = .ok (.bipush 34, 2) := by decide +kernel
theorem dX67_perform_211 : decode cX67_perform 211 = .ok (.if_icmp .ne 20, 3) := by decide +kernel
theorem dX67_perform_214 : decode cX67_perform 214 = .ok (.aload_n 0, 1) := by decide +kernel
theorem dX67_perform_215 : decode cX67_perform 215 = .ok (.iload_n 1, 1) := by decide +kernel
theorem dX67_perform_216 : decode cX67_perform 216 = .ok (.aload_n 0, 1) := by decide +kernel
theorem dX67_perform_217 : decode cX67_perform 217 = .ok (.getfield 561, 3) := by decide +kernel
theorem dX67_perform_220 : decode cX67_perform 220 = .ok (.invokevirtual 620, 3) := by decide +kernel
theorem dX67_perform_223 : decode cX67_perform 223 = .ok (.aload_n 0, 1) := by decide +kernel
theorem dX67_perform_224 : decode cX67_perform 224 = .ok (.iload_n 1, 1) := by decide +kernel
theorem dX67_perform_225 : decode cX67_perform 225 = .ok (.invokevirtual 613, 3) := by decide +kernel
theorem dX67_perform_228 : decode cX67_perform 228 = .ok (.goto 40, 3) := by decide +kernel
theorem dX67_perform_231 : decode cX67_perform 231 = .ok (.aload_n 0, 1) := by decide +kernel
theorem dX67_perform_232 : decode cX67_perform 232 = .ok (.getfield 537, 3) := by decide +kernel
theorem dX67_perform_235 : decode cX67_perform 235 = .ok (.bipush 35, 2) := by decide +kernel
theorem dX67_perform_237 : decode cX67_perform 237 = .ok (.if_icmp .ne 15, 3) := by decide +kernel
theorem dX67_perform_240 : decode cX67_perform 240 = .ok (.aload_n 0, 1) := by decide +kernel
theorem dX67_perform_241 : decode cX67_perform 241 = .ok (.iload_n 1, 1) := by decide +kernel
theorem dX67_perform_242 : decode cX67_perform 242 = .ok (.aload_n 0, 1) := by decide +kernel
theorem dX67_perform_243 : decode cX67_perform 243 = .ok (.getfield 558, 3) := by decide +kernel
theorem dX67_perform_246 : decode cX67_perform 246 = .ok (.invokevirtual 632, 3) := by decide +kernel
theorem dX67_perform_249 : decode cX67_perform 249 = .ok (.goto 19, 3) := by decide +kernel
theorem dX67_perform_252 : decode cX67_perform 252 = .ok (.aload_n 0, 1) := by decide +kernel
theorem dX67_perform_253 : decode cX67_perform 253 = .ok (.getfield 107, 3) := by decide +kernel
theorem dX67_perform_256 : decode cX67_perform 256 = .ok (.iload_n 1, 1) := by decide +kernel
theorem dX67_perform_257 : decode cX67_perform 257 = .ok (.iload 8, 2) := by decide +kernel
theorem dX67_perform_259 : decode cX67_perform 259 = .ok (.iastore, 1) := by decide +kernel
theorem dX67_perform_260 : decode cX67_perform 260 = .ok (.aload_n 0, 1) := by decide +kernel
theorem dX67_perform_261 : decode cX67_perform 261 = .ok (.iload_n 1, 1) := by decide +kernel
theorem dX67_perform_262 : decode cX67_perform 262 = .ok (.iload 6, 2) := by decide +kernel
theorem dX67_perform_264 : decode cX67_perform 264 = .ok (.iload_n 3, 1) := by decide +kernel
theorem dX67_perform_265 : decode cX67_perform 265 = .ok (.invokevirtual 635, 3) := by decide +kernel
theorem dX67_perform_268 : decode cX67_perform 268 = .ok (.return_, 1) := by decide +kernel
theorem zy_X67_perform : yX67_perform.cls ≠ "java/lang/invoke/MethodHandle" ∧ yX67_perform.cls ≠ "java/lang/invoke/VarHandle" ∧ (parseMethodDescriptor yX67_perform.desc).map (fun d => d.parameters.length) = some 1 := by decide +kernel
theorem w_fX67_perform_J178 {K : zK} (E : zE K cX67_perform "RingHouseModel" none 7) (hN : zNl K = 9) (hT : zTr K = none) (x1 : Int) (x2 : Int) (x3 : Int) (x6 : Int) : zR K 178 [(0, 69, 0), (1, 0, x1), (2, 0, x2), (3, 0, x3), (6, 0, x6)] [] (fX67_perform_J178 x1 x2 x3 x6) := by
  refine r_iload_n E dX67_perform_178 rfl 3 rfl ?_
  refine r_iconst E dX67_perform_179 (zkI (by decide) (by decide)) ?_
  refine r_iadd E dX67_perform_180 ?_
  refine r_ldc (v := 262144) E dX67_perform_181 q3170 (by decide) (zkI (by decide) (by decide)) ?_
  refine r_irem E (by decide) dX67_perform_183 ?_
  refine r_let E (fun v9 ev9 => ?_)
  refine r_istore (ls' := [(8, 0, v9), (0, 69, 0), (1, 0, x1), (2, 0, x2), (3, 0, x3), (6, 0, x6)]) E dX67_perform_184 (by rw [hN]; decide) rfl ?_
  refine r_aload_n E dX67_perform_186 rfl 1 rfl ?_
  refine r_get E zc_69 zt_6881 dX67_perform_187 q3296 zr_69 (zg_6881 _) (by decide) (fun v10 => ?_)
  refine r_bipush E dX67_perform_190 (by decide) (zkI (by decide) (by decide)) ?_
  refine r_icmp_ne E 205 (by decide) dX67_perform_192 (fun _ => ?_) (fun _ => ?_)
  · refine r_aload_n E dX67_perform_205 rfl 1 rfl ?_
    refine r_get E zc_69 zt_6881 dX67_perform_206 q3296 zr_69 (zg_6881 _) (by decide) (fun v11 => ?_)
    refine r_bipush E dX67_perform_209 (by decide) (zkI (by decide) (by decide)) ?_
    refine r_icmp_ne E 231 (by decide) dX67_perform_211 (fun _ => ?_) (fun _ => ?_)
    · refine r_aload_n E dX67_perform_231 rfl 1 rfl ?_
      refine r_get E zc_69 zt_6881 dX67_perform_232 q3296 zr_69 (zg_6881 _) (by decide) (fun v12 => ?_)
      refine r_bipush E dX67_perform_235 (by decide) (zkI (by decide) (by decide)) ?_
      refine r_icmp_ne E 252 (by decide) dX67_perform_237 (fun _ => ?_) (fun _ => ?_)
      · refine r_aload_n E dX67_perform_252 rfl 1 rfl ?_
        refine r_gec (y := 0) E zc_69 dX67_perform_253 q3247 zr_69 (zh_6832 (by decide)) (by decide) ?_
        refine r_iload_n E dX67_perform_256 rfl 2 rfl ?_
        refine r_iload E dX67_perform_257 0 rfl ?_
        refine r_iastore E zc_6832 za_6832 zt_6832 zo_6832 zx_6832 rfl rfl dX67_perform_259 (by decide) ?_
        refine r_aload_n E dX67_perform_260 rfl 1 rfl ?_
        refine r_iload_n E dX67_perform_261 rfl 2 rfl ?_
        refine r_iload E dX67_perform_262 5 rfl ?_
        refine r_iload_n E dX67_perform_264 rfl 4 rfl ?_
        refine r_callV E [(0, x1), (0, x6), (0, x3)] [] rfl zc_69 zr_69 (fun o _ => ⟨_, zw_X67.1 o, rfl⟩) (lw_V q4027 q4029 qs161 q294 q4030) dX67_perform_265 zy_X67_act rfl (by omega) (by decide) (Nat.le_of_ble_eq_true rfl) (by decide) (fun l G => k_fX67_act l G x1 x6 x3) (fun _ => ?_)
        exact r_return E rfl hT dX67_perform_268
      · refine r_aload_n E dX67_perform_240 rfl 1 rfl ?_
        refine r_iload_n E dX67_perform_241 rfl 2 rfl ?_
        refine r_aload_n E dX67_perform_242 rfl 1 rfl ?_
        refine r_get E zc_69 zt_6879 dX67_perform_243 q3294 zr_69 (zg_6879 _) (by decide) (fun v14 => ?_)
        refine r_callV E [(0, x1), (0, v14)] [] rfl zc_69 zr_69 (fun o _ => ⟨_, zw_X67.1 o, rfl⟩) (lw_V q3925 q3927 qs140 q294 q3928) dX67_perform_246 zy_X67_service rfl (by omega) (by decide) (Nat.le_of_ble_eq_true rfl) (by decide) (fun l G => k_fX67_service l G x1 v14) (fun _ => ?_)
        refine r_goto E 268 (by decide) dX67_perform_249 ?_
        exact r_return E rfl hT dX67_perform_268
    · refine r_aload_n E dX67_perform_214 rfl 1 rfl ?_
      refine r_iload_n E dX67_perform_215 rfl 2 rfl ?_
      refine r_aload_n E dX67_perform_216 rfl 1 rfl ?_
      refine r_get E zc_69 zt_6880 dX67_perform_217 q3295 zr_69 (zg_6880 _) (by decide) (fun v16 => ?_)
      refine r_callV E [(0, x1), (0, v16)] [] rfl zc_69 zr_69 (fun o _ => ⟨_, zw_X67.1 o, rfl⟩) (lw_V q3917 q3919 qs138 q294 q3920) dX67_perform_220 zy_X67_turnTo rfl (by omega) (by decide) (Nat.le_of_ble_eq_true rfl) (by decide) (fun l G => k_fX67_turnTo l G x1 v16) (fun _ => ?_)
      refine r_aload_n E dX67_perform_223 rfl 1 rfl ?_
      refine r_iload_n E dX67_perform_224 rfl 2 rfl ?_
      refine r_callV E [(0, x1)] [] rfl zc_69 zr_69 (fun o _ => ⟨_, zw_X67.1 o, rfl⟩) (lw_V q3921 q3923 qs139 q294 q3924) dX67_perform_225 zy_X67_go rfl (by omega) (by decide) (Nat.le_of_ble_eq_true rfl) (by decide) (fun l G => k_fX67_go l G x1) (fun _ => ?_)
      refine r_goto E 268 (by decide) dX67_perform_228 ?_
      exact r_return E rfl hT dX67_perform_268
  · refine r_aload_n E dX67_perform_195 rfl 1 rfl ?_
    refine r_iload_n E dX67_perform_196 rfl 2 rfl ?_
    refine r_iload_n E dX67_perform_197 rfl 3 rfl ?_
    refine r_iload_n E dX67_perform_198 rfl 4 rfl ?_
    refine r_callV E [(0, x1), (0, x2), (0, x3)] [] rfl zc_69 zr_69 (fun o _ => ⟨_, zw_X67.1 o, rfl⟩) (lw_V q3913 q3915 qs137 q294 q3916) dX67_perform_199 zy_X67_call rfl (by omega) (by decide) (Nat.le_of_ble_eq_true rfl) (by decide) (fun l G => k_fX67_call l G x1 x2 x3) (fun _ => ?_)
    refine r_goto E 268 (by decide) dX67_perform_202 ?_
    exact r_return E rfl hT dX67_perform_268
theorem w_fX67_perform_J162 {K : zK} (E : zE K cX67_perform "RingHouseModel" none 7) (hN : zNl K = 9) (hT : zTr K = none) (x1 : Int) (x2 : Int) (x3 : Int) (x6 : Int) (s0 : Int) : zR K 162 [(0, 69, 0), (1, 0, x1), (2, 0, x2), (3, 0, x3), (6, 0, x6)] [(0, s0)] (fX67_perform_J162 x1 x2 x3 x6 s0) := by
  refine r_istore (ls' := [(7, 0, s0), (0, 69, 0), (1, 0, x1), (2, 0, x2), (3, 0, x3), (6, 0, x6)]) E dX67_perform_162 (by rw [hN]; decide) rfl ?_
  refine r_iload E dX67_perform_164 0 rfl ?_
  refine r_if_ne E 178 (by decide) dX67_perform_166 (fun _ => ?_) (fun _ => ?_)
  · refine r_pick E [1, 2, 3, 4, 5] rfl ?_
    exact w_fX67_perform_J178 E hN hT x1 x2 x3 x6
  · refine r_aload_n E dX67_perform_169 rfl 1 rfl ?_
    refine r_iload_n E dX67_perform_170 rfl 2 rfl ?_
    refine r_callV E [(0, x1)] [] rfl zc_69 zr_69 (fun o _ => ⟨_, zw_X67.1 o, rfl⟩) (lw_V q3866 q3868 qs126 q294 q3869) dX67_perform_171 zy_X67_find_2 rfl (by omega) (by decide) (Nat.le_of_ble_eq_true rfl) (by decide) (fun l G => k_fX67_find_2 l G x1) (fun v20 => ?_)
    refine r_if_ne E 178 (by decide) dX67_perform_174 (fun _ => ?_) (fun _ => ?_)
    · refine r_pick E [1, 2, 3, 4, 5] rfl ?_
      exact w_fX67_perform_J178 E hN hT x1 x2 x3 x6
    · exact r_return E rfl hT dX67_perform_177
theorem w_fX67_perform_J157 {K : zK} (E : zE K cX67_perform "RingHouseModel" none 7) (hN : zNl K = 9) (hT : zTr K = none) (x1 : Int) (x2 : Int) (x3 : Int) (x6 : Int) : zR K 157 [(0, 69, 0), (1, 0, x1), (2, 0, x2), (3, 0, x3), (6, 0, x6)] [] (fX67_perform_J157 x1 x2 x3 x6) := by
  refine r_iconst E dX67_perform_157 (zkI (by decide) (by decide)) ?_
  refine r_goto E 162 (by decide) dX67_perform_158 ?_
  exact w_fX67_perform_J162 E hN hT x1 x2 x3 x6 1
theorem w_fX67_perform {K : zK} (E : zE K cX67_perform "RingHouseModel" none 7) (hN : zNl K = 9) (hT : zTr K = none) (x1 : Int) : zR K 0 [(0, 69, 0), (1, 0, x1)] [] (fX67_perform x1) := by
  refine r_aload_n E dX67_perform_0 rfl 0 rfl ?_
  refine r_gec (y := 0) E zc_69 dX67_perform_1 q3246 zr_69 (zh_6831 (by decide)) (by decide) ?_
  refine r_iload_n E dX67_perform_4 rfl 1 rfl ?_
  refine r_iaload E zc_6831 za_6831 zt_6831 zx_6831 rfl rfl dX67_perform_5 (by decide) (fun v1 => ?_)
  refine r_istore_n (ls' := [(2, 0, v1), (0, 69, 0), (1, 0, x1)]) E dX67_perform_6 rfl (by rw [hN]; decide) rfl ?_
  refine r_aload_n E dX67_perform_7 rfl 1 rfl ?_
  refine r_gec (y := 0) E zc_69 dX67_perform_8 q3247 zr_69 (zh_6832 (by decide)) (by decide) ?_
  refine r_iload_n E dX67_perform_11 rfl 2 rfl ?_
  refine r_iaload E zc_6832 za_6832 zt_6832 zx_6832 rfl rfl dX67_perform_12 (by decide) (fun v2 => ?_)
  refine r_istore_n (ls' := [(3, 0, v2), (2, 0, v1), (0, 69, 0), (1, 0, x1)]) E dX67_perform_13 rfl (by rw [hN]; decide) rfl ?_
  refine r_aload_n E dX67_perform_14 rfl 2 rfl ?_
  refine r_iload_n E dX67_perform_15 rfl 3 rfl ?_
  refine r_iload_n E dX67_perform_16 rfl 1 rfl ?_
  refine r_iload_n E dX67_perform_17 rfl 0 rfl ?_
  refine r_aload_n E dX67_perform_18 rfl 2 rfl ?_
  refine r_gec (y := 0) E zc_69 dX67_perform_19 q3248 zr_69 (zh_6833 (by decide)) (by decide) ?_
  refine r_iload_n E dX67_perform_22 rfl 3 rfl ?_
  refine r_iaload E zc_6833 za_6833 zt_6833 zx_6833 rfl rfl dX67_perform_23 (by decide) (fun v3 => ?_)
  refine r_iconst E dX67_perform_24 (zkI (by decide) (by decide)) ?_
  refine r_callV E [(0, x1), (0, v1), (0, v2), (0, v3), (0, 2)] [] rfl zc_69 zr_69 (fun o _ => ⟨_, zw_X67.1 o, rfl⟩) (lw_V q3839 q3841 qs120 q294 q3842) dX67_perform_25 zy_X67_access rfl (by omega) (by decide) (Nat.le_of_ble_eq_true rfl) (by decide) (fun l G => k_fX67_access l G x1 v1 v2 v3 2) (fun v4 => ?_)
  refine r_if_ne E 32 (by decide) dX67_perform_28 (fun _ => ?_) (fun _ => ?_)
  · refine r_aload_n E dX67_perform_32 rfl 2 rfl ?_
    refine r_iload_n E dX67_perform_33 rfl 3 rfl ?_
    refine r_iload_n E dX67_perform_34 rfl 1 rfl ?_
    refine r_iload_n E dX67_perform_35 rfl 0 rfl ?_
    refine r_callV E [(0, x1), (0, v1), (0, v2)] [] rfl zc_69 zr_69 (fun o _ => ⟨_, zw_X67.1 o, rfl⟩) (lw_V q3855 q3857 qs124 q294 q3858) dX67_perform_36 zy_X67_wordAt rfl (by omega) (by decide) (Nat.le_of_ble_eq_true rfl) (by decide) (fun l G => k_fX67_wordAt l G x1 v1 v2) (fun v5 => ?_)
    refine r_lstore (ls' := [(4, 1, v5), (3, 0, v2), (2, 0, v1), (0, 69, 0), (1, 0, x1)]) E dX67_perform_39 (by rw [hN]; decide) rfl ?_
    refine r_aload_n E dX67_perform_41 rfl 3 rfl ?_
    refine r_lload E dX67_perform_42 0 rfl ?_
    refine r_bipush E dX67_perform_44 (by decide) (zkI (by decide) (by decide)) ?_
    refine r_lshr (P := 1073741824) E (by decide) dX67_perform_46 ?_
    refine r_l2i E dX67_perform_47 ?_
    refine r_put E zc_69 zt_6881 zo_6881 dX67_perform_48 q3296 zr_69 zw_X67 zp_6881 (fun _ => rfl) (fun _ => rfl) (by decide) ?_
    refine r_aload_n E dX67_perform_51 rfl 3 rfl ?_
    refine r_lload E dX67_perform_52 0 rfl ?_
    refine r_bipush E dX67_perform_54 (by decide) (zkI (by decide) (by decide)) ?_
    refine r_lshr (P := 134217728) E (by decide) dX67_perform_56 ?_
    refine r_ldc2 (v := 7) E dX67_perform_57 q3709 (by decide) (zkJ (by decide) (by decide)) ?_
    refine r_lmask (P := 8) E 3 (by decide) (by decide) (by decide) dX67_perform_60 ?_
    refine r_l2i E dX67_perform_61 ?_
    refine r_put E zc_69 zt_6882 zo_6882 dX67_perform_62 q3297 zr_69 zw_X67 zp_6882 (fun _ => rfl) (fun _ => rfl) (by decide) ?_
    refine r_aload_n E dX67_perform_65 rfl 3 rfl ?_
    refine r_lload E dX67_perform_66 0 rfl ?_
    refine r_bipush E dX67_perform_68 (by decide) (zkI (by decide) (by decide)) ?_
    refine r_lshr (P := 16777216) E (by decide) dX67_perform_70 ?_
    refine r_ldc2 (v := 7) E dX67_perform_71 q3709 (by decide) (zkJ (by decide) (by decide)) ?_
    refine r_lmask (P := 8) E 3 (by decide) (by decide) (by decide) dX67_perform_74 ?_
    refine r_l2i E dX67_perform_75 ?_
    refine r_put E zc_69 zt_6883 zo_6883 dX67_perform_76 q3298 zr_69 zw_X67 zp_6883 (fun _ => rfl) (fun _ => rfl) (by decide) ?_
    refine r_lload E dX67_perform_79 0 rfl ?_
    refine r_bipush E dX67_perform_81 (by decide) (zkI (by decide) (by decide)) ?_
    refine r_lshr (P := 2097152) E (by decide) dX67_perform_83 ?_
    refine r_ldc2 (v := 7) E dX67_perform_84 q3709 (by decide) (zkJ (by decide) (by decide)) ?_
    refine r_lmask (P := 8) E 3 (by decide) (by decide) (by decide) dX67_perform_87 ?_
    refine r_l2i E dX67_perform_88 ?_
    refine r_let E (fun v6 ev6 => ?_)
    refine r_istore (ls' := [(6, 0, v6), (4, 1, v5), (3, 0, v2), (2, 0, v1), (0, 69, 0), (1, 0, x1)]) E dX67_perform_89 (by rw [hN]; decide) rfl ?_
    refine r_aload_n E dX67_perform_91 rfl 4 rfl ?_
    refine r_lload E dX67_perform_92 1 rfl ?_
    refine r_bipush E dX67_perform_94 (by decide) (zkI (by decide) (by decide)) ?_
    refine r_lshr (P := 262144) E (by decide) dX67_perform_96 ?_
    refine r_ldc2 (v := 7) E dX67_perform_97 q3709 (by decide) (zkJ (by decide) (by decide)) ?_
    refine r_lmask (P := 8) E 3 (by decide) (by decide) (by decide) dX67_perform_100 ?_
    refine r_l2i E dX67_perform_101 ?_
    refine r_put E zc_69 zt_6884 zo_6884 dX67_perform_102 q3299 zr_69 zw_X67 zp_6884 (fun _ => rfl) (fun _ => rfl) (by decide) ?_
    refine r_aload_n E dX67_perform_105 rfl 4 rfl ?_
    refine r_lload E dX67_perform_106 1 rfl ?_
    refine r_ldc2 (v := 262143) E dX67_perform_108 q3807 (by decide) (zkJ (by decide) (by decide)) ?_
    refine r_lmask (P := 262144) E 18 (by decide) (by decide) (by decide) dX67_perform_111 ?_
    refine r_l2i E dX67_perform_112 ?_
    refine r_put E zc_69 zt_6885 zo_6885 dX67_perform_113 q3300 zr_69 zw_X67 zp_6885 (fun _ => rfl) (fun _ => rfl) (by decide) ?_
    refine r_aload_n E dX67_perform_116 rfl 4 rfl ?_
    refine r_iload E dX67_perform_117 0 rfl ?_
    refine r_callV E [(0, v6)] [] rfl zc_69 zr_69 (fun o _ => ⟨_, zw_X67.1 o, rfl⟩) (lw_V q3859 q3861 qs125 q294 q3862) dX67_perform_119 zy_X67_isLegal rfl (by omega) (by decide) (Nat.le_of_ble_eq_true rfl) (by decide) (fun l G => k_fX67_isLegal l G v6) (fun v7 => ?_)
    refine r_if_ne E 140 (by decide) dX67_perform_122 (fun _ => ?_) (fun _ => ?_)
    · refine r_aload_n E dX67_perform_140 rfl 4 rfl ?_
      refine r_get E zc_69 zt_6881 dX67_perform_141 q3296 zr_69 (zg_6881 _) (by decide) (fun v8 => ?_)
      refine r_iconst E dX67_perform_144 (zkI (by decide) (by decide)) ?_
      refine r_icmp_lt E 157 (by decide) dX67_perform_145 (fun _ => ?_) (fun _ => ?_)
      · refine r_pick E [4, 5, 3, 2, 0] rfl ?_
        exact w_fX67_perform_J157 E hN hT x1 v1 v2 v6
      · refine r_aload_n E dX67_perform_148 rfl 4 rfl ?_
        refine r_get E zc_69 zt_6881 dX67_perform_149 q3296 zr_69 (zg_6881 _) (by decide) (fun v21 => ?_)
        refine r_bipush E dX67_perform_152 (by decide) (zkI (by decide) (by decide)) ?_
        refine r_icmp_le E 161 (by decide) dX67_perform_154 (fun _ => ?_) (fun _ => ?_)
        · refine r_iconst E dX67_perform_161 (zkI (by decide) (by decide)) ?_
          refine r_pick E [4, 5, 3, 2, 0] rfl ?_
          exact w_fX67_perform_J162 E hN hT x1 v1 v2 v6 0
        · refine r_pick E [4, 5, 3, 2, 0] rfl ?_
          exact w_fX67_perform_J157 E hN hT x1 v1 v2 v6
    · refine r_aload_n E dX67_perform_125 rfl 4 rfl ?_
      refine r_bipush E dX67_perform_126 (by decide) (zkI (by decide) (by decide)) ?_
      refine r_iload_n E dX67_perform_128 rfl 3 rfl ?_
      refine r_iload_n E dX67_perform_129 rfl 2 rfl ?_
      refine r_aload_n E dX67_perform_130 rfl 4 rfl ?_
      refine r_gec (y := 0) E zc_69 dX67_perform_131 q3248 zr_69 (zh_6833 (by decide)) (by decide) ?_
      refine r_iload_n E dX67_perform_134 rfl 5 rfl ?_
      refine r_iaload E zc_6833 za_6833 zt_6833 zx_6833 rfl rfl dX67_perform_135 (by decide) (fun v22 => ?_)
      refine r_callV E [(0, 8), (0, v1), (0, v2), (0, v22)] [] rfl zc_69 zr_69 (fun o _ => ⟨_, zw_X67.1 o, rfl⟩) (lw_V q3851 q3853 qs123 q294 q3854) dX67_perform_136 zy_X67_fail rfl (by omega) (by decide) (Nat.le_of_ble_eq_true rfl) (by decide) (fun l G => k_fX67_fail l G 8 v1 v2 v22) (fun _ => ?_)
      exact r_return E rfl hT dX67_perform_139
  · exact r_return E rfl hT dX67_perform_31
theorem k_fX67_perform (l : Launch) (G : zG) (x1 : Int) : zCt l G yX67_perform cX67_perform 9 none 7 [(69, 0), (0, x1)] none (fX67_perform x1) := zCt.of (by decide) (Nat.le_of_ble_eq_true rfl) (fun K E _ _ hN hT => w_fX67_perform E hN hT x1)
theorem dX67_suffer_0 : decode cX67_suffer 0 = .ok (.aload_n 0, 1) := by decide +kernel
theorem dX67_suffer_1 : decode cX67_suffer 1 = .ok (.getfield 510, 3) := by decide +kernel
theorem dX67_suffer_4 : decode cX67_suffer 4 = .ok (.i2l, 1) := by decide +kernel
theorem dX67_suffer_5 : decode cX67_suffer 5 = .ok (.ldc2_w 508, 3) := by decide +kernel
theorem dX67_suffer_8 : decode cX67_suffer 8 = .ok (.ldc2_w 476, 3) := by decide +kernel
theorem dX67_suffer_11 : decode cX67_suffer 11 = .ok (.invokestatic 363, 3) := by decide +kernel
theorem dX67_suffer_14 : decode cX67_suffer 14 = .ok (.ifCond .eq 60, 3) := by decide +kernel
theorem dX67_suffer_17 : decode cX67_suffer 17 = .ok (.aload_n 0, 1) := by decide +kernel
theorem dX67_suffer_18 : decode cX67_suffer 18 = .ok (.getfield 513, 3) := by decide +kernel
theorem dX67_suffer_21 : decode cX67_suffer 21 = .ok (.bipush 7, 2) := by decide +kernel
theorem dX67_suffer_23 : decode cX67_suffer 23 = .ok (.if_icmp .le 51, 3) := by decide +kernel
theorem dX67_suffer_26 : decode cX67_suffer 26 = .ok (.aload_n 0, 1) := by decide +kernel
theorem dX67_suffer_27 : decode cX67_suffer 27 = .ok (.getfield 125, 3) := by decide +kernel
theorem dX67_suffer_30 : decode cX67_suffer 30 = .ok (.bipush 32, 2) := by decide +kernel
theorem dX67_suffer_32 : decode cX67_suffer 32 = .ok (.iload_n 1, 1) := by decide +kernel
theorem dX67_suffer_33 : decode cX67_suffer 33 = .ok (.imul, 1) := by decide +kernel
theorem dX67_suffer_34 : decode cX67_suffer 34 = .ok (.aload_n 0, 1) := by decide +kernel
theorem dX67_suffer_35 : decode cX67_suffer 35 = .ok (.getfield 513, 3) := by decide +kernel
theorem dX67_suffer_38 : decode cX67_suffer 38 = .ok (.iadd, 1) := by decide +kernel
theorem dX67_suffer_39 : decode cX67_suffer 39 = .ok (.iaload, 1) := by decide +kernel
theorem dX67_suffer_40 : decode cX67_suffer 40 = .ok (.istore_n 2, 1) := by decide +kernel
theorem dX67_suffer_41 : decode cX67_suffer 41 = .ok (.aload_n 0, 1) := by decide +kernel
theorem dX67_suffer_42 : decode cX67_suffer 42 = .ok (.iload_n 1, 1) := by decide +kernel
theorem dX67_suffer_43 : decode cX67_suffer 43 = .ok (.iconst 1, 1) := by decide +kernel
theorem dX67_suffer_44 : decode cX67_suffer 44 = .ok (.iload_n 2, 1) := by decide +kernel
theorem dX67_suffer_45 : decode cX67_suffer 45 = .ok (.aload_n 0, 1) := by decide +kernel
theorem dX67_suffer_46 : decode cX67_suffer 46 = .ok (.getfield 510, 3) := by decide +kernel
theorem dX67_suffer_49 : decode cX67_suffer 49 = .ok (.invokevirtual 649, 3) := by decide +kernel
theorem dX67_suffer_52 : decode cX67_suffer 52 = .ok (.aload_n 0, 1) := by decide +kernel
theorem dX67_suffer_53 : decode cX67_suffer 53 = .ok (.getfield 38, 3) := by decide +kernel
theorem dX67_suffer_56 : decode cX67_suffer 56 = .ok (.iload_n 2, 1) := by decide +kernel
theorem dX67_suffer_57 : decode cX67_suffer 57 = .ok (.dup2, 1) := by decide +kernel
theorem dX67_suffer_58 : decode cX67_suffer 58 = .ok (.iaload, 1) := by decide +kernel
theorem dX67_suffer_59 : decode cX67_suffer 59 = .ok (.aload_n 0, 1) := by decide +kernel
theorem dX67_suffer_60 : decode cX67_suffer 60 = .ok (.getfield 510, 3) := by decide +kernel
theorem dX67_suffer_63 : decode cX67_suffer 63 = .ok (.iconst 5, 1) := by decide +kernel
theorem dX67_suffer_64 : decode cX67_suffer 64 = .ok (.if_icmp .gt 7, 3) := by decide +kernel
theorem dX67_suffer_67 : decode cX67_suffer 67 = .ok (.iconst 1, 1) := by decide +kernel
theorem dX67_suffer_68 : decode cX67_suffer 68 = .ok (.goto 4, 3) := by decide +kernel
theorem dX67_suffer_71 : decode cX67_suffer 71 = .ok (.iconst 0, 1) := by decide +kernel
theorem dX67_suffer_72 : decode cX67_suffer 72 = .ok (.iadd, 1) := by decide +kernel
theorem dX67_suffer_73 : decode cX67_suffer 73 = .ok (.iastore, 1) := by decide +kernel
theorem dX67_suffer_74 : decode cX67_suffer 74 = .ok (.aload_n 0, 1) := by decide +kernel
theorem dX67_suffer_75 : decode cX67_suffer 75 = .ok (.iload_n 1, 1) := by decide +kernel
theorem dX67_suffer_76 : decode cX67_suffer 76 = .ok (.iconst 2, 1) := by decide +kernel
theorem dX67_suffer_77 : decode cX67_suffer 77 = .ok (.aload_n 0, 1) := by decide +kernel
theorem dX67_suffer_78 : decode cX67_suffer 78 = .ok (.getfield 510, 3) := by decide +kernel
theorem dX67_suffer_81 : decode cX67_suffer 81 = .ok (.i2l, 1) := by decide +kernel
theorem dX67_suffer_82 : decode cX67_suffer 82 = .ok (.aload_n 0, 1) := by decide +kernel
theorem dX67_suffer_83 : decode cX67_suffer 83 = .ok (.getfield 513, 3) := by decide +kernel
theorem dX67_suffer_86 : decode cX67_suffer 86 = .ok (.i2l, 1) := by decide +kernel
theorem dX67_suffer_87 : decode cX67_suffer 87 = .ok (.aload_n 0, 1) := by decide +kernel
theorem dX67_suffer_88 : decode cX67_suffer 88 = .ok (.getfield 516, 3) := by decide +kernel
theorem dX67_suffer_91 : decode cX67_suffer 91 = .ok (.i2l, 1) := by decide +kernel
theorem dX67_suffer_92 : decode cX67_suffer 92 = .ok (.invokevirtual 616, 3) := by decide +kernel
theorem dX67_suffer_95 : decode cX67_suffer 95 = .ok (.aload_n 0, 1) := by decide +kernel
theorem dX67_suffer_96 : decode cX67_suffer 96 = .ok (.getfield 137, 3) := by decide +kernel
theorem dX67_suffer_99 : decode cX67_suffer 99 = .ok (.iload_n 1, 1) := by decide +kernel
theorem dX67_suffer_100 : decode cX67_suffer 100 = .ok (.baload, 1) := by decide +kernel
theorem dX67_suffer_101 : decode cX67_suffer 101 = .ok (.ifCond .eq 28, 3) := by decide +kernel
theorem dX67_suffer_104 : decode cX67_suffer 104 = .ok (.aload_n 0, 1) := by decide +kernel
theorem dX67_suffer_105 : decode cX67_suffer 105 = .ok (.getfield 146, 3) := by decide +kernel
theorem dX67_suffer_108 : decode cX67_suffer 108 = .ok (.iload_n 1, 1) := by decide +kernel
theorem dX67_suffer_109 : decode cX67_suffer 109 = .ok (.iaload, 1) := by decide +kernel
theorem dX67_suffer_110 : decode cX67_suffer 110 = .ok (.aload_n 0, 1) := by decide +kernel
theorem dX67_suffer_111 : decode cX67_suffer 111 = .ok (.getfield 110, 3) := by decide +kernel
theorem dX67_suffer_114 : decode cX67_suffer 114 = .ok (.iload_n 1, 1) := by decide +kernel
theorem dX67_suffer_115 : decode cX67_suffer 115 = .ok (.iaload, 1) := by decide +kernel
theorem dX67_suffer_116 : decode cX67_suffer 116 = .ok (.if_icmp .gt 13, 3) := by decide +kernel
theorem dX67_suffer_119 : decode cX67_suffer 119 = .ok (.aload_n 0, 1) := by decide +kernel
theorem dX67_suffer_120 : decode cX67_suffer 120 = .ok (.getfield 155, 3) := by decide +kernel
theorem dX67_suffer_123 : decode cX67_suffer 123 = .ok (.iload_n 1, 1) := by decide +kernel
theorem dX67_suffer_124 : decode cX67_suffer 124 = .ok (.iaload, 1) := by decide +kernel
theorem dX67_suffer_125 : decode cX67_suffer 125 = .ok (.iconst 4, 1) := by decide +kernel
theorem dX67_suffer_126 : decode cX67_suffer 126 = .ok (.if_icmp .ne 21, 3) := by decide +kernel
theorem dX67_suffer_129 : decode cX67_suffer 129 = .ok (.aload_n 0, 1) := by decide +kernel
theorem dX67_suffer_130 : decode cX67_suffer 130 = .ok (.getfield 74, 3) := by decide +kernel
theorem dX67_suffer_133 : decode cX67_suffer 133 = .ok (.iload_n 1, 1) := by decide +kernel
theorem dX67_suffer_134 : decode cX67_suffer 134 = .ok (.iconst 3, 1) := by decide +kernel
theorem dX67_suffer_135 : decode cX67_suffer 135 = .ok (.iastore, 1) := by decide +kernel
theorem dX67_suffer_136 : decode cX67_suffer 136 = .ok (.aload_n 0, 1) := by decide +kernel
theorem dX67_suffer_137 : decode cX67_suffer 137 = .ok (.iload_n 1, 1) := by decide +kernel
theorem dX67_suffer_138 : decode cX67_suffer 138 = .ok (.bipush 9, 2) := by decide +kernel
theorem dX67_suffer_140 : decode cX67_suffer 140 = .ok (.lconst 0, 1) := by decide +kernel
theorem dX67_suffer_141 : decode cX67_suffer 141 = .ok (.lconst 0, 1) := by decide +kernel
theorem dX67_suffer_142 : decode cX67_suffer 142 = .ok (.lconst 0, 1) := by decide +kernel
theorem dX67_suffer_143 : decode cX67_suffer 143 = .ok (.invokevirtual 616, 3) := by decide +kernel
theorem dX67_suffer_146 : decode cX67_suffer 146 = .ok (.return_, 1) := by decide +kernel
theorem dX67_suffer_147 : decode cX67_suffer 147 = .ok (.iconst 4, 1) := by decide +kernel
theorem dX67_suffer_148 : decode cX67_suffer 148 = .ok (.iload_n 1, 1) := by decide +kernel
theorem dX67_suffer_149 : decode cX67_suffer 149 = .ok (.imul, 1) := by decide +kernel
theorem dX67_suffer_150 : decode cX67_suffer 150 = .ok (.aload_n 0, 1) := by decide +kernel
theorem dX67_suffer_151 : decode cX67_suffer 151 = .ok (.getfield 155, 3) := by decide +kernel
theorem dX67_suffer_154 : decode cX67_suffer 154 = .ok (.iload_n 1, 1) := by decide +kernel
theorem dX67_suffer_155 : decode cX67_suffer 155 = .ok (.iaload, 1) := by decide +kernel
theorem dX67_suffer_156 : decode cX67_suffer 156 = .ok (.iadd, 1) := by decide +kernel
theorem dX67_suffer_157 : decode cX67_suffer 157 = .ok (.istore_n 2, 1) := by decide +kernel
theorem dX67_suffer_158 : decode cX67_suffer 158 = .ok (.aload_n 0, 1) := by decide +kernel
theorem dX67_suffer_159 : decode cX67_suffer 159 = .ok (.getfield 155, 3) := by decide +kernel
theorem dX67_suffer_162 : decode cX67_suffer 162 = .ok (.iload_n 1, 1) := by decide +kernel
theorem dX67_suffer_163 : decode cX67_suffer 163 = .ok (.dup2, 1) := by decide +kernel
theorem dX67_suffer_164 : decode cX67_suffer 164 = .ok (.iaload, 1) := by decide +kernel
theorem dX67_suffer_165 : decode cX67_suffer 165 = .ok (.iconst 1, 1) := by decide +kernel
theorem dX67_suffer_166 : decode cX67_suffer 166 = .ok (.iadd, 1) := by decide +kernel
theorem dX67_suffer_167 : decode cX67_suffer 167 = .ok (.iastore, 1) := by decide +kernel
theorem dX67_suffer_168 : decode cX67_suffer 168 = .ok (.aload_n 0, 1) := by decide +kernel
theorem dX67_suffer_169 : decode cX67_suffer 169 = .ok (.getfield 158, 3) := by decide +kernel
theorem dX67_suffer_172 : decode cX67_suffer 172 = .ok (.iload_n 2, 1) := by decide +kernel
theorem dX67_suffer_173 : decode cX67_suffer 173 = .ok (.aload_n 0, 1) := by decide +kernel
theorem dX67_suffer_174 : decode cX67_suffer 174 = .ok (.getfield 86, 3) := by decide +kernel
theorem dX67_suffer_177 : decode cX67_suffer 177 = .ok (.iload_n 1, 1) := by decide +kernel
theorem dX67_suffer_178 : decode cX67_suffer 178 = .ok (.laload, 1) := by decide +kernel
theorem dX67_suffer_179 : decode cX67_suffer 179 = .ok (.lastore, 1) := by decide +kernel
theorem dX67_suffer_180 : decode cX67_suffer 180 = .ok (.aload_n 0, 1) := by decide +kernel
theorem dX67_suffer_181 : decode cX67_suffer 181 = .ok (.getfield 161, 3) := by decide +kernel
theorem dX67_suffer_184 : decode cX67_suffer 184 = .ok (.iload_n 2, 1) := by decide +kernel
theorem dX67_suffer_185 : decode cX67_suffer 185 = .ok (.aload_n 0, 1) := by decide +kernel
theorem dX67_suffer_186 : decode cX67_suffer 186 = .ok (.getfield 89, 3) := by decide +kernel
theorem dX67_suffer_189 : decode cX67_suffer 189 = .ok (.iload_n 1, 1) := by decide +kernel
theorem dX67_suffer_190 : decode cX67_suffer 190 = .ok (.laload, 1) := by decide +kernel
theorem dX67_suffer_191 : decode cX67_suffer 191 = .ok (.lastore, 1) := by decide +kernel
theorem dX67_suffer_192 : decode cX67_suffer 192 = .ok (.iconst 0, 1) := by decide +kernel
theorem dX67_suffer_193 : decode cX67_suffer 193 = .ok (.istore_n 3, 1) := by decide +kernel
theorem dX67_suffer_194 : decode cX67_suffer 194 = .ok (.iload_n 3, 1) := by decide +kernel
theorem dX67_suffer_195 : decode cX67_suffer 195 = .ok (.iconst 4, 1) := by decide +kernel
theorem dX67_suffer_196 : decode cX67_suffer 196 = .ok (.if_icmp .ge 29, 3) := by decide +kernel
theorem dX67_suffer_199 : decode cX67_suffer 199 = .ok (.aload_n 0, 1) := by decide +kernel
theorem dX67_suffer_200 : decode cX67_suffer 200 = .ok (.getfield 164, 3) := by decide +kernel
theorem dX67_suffer_203 : decode cX67_suffer 203 = .ok (.iconst 4, 1) := by decide +kernel
theorem dX67_suffer_204 : decode cX67_suffer 204 = .ok (.iload_n 2, 1) := by decide +kernel
theorem dX67_suffer_205 : decode cX67_suffer 205 = .ok (.imul, 1) := by decide +kernel
theorem dX67_suffer_206 : decode cX67_suffer 206 = .ok (.iload_n 3, 1) := by decide +kernel
theorem dX67_suffer_207 : decode cX67_suffer 207 = .ok (.iadd, 1) := by decide +kernel
theorem dX67_suffer_208 : decode cX67_suffer 208 = .ok (.aload_n 0, 1) := by decide +kernel
theorem dX67_suffer_209 : decode cX67_suffer 209 = .ok (.getfield 92, 3) := by decide +kernel
theorem dX67_suffer_212 : decode cX67_suffer 212 = .ok (.iconst 4, 1) := by decide +kernel
theorem dX67_suffer_213 : decode cX67_suffer 213 = .ok (.iload_n 1, 1) := by decide +kernel
theorem dX67_suffer_214 : decode cX67_suffer 214 = .ok (.imul, 1) := by decide +kernel
theorem dX67_suffer_215 : decode cX67_suffer 215 = .ok (.iload_n 3, 1) := by decide +kernel
theorem dX67_suffer_216 : decode cX67_suffer 216 = .ok (.iadd, 1) := by decide +kernel
theorem dX67_suffer_217 : decode cX67_suffer 217 = .ok (.iaload, 1) := by decide +kernel
theorem dX67_suffer_218 : decode cX67_suffer 218 = .ok (.iastore, 1) := by decide +kernel
theorem dX67_suffer_219 : decode cX67_suffer 219 = .ok (.iinc 3 1, 3) := by decide +kernel
theorem dX67_suffer_222 : decode cX67_suffer 222 = .ok (.goto (-28), 3) := by decide +kernel
theorem dX67_suffer_225 : decode cX67_suffer 225 = .ok (.iconst 0, 1) := by decide +kernel
theorem dX67_suffer_226 : decode cX67_suffer 226 = .ok (.istore_n 3, 1) := by decide +kernel
theorem dX67_suffer_227 : decode cX67_suffer 227 = .ok (.iload_n 3, 1) := by decide +kernel
theorem dX67_suffer_228 : decode cX67_suffer 228 = .ok (.bipush 8, 2) := by decide +kernel
theorem dX67_suffer_230 : decode cX67_suffer 230 = .ok (.if_icmp .ge 75, 3) := by decide +kernel
theorem dX67_suffer_233 : decode cX67_suffer 233 = .ok (.aload_n 0, 1) := by decide +kernel
theorem dX67_suffer_234 : decode cX67_suffer 234 = .ok (.getfield 167, 3) := by decide +kernel
theorem dX67_suffer_237 : decode cX67_suffer 237 = .ok (.bipush 8, 2) := by decide +kernel
theorem dX67_suffer_239 : decode cX67_suffer 239 = .ok (.iload_n 2, 1) := by decide +kernel
theorem dX67_suffer_240 : decode cX67_suffer 240 = .ok (.imul, 1) := by decide +kernel
theorem dX67_suffer_241 : decode cX67_suffer 241 = .ok (.iload_n 3, 1) := by decide +kernel
theorem dX67_suffer_242 : decode cX67_suffer 242 = .ok (.iadd, 1) := by decide +kernel
theorem dX67_suffer_243 : decode cX67_suffer 243 = .ok (.aload_n 0, 1) := by decide +kernel
theorem dX67_suffer_244 : decode cX67_suffer 244 = .ok (.getfield 95, 3) := by decide +kernel
theorem dX67_suffer_247 : decode cX67_suffer 247 = .ok (.bipush 8, 2) := by decide +kernel
theorem dX67_suffer_249 : decode cX67_suffer 249 = .ok (.iload_n 1, 1) := by decide +kernel
theorem dX67_suffer_250 : decode cX67_suffer 250 = .ok (.imul, 1) := by decide +kernel
theorem dX67_suffer_251 : decode cX67_suffer 251 = .ok (.iload_n 3, 1) := by decide +kernel
theorem dX67_suffer_252 : decode cX67_suffer 252 = .ok (.iadd, 1) := by decide +kernel
theorem dX67_suffer_253 : decode cX67_suffer 253 = .ok (.iaload, 1) := by decide +kernel
theorem dX67_suffer_254 : decode cX67_suffer 254 = .ok (.iastore, 1) := by decide +kernel
theorem dX67_suffer_255 : decode cX67_suffer 255 = .ok (.aload_n 0, 1) := by decide +kernel
theorem dX67_suffer_256 : decode cX67_suffer 256 = .ok (.getfield 170, 3) := by decide +kernel
theorem dX67_suffer_259 : decode cX67_suffer 259 = .ok (.bipush 8, 2) := by decide +kernel
theorem dX67_suffer_261 : decode cX67_suffer 261 = .ok (.iload_n 2, 1) := by decide +kernel
theorem dX67_suffer_262 : decode cX67_suffer 262 = .ok (.imul, 1) := by decide +kernel
theorem dX67_suffer_263 : decode cX67_suffer 263 = .ok (.iload_n 3, 1) := by decide +kernel
theorem dX67_suffer_264 : decode cX67_suffer 264 = .ok (.iadd, 1) := by decide +kernel
theorem dX67_suffer_265 : decode cX67_suffer 265 = .ok (.aload_n 0, 1) := by decide +kernel
theorem dX67_suffer_266 : decode cX67_suffer 266 = .ok (.getfield 98, 3) := by decide +kernel
theorem dX67_suffer_269 : decode cX67_suffer 269 = .ok (.bipush 8, 2) := by decide +kernel
theorem dX67_suffer_271 : decode cX67_suffer 271 = .ok (.iload_n 1, 1) := by decide +kernel
theorem dX67_suffer_272 : decode cX67_suffer 272 = .ok (.imul, 1) := by decide +kernel
theorem dX67_suffer_273 : decode cX67_suffer 273 = .ok (.iload_n 3, 1) := by decide +kernel
theorem dX67_suffer_274 : decode cX67_suffer 274 = .ok (.iadd, 1) := by decide +kernel
theorem dX67_suffer_275 : decode cX67_suffer 275 = .ok (.iaload, 1) := by decide +kernel
theorem dX67_suffer_276 : decode cX67_suffer 276 = .ok (.iastore, 1) := by decide +kernel
theorem dX67_suffer_277 : decode cX67_suffer 277 = .ok (.aload_n 0, 1) := by decide +kernel
theorem dX67_suffer_278 : decode cX67_suffer 278 = .ok (.getfield 173, 3) := by decide +kernel
theorem dX67_suffer_281 : decode cX67_suffer 281 = .ok (.bipush 8, 2) := by decide +kernel
theorem dX67_suffer_283 : decode cX67_suffer 283 = .ok (.iload_n 2, 1) := by decide +kernel
theorem dX67_suffer_284 : decode cX67_suffer 284 = .ok (.imul, 1) := by decide +kernel
theorem dX67_suffer_285 : decode cX67_suffer 285 = .ok (.iload_n 3, 1) := by decide +kernel
theorem dX67_suffer_286 : decode cX67_suffer 286 = .ok (.iadd, 1) := by decide +kernel
theorem dX67_suffer_287 : decode cX67_suffer 287 = .ok (.aload_n 0, 1) := by decide +kernel
theorem dX67_suffer_288 : decode cX67_suffer 288 = .ok (.getfield 101, 3) := by decide +kernel
theorem dX67_suffer_291 : decode cX67_suffer 291 = .ok (.bipush 8, 2) := by decide +kernel
theorem dX67_suffer_293 : decode cX67_suffer 293 = .ok (.iload_n 1, 1) := by decide +kernel
theorem dX67_suffer_294 : decode cX67_suffer 294 = .ok (.imul, 1) := by decide +kernel
theorem dX67_suffer_295 : decode cX67_suffer 295 = .ok (.iload_n 3, 1) := by decide +kernel
theorem dX67_suffer_296 : decode cX67_suffer 296 = .ok (.iadd, 1) := by decide +kernel
theorem dX67_suffer_297 : decode cX67_suffer 297 = .ok (.iaload, 1) := by decide +kernel
theorem dX67_suffer_298 : decode cX67_suffer 298 = .ok (.iastore, 1) := by decide +kernel
theorem dX67_suffer_299 : decode cX67_suffer 299 = .ok (.iinc 3 1, 3) := by decide +kernel
theorem dX67_suffer_302 : decode cX67_suffer 302 = .ok (.goto (-75), 3) := by decide +kernel
theorem dX67_suffer_305 : decode cX67_suffer 305 = .ok (.aload_n 0, 1) := by decide +kernel
theorem dX67_suffer_306 : decode cX67_suffer 306 = .ok (.getfield 176, 3) := by decide +kernel
theorem dX67_suffer_309 : decode cX67_suffer 309 = .ok (.iload_n 2, 1) := by decide +kernel
theorem dX67_suffer_310 : decode cX67_suffer 310 = .ok (.aload_n 0, 1) := by decide +kernel
theorem dX67_suffer_311 : decode cX67_suffer 311 = .ok (.getfield 104, 3) := by decide +kernel
theorem dX67_suffer_314 : decode cX67_suffer 314 = .ok (.iload_n 1, 1) := by decide +kernel
theorem dX67_suffer_315 : decode cX67_suffer 315 = .ok (.iaload, 1) := by decide +kernel
theorem dX67_suffer_316 : decode cX67_suffer 316 = .ok (.iastore, 1) := by decide +kernel
theorem dX67_suffer_317 : decode cX67_suffer 317 = .ok (.aload_n 0, 1) := by decide +kernel
theorem dX67_suffer_318 : decode cX67_suffer 318 = .ok (.getfield 179, 3) := by decide +kernel
theorem dX67_suffer_321 : decode cX67_suffer 321 = .ok (.iload_n 2, 1) := by decide +kernel
theorem dX67_suffer_322 : decode cX67_suffer 322 = .ok (.aload_n 0, 1) := by decide +kernel
theorem dX67_suffer_323 : decode cX67_suffer 323 = .ok (.getfield 107, 3) := by decide +kernel
theorem dX67_suffer_326 : decode cX67_suffer 326 = .ok (.iload_n 1, 1) := by decide +kernel
theorem dX67_suffer_327 : decode cX67_suffer 327 = .ok (.iaload, 1) := by decide +kernel
theorem dX67_suffer_328 : decode cX67_suffer 328 = .ok (.iastore, 1) := by decide +kernel
theorem dX67_suffer_329 : decode cX67_suffer 329 = .ok (.aload_n 0, 1) := by decide +kernel
theorem dX67_suffer_330 : decode cX67_suffer 330 = .ok (.getfield 182, 3) := by decide +kernel
theorem dX67_suffer_333 : decode cX67_suffer 333 = .ok (.iload_n 2, 1) := by decide +kernel
theorem dX67_suffer_334 : decode cX67_suffer 334 = .ok (.aload_n 0, 1) := by decide +kernel
theorem dX67_suffer_335 : decode cX67_suffer 335 = .ok (.getfield 110, 3) := by decide +kernel
theorem dX67_suffer_338 : decode cX67_suffer 338 = .ok (.iload_n 1, 1) := by decide +kernel
theorem dX67_suffer_339 : decode cX67_suffer 339 = .ok (.iaload, 1) := by decide +kernel
theorem dX67_suffer_340 : decode cX67_suffer 340 = .ok (.iastore, 1) := by decide +kernel
theorem dX67_suffer_341 : decode cX67_suffer 341 = .ok (.aload_n 0, 1) := by decide +kernel
theorem dX67_suffer_342 : decode cX67_suffer 342 = .ok (.getfield 185, 3) := by decide +kernel
theorem dX67_suffer_345 : decode cX67_suffer 345 = .ok (.iload_n 2, 1) := by decide +kernel
theorem dX67_suffer_346 : decode cX67_suffer 346 = .ok (.aload_n 0, 1) := by decide +kernel
theorem dX67_suffer_347 : decode cX67_suffer 347 = .ok (.getfield 113, 3) := by decide +kernel
theorem dX67_suffer_350 : decode cX67_suffer 350 = .ok (.iload_n 1, 1) := by decide +kernel
theorem dX67_suffer_351 : decode cX67_suffer 351 = .ok (.baload, 1) := by decide +kernel
theorem dX67_suffer_352 : decode cX67_suffer 352 = .ok (.bastore, 1) := by decide +kernel
theorem dX67_suffer_353 : decode cX67_suffer 353 = .ok (.aload_n 0, 1) := by decide +kernel
theorem dX67_suffer_354 : decode cX67_suffer 354 = .ok (.getfield 188, 3) := by decide +kernel
theorem dX67_suffer_357 : decode cX67_suffer 357 = .ok (.iload_n 2, 1) := by decide +kernel
theorem dX67_suffer_358 : decode cX67_suffer 358 = .ok (.aload_n 0, 1) := by decide +kernel
theorem dX67_suffer_359 : decode cX67_suffer 359 = .ok (.getfield 116, 3) := by decide +kernel
theorem dX67_suffer_362 : decode cX67_suffer 362 = .ok (.iload_n 1, 1) := by decide +kernel
theorem dX67_suffer_363 : decode cX67_suffer 363 = .ok (.baload, 1) := by decide +kernel
theorem dX67_suffer_364 : decode cX67_suffer 364 = .ok (.bastore, 1) := by decide +kernel
theorem dX67_suffer_365 : decode cX67_suffer 365 = .ok (.aload_n 0, 1) := by decide +kernel
theorem dX67_suffer_366 : decode cX67_suffer 366 = .ok (.getfield 86, 3) := by decide +kernel
theorem dX67_suffer_369 : decode cX67_suffer 369 = .ok (.iload_n 1, 1) := by decide +kernel
theorem dX67_suffer_370 : decode cX67_suffer 370 = .ok (.aload_n 0, 1) := by decide +kernel
theorem dX67_suffer_371 : decode cX67_suffer 371 = .ok (.getfield 510, 3) := by decide +kernel
theorem dX67_suffer_374 : decode cX67_suffer 374 = .ok (.i2l, 1) := by decide +kernel
theorem dX67_suffer_375 : decode cX67_suffer 375 = .ok (.lastore, 1) := by decide +kernel
theorem dX67_suffer_376 : decode cX67_suffer 376 = .ok (.aload_n 0, 1) := by decide +kernel
theorem dX67_suffer_377 : decode cX67_suffer 377 = .ok (.getfield 89, 3) := by decide +kernel
theorem dX67_suffer_380 : decode cX67_suffer 380 = .ok (.iload_n 1, 1) := by decide +kernel
theorem dX67_suffer_381 : decode cX67_suffer 381 = .ok (.aload_n 0, 1) := by decide +kernel
theorem dX67_suffer_382 : decode cX67_suffer 382 = .ok (.getfield 513, 3) := by decide +kernel
theorem dX67_suffer_385 : decode cX67_suffer 385 = .ok (.aload_n 0, 1) := by decide +kernel
theorem dX67_suffer_386 : decode cX67_suffer 386 = .ok (.getfield 516, 3) := by decide +kernel
theorem dX67_suffer_389 : decode cX67_suffer 389 = .ok (.aload_n 0, 1) := by decide +kernel
theorem dX67_suffer_390 : decode cX67_suffer 390 = .ok (.getfield 519, 3) := by decide +kernel
theorem dX67_suffer_393 : decode cX67_suffer 393 = .ok (.invokestatic 606, 3) := by decide +kernel
theorem dX67_suffer_396 : decode cX67_suffer 396 = .ok (.lastore, 1) := by decide +kernel
theorem dX67_suffer_397 : decode cX67_suffer 397 = .ok (.aload_n 0, 1) := by decide +kernel
theorem dX67_suffer_398 : decode cX67_suffer 398 = .ok (.getfield 104, 3) := by decide +kernel
theorem dX67_suffer_401 : decode cX67_suffer 401 = .ok (.iload_n 1, 1) := by decide +kernel
theorem dX67_suffer_402 : decode cX67_suffer 402 = .ok (.aload_n 0, 1) := by decide +kernel
theorem dX67_suffer_403 : decode cX67_suffer 403 = .ok (.getfield 140, 3) := by decide +kernel
theorem dX67_suffer_406 : decode cX67_suffer 406 = .ok (.iload_n 1, 1) := by decide +kernel
theorem dX67_suffer_407 : decode cX67_suffer 407 = .ok (.iaload, 1) := by decide +kernel
theorem dX67_suffer_408 : decode cX67_suffer 408 = .ok (.iastore, 1) := by decide +kernel
theorem dX67_suffer_409 : decode cX67_suffer 409 = .ok (.aload_n 0, 1) := by decide +kernel
theorem dX67_suffer_410 : decode cX67_suffer 410 = .ok (.getfield 107, 3) := by decide +kernel
theorem dX67_suffer_413 : decode cX67_suffer 413 = .ok (.iload_n 1, 1) := by decide +kernel
theorem dX67_suffer_414 : decode cX67_suffer 414 = .ok (.aload_n 0, 1) := by decide +kernel
theorem dX67_suffer_415 : decode cX67_suffer 415 = .ok (.getfield 143, 3) := by decide +kernel
theorem dX67_suffer_418 : decode cX67_suffer 418 = .ok (.iload_n 1, 1) := by decide +kernel
theorem dX67_suffer_419 : decode cX67_suffer 419 = .ok (.iaload, 1) := by decide +kernel
theorem dX67_suffer_420 : decode cX67_suffer 420 = .ok (.iastore, 1) := by decide +kernel
theorem dX67_suffer_421 : decode cX67_suffer 421 = .ok (.aload_n 0, 1) := by decide +kernel
theorem dX67_suffer_422 : decode cX67_suffer 422 = .ok (.getfield 110, 3) := by decide +kernel
theorem dX67_suffer_425 : decode cX67_suffer 425 = .ok (.iload_n 1, 1) := by decide +kernel
theorem dX67_suffer_426 : decode cX67_suffer 426 = .ok (.aload_n 0, 1) := by decide +kernel
theorem dX67_suffer_427 : decode cX67_suffer 427 = .ok (.getfield 146, 3) := by decide +kernel
theorem dX67_suffer_430 : decode cX67_suffer 430 = .ok (.iload_n 1, 1) := by decide +kernel
theorem dX67_suffer_431 : decode cX67_suffer 431 = .ok (.iaload, 1) := by decide +kernel
theorem dX67_suffer_432 : decode cX67_suffer 432 = .ok (.iastore, 1) := by decide +kernel
theorem dX67_suffer_433 : decode cX67_suffer 433 = .ok (.return_, 1) := by decide +kernel
theorem zy_X67_suffer : yX67_suffer.cls ≠ "java/lang/invoke/MethodHandle" ∧ yX67_suffer.cls ≠ "java/lang/invoke/VarHandle" ∧ (parseMethodDescriptor yX67_suffer.desc).map (fun d => d.parameters.length) = some 1 := by decide +kernel
theorem w_fX67_suffer_J129 {K : zK} (E : zE K cX67_suffer "RingHouseModel" none 1) (hN : zNl K = 4) (hT : zTr K = none) (x1 : Int) : zR K 129 [(0, 69, 0), (1, 0, x1)] [] (fX67_suffer_J129 x1) := by
  refine r_aload_n E dX67_suffer_129 rfl 0 rfl ?_
  refine r_gec (y := 0) E zc_69 dX67_suffer_130 q3236 zr_69 (zh_6821 (by decide)) (by decide) ?_
  refine r_iload_n E dX67_suffer_133 rfl 1 rfl ?_
  refine r_iconst E dX67_suffer_134 (zkI (by decide) (by decide)) ?_
  refine r_iastore E zc_6821 za_6821 zt_6821 zo_6821 zx_6821 rfl rfl dX67_suffer_135 (by decide) ?_
  refine r_aload_n E dX67_suffer_136 rfl 0 rfl ?_
  refine r_iload_n E dX67_suffer_137 rfl 1 rfl ?_
  refine r_bipush E dX67_suffer_138 (by decide) (zkI (by decide) (by decide)) ?_
  refine r_lconst (v := 0) E dX67_suffer_140 (by decide) (zkJ (by decide) (by decide)) ?_
  refine r_lconst (v := 0) E dX67_suffer_141 (by decide) (zkJ (by decide) (by decide)) ?_
  refine r_lconst (v := 0) E dX67_suffer_142 (by decide) (zkJ (by decide) (by decide)) ?_
  refine r_callV E [(0, x1), (0, 9), (1, 0), (1, 0), (1, 0)] [] rfl zc_69 zr_69 (fun o _ => ⟨_, zw_X67.1 o, rfl⟩) (lw_V q3830 q3832 qs118 q294 q3833) dX67_suffer_143 zy_X67_tell rfl (by omega) (by decide) (Nat.le_of_ble_eq_true rfl) (by decide) (fun l G => k_fX67_tell l G x1 9 0 0 0) (fun _ => ?_)
  exact r_return E rfl hT dX67_suffer_146
theorem w_fX67_suffer_J305 {K : zK} (E : zE K cX67_suffer "RingHouseModel" none 1) (hN : zNl K = 4) (hT : zTr K = none) (x1 : Int) (x2 : Int) : zR K 305 [(0, 69, 0), (1, 0, x1), (2, 0, x2)] [] (fX67_suffer_J305 x1 x2) := by
  refine r_aload_n E dX67_suffer_305 rfl 0 rfl ?_
  refine r_gec (y := 0) E zc_69 dX67_suffer_306 q3270 zr_69 (zh_6855 (by decide)) (by decide) ?_
  refine r_iload_n E dX67_suffer_309 rfl 2 rfl ?_
  refine r_aload_n E dX67_suffer_310 rfl 0 rfl ?_
  refine r_gec (y := 0) E zc_69 dX67_suffer_311 q3246 zr_69 (zh_6831 (by decide)) (by decide) ?_
  refine r_iload_n E dX67_suffer_314 rfl 1 rfl ?_
  refine r_iaload E zc_6831 za_6831 zt_6831 zx_6831 rfl rfl dX67_suffer_315 (by decide) (fun v17 => ?_)
  refine r_iastore E zc_6855 za_6855 zt_6855 zo_6855 zx_6855 rfl rfl dX67_suffer_316 (by decide) ?_
  refine r_aload_n E dX67_suffer_317 rfl 0 rfl ?_
  refine r_gec (y := 0) E zc_69 dX67_suffer_318 q3271 zr_69 (zh_6856 (by decide)) (by decide) ?_
  refine r_iload_n E dX67_suffer_321 rfl 2 rfl ?_
  refine r_aload_n E dX67_suffer_322 rfl 0 rfl ?_
  refine r_gec (y := 0) E zc_69 dX67_suffer_323 q3247 zr_69 (zh_6832 (by decide)) (by decide) ?_
  refine r_iload_n E dX67_suffer_326 rfl 1 rfl ?_
  refine r_iaload E zc_6832 za_6832 zt_6832 zx_6832 rfl rfl dX67_suffer_327 (by decide) (fun v18 => ?_)
  refine r_iastore E zc_6856 za_6856 zt_6856 zo_6856 zx_6856 rfl rfl dX67_suffer_328 (by decide) ?_
  refine r_aload_n E dX67_suffer_329 rfl 0 rfl ?_
  refine r_gec (y := 0) E zc_69 dX67_suffer_330 q3272 zr_69 (zh_6857 (by decide)) (by decide) ?_
  refine r_iload_n E dX67_suffer_333 rfl 2 rfl ?_
  refine r_aload_n E dX67_suffer_334 rfl 0 rfl ?_
  refine r_gec (y := 0) E zc_69 dX67_suffer_335 q3248 zr_69 (zh_6833 (by decide)) (by decide) ?_
  refine r_iload_n E dX67_suffer_338 rfl 1 rfl ?_
  refine r_iaload E zc_6833 za_6833 zt_6833 zx_6833 rfl rfl dX67_suffer_339 (by decide) (fun v19 => ?_)
  refine r_iastore E zc_6857 za_6857 zt_6857 zo_6857 zx_6857 rfl rfl dX67_suffer_340 (by decide) ?_
  refine r_aload_n E dX67_suffer_341 rfl 0 rfl ?_
  refine r_gec (y := 0) E zc_69 dX67_suffer_342 q3273 zr_69 (zh_6858 (by decide)) (by decide) ?_
  refine r_iload_n E dX67_suffer_345 rfl 2 rfl ?_
  refine r_aload_n E dX67_suffer_346 rfl 0 rfl ?_
  refine r_gec (y := 0) E zc_69 dX67_suffer_347 q3249 zr_69 (zh_6834 (by decide)) (by decide) ?_
  refine r_iload_n E dX67_suffer_350 rfl 1 rfl ?_
  refine r_baloadz E zc_6834 za_6834 zt_6834 zx_6834 rfl rfl dX67_suffer_351 (by decide) (fun v20 => ?_)
  refine r_zastore E zc_6858 za_6858 zt_6858 zo_6858 zx_6858 rfl rfl dX67_suffer_352 (by decide) ?_
  refine r_aload_n E dX67_suffer_353 rfl 0 rfl ?_
  refine r_gec (y := 0) E zc_69 dX67_suffer_354 q3274 zr_69 (zh_6859 (by decide)) (by decide) ?_
  refine r_iload_n E dX67_suffer_357 rfl 2 rfl ?_
  refine r_aload_n E dX67_suffer_358 rfl 0 rfl ?_
  refine r_gec (y := 0) E zc_69 dX67_suffer_359 q3250 zr_69 (zh_6835 (by decide)) (by decide) ?_
  refine r_iload_n E dX67_suffer_362 rfl 1 rfl ?_
  refine r_baloadz E zc_6835 za_6835 zt_6835 zx_6835 rfl rfl dX67_suffer_363 (by decide) (fun v21 => ?_)
  refine r_zastore E zc_6859 za_6859 zt_6859 zo_6859 zx_6859 rfl rfl dX67_suffer_364 (by decide) ?_
  refine r_aload_n E dX67_suffer_365 rfl 0 rfl ?_
  refine r_gec (y := 0) E zc_69 dX67_suffer_366 q3240 zr_69 (zh_6825 (by decide)) (by decide) ?_
  refine r_iload_n E dX67_suffer_369 rfl 1 rfl ?_
  refine r_aload_n E dX67_suffer_370 rfl 0 rfl ?_
  refine r_get E zc_69 zt_6874 dX67_suffer_371 q3289 zr_69 (zg_6874 _) (by decide) (fun v22 => ?_)
  refine r_i2l E dX67_suffer_374 ?_
  refine r_lastore E zc_6825 za_6825 zt_6825 zo_6825 zx_6825 rfl rfl dX67_suffer_375 (by decide) ?_
  refine r_aload_n E dX67_suffer_376 rfl 0 rfl ?_
  refine r_gec (y := 0) E zc_69 dX67_suffer_377 q3241 zr_69 (zh_6826 (by decide)) (by decide) ?_
  refine r_iload_n E dX67_suffer_380 rfl 1 rfl ?_
  refine r_aload_n E dX67_suffer_381 rfl 0 rfl ?_
  refine r_get E zc_69 zt_6875 dX67_suffer_382 q3290 zr_69 (zg_6875 _) (by decide) (fun v23 => ?_)
  refine r_aload_n E dX67_suffer_385 rfl 0 rfl ?_
  refine r_get E zc_69 zt_6876 dX67_suffer_386 q3291 zr_69 (zg_6876 _) (by decide) (fun v24 => ?_)
  refine r_aload_n E dX67_suffer_389 rfl 0 rfl ?_
  refine r_get E zc_69 zt_6877 dX67_suffer_390 q3292 zr_69 (zg_6877 _) (by decide) (fun v25 => ?_)
  refine r_callS E [(0, v23), (0, v24), (0, v25)] [(0, x1), (6826, 0)] rfl q4049 q4050 q294 q4051 dX67_suffer_393 zy_X67_pointerWord rfl (by omega) (by decide) (Nat.le_of_ble_eq_true rfl) (fun l G => k_fX67_pointerWord l G v23 v24 v25) (fun v26 => ?_)
  refine r_lastore E zc_6826 za_6826 zt_6826 zo_6826 zx_6826 rfl rfl dX67_suffer_396 (by decide) ?_
  refine r_aload_n E dX67_suffer_397 rfl 0 rfl ?_
  refine r_gec (y := 0) E zc_69 dX67_suffer_398 q3246 zr_69 (zh_6831 (by decide)) (by decide) ?_
  refine r_iload_n E dX67_suffer_401 rfl 1 rfl ?_
  refine r_aload_n E dX67_suffer_402 rfl 0 rfl ?_
  refine r_gec (y := 0) E zc_69 dX67_suffer_403 q3258 zr_69 (zh_6843 (by decide)) (by decide) ?_
  refine r_iload_n E dX67_suffer_406 rfl 1 rfl ?_
  refine r_iaload E zc_6843 za_6843 zt_6843 zx_6843 rfl rfl dX67_suffer_407 (by decide) (fun v27 => ?_)
  refine r_iastore E zc_6831 za_6831 zt_6831 zo_6831 zx_6831 rfl rfl dX67_suffer_408 (by decide) ?_
  refine r_aload_n E dX67_suffer_409 rfl 0 rfl ?_
  refine r_gec (y := 0) E zc_69 dX67_suffer_410 q3247 zr_69 (zh_6832 (by decide)) (by decide) ?_
  refine r_iload_n E dX67_suffer_413 rfl 1 rfl ?_
  refine r_aload_n E dX67_suffer_414 rfl 0 rfl ?_
  refine r_gec (y := 0) E zc_69 dX67_suffer_415 q3259 zr_69 (zh_6844 (by decide)) (by decide) ?_
  refine r_iload_n E dX67_suffer_418 rfl 1 rfl ?_
  refine r_iaload E zc_6844 za_6844 zt_6844 zx_6844 rfl rfl dX67_suffer_419 (by decide) (fun v28 => ?_)
  refine r_iastore E zc_6832 za_6832 zt_6832 zo_6832 zx_6832 rfl rfl dX67_suffer_420 (by decide) ?_
  refine r_aload_n E dX67_suffer_421 rfl 0 rfl ?_
  refine r_gec (y := 0) E zc_69 dX67_suffer_422 q3248 zr_69 (zh_6833 (by decide)) (by decide) ?_
  refine r_iload_n E dX67_suffer_425 rfl 1 rfl ?_
  refine r_aload_n E dX67_suffer_426 rfl 0 rfl ?_
  refine r_gec (y := 0) E zc_69 dX67_suffer_427 q3260 zr_69 (zh_6845 (by decide)) (by decide) ?_
  refine r_iload_n E dX67_suffer_430 rfl 1 rfl ?_
  refine r_iaload E zc_6845 za_6845 zt_6845 zx_6845 rfl rfl dX67_suffer_431 (by decide) (fun v29 => ?_)
  refine r_iastore E zc_6833 za_6833 zt_6833 zo_6833 zx_6833 rfl rfl dX67_suffer_432 (by decide) ?_
  exact r_return E rfl hT dX67_suffer_433
theorem w_fX67_suffer_B227 {K : zK} (E : zE K cX67_suffer "RingHouseModel" none 1) (hN : zNl K = 4) (hT : zTr K = none) (x1 : Int) (x2 : Int) : ∀ r227 : Int → zX, (∀ s : Int, zR K 227 [(0, 69, 0), (1, 0, x1), (2, 0, x2), (3, 0, s)] [] (r227 s)) → ∀ s : Int, zR K 227 [(0, 69, 0), (1, 0, x1), (2, 0, x2), (3, 0, s)] [] (fX67_suffer_B227 x1 x2 r227 s) := by
  intro r227 hr227 x3
  refine r_iload_n E dX67_suffer_227 rfl 3 rfl ?_
  refine r_bipush E dX67_suffer_228 (by decide) (zkI (by decide) (by decide)) ?_
  refine r_icmp_ge E 305 (by decide) dX67_suffer_230 (fun _ => ?_) (fun _ => ?_)
  · refine r_pick E [0, 1, 2] rfl ?_
    exact w_fX67_suffer_J305 E hN hT x1 x2
  · refine r_aload_n E dX67_suffer_233 rfl 0 rfl ?_
    refine r_gec (y := 0) E zc_69 dX67_suffer_234 q3267 zr_69 (zh_6852 (by decide)) (by decide) ?_
    refine r_bipush E dX67_suffer_237 (by decide) (zkI (by decide) (by decide)) ?_
    refine r_iload_n E dX67_suffer_239 rfl 2 rfl ?_
    refine r_imul E dX67_suffer_240 ?_
    refine r_iload_n E dX67_suffer_241 rfl 3 rfl ?_
    refine r_iadd E dX67_suffer_242 ?_
    refine r_aload_n E dX67_suffer_243 rfl 0 rfl ?_
    refine r_gec (y := 0) E zc_69 dX67_suffer_244 q3243 zr_69 (zh_6828 (by decide)) (by decide) ?_
    refine r_bipush E dX67_suffer_247 (by decide) (zkI (by decide) (by decide)) ?_
    refine r_iload_n E dX67_suffer_249 rfl 1 rfl ?_
    refine r_imul E dX67_suffer_250 ?_
    refine r_iload_n E dX67_suffer_251 rfl 3 rfl ?_
    refine r_iadd E dX67_suffer_252 ?_
    refine r_iaload E zc_6828 za_6828 zt_6828 zx_6828 rfl rfl dX67_suffer_253 (by decide) (fun v30 => ?_)
    refine r_iastore E zc_6852 za_6852 zt_6852 zo_6852 zx_6852 rfl rfl dX67_suffer_254 (by decide) ?_
    refine r_aload_n E dX67_suffer_255 rfl 0 rfl ?_
    refine r_gec (y := 0) E zc_69 dX67_suffer_256 q3268 zr_69 (zh_6853 (by decide)) (by decide) ?_
    refine r_bipush E dX67_suffer_259 (by decide) (zkI (by decide) (by decide)) ?_
    refine r_iload_n E dX67_suffer_261 rfl 2 rfl ?_
    refine r_imul E dX67_suffer_262 ?_
    refine r_iload_n E dX67_suffer_263 rfl 3 rfl ?_
    refine r_iadd E dX67_suffer_264 ?_
    refine r_aload_n E dX67_suffer_265 rfl 0 rfl ?_
    refine r_gec (y := 0) E zc_69 dX67_suffer_266 q3244 zr_69 (zh_6829 (by decide)) (by decide) ?_
    refine r_bipush E dX67_suffer_269 (by decide) (zkI (by decide) (by decide)) ?_
    refine r_iload_n E dX67_suffer_271 rfl 1 rfl ?_
    refine r_imul E dX67_suffer_272 ?_
    refine r_iload_n E dX67_suffer_273 rfl 3 rfl ?_
    refine r_iadd E dX67_suffer_274 ?_
    refine r_iaload E zc_6829 za_6829 zt_6829 zx_6829 rfl rfl dX67_suffer_275 (by decide) (fun v31 => ?_)
    refine r_iastore E zc_6853 za_6853 zt_6853 zo_6853 zx_6853 rfl rfl dX67_suffer_276 (by decide) ?_
    refine r_aload_n E dX67_suffer_277 rfl 0 rfl ?_
    refine r_gec (y := 0) E zc_69 dX67_suffer_278 q3269 zr_69 (zh_6854 (by decide)) (by decide) ?_
    refine r_bipush E dX67_suffer_281 (by decide) (zkI (by decide) (by decide)) ?_
    refine r_iload_n E dX67_suffer_283 rfl 2 rfl ?_
    refine r_imul E dX67_suffer_284 ?_
    refine r_iload_n E dX67_suffer_285 rfl 3 rfl ?_
    refine r_iadd E dX67_suffer_286 ?_
    refine r_aload_n E dX67_suffer_287 rfl 0 rfl ?_
    refine r_gec (y := 0) E zc_69 dX67_suffer_288 q3245 zr_69 (zh_6830 (by decide)) (by decide) ?_
    refine r_bipush E dX67_suffer_291 (by decide) (zkI (by decide) (by decide)) ?_
    refine r_iload_n E dX67_suffer_293 rfl 1 rfl ?_
    refine r_imul E dX67_suffer_294 ?_
    refine r_iload_n E dX67_suffer_295 rfl 3 rfl ?_
    refine r_iadd E dX67_suffer_296 ?_
    refine r_iaload E zc_6830 za_6830 zt_6830 zx_6830 rfl rfl dX67_suffer_297 (by decide) (fun v32 => ?_)
    refine r_iastore E zc_6854 za_6854 zt_6854 zo_6854 zx_6854 rfl rfl dX67_suffer_298 (by decide) ?_
    refine r_iinc (ls' := fun v33 => [(3, 0, v33), (0, 69, 0), (1, 0, x1), (2, 0, x2)]) E 3 rfl (by rw [hN]; decide) (fun _ => rfl) dX67_suffer_299 (fun v33 _ => ?_)
    refine r_goto E 227 (by decide) dX67_suffer_302 ?_
    refine r_pick E [1, 2, 3, 0] rfl ?_
    exact hr227 v33
theorem w_fX67_suffer_J225 {K : zK} (E : zE K cX67_suffer "RingHouseModel" none 1) (hN : zNl K = 4) (hT : zTr K = none) (x1 : Int) (x2 : Int) : zR K 225 [(0, 69, 0), (1, 0, x1), (2, 0, x2)] [] (fX67_suffer_J225 x1 x2) := by
  refine r_iconst E dX67_suffer_225 (zkI (by decide) (by decide)) ?_
  refine r_istore_n (ls' := [(3, 0, 0), (0, 69, 0), (1, 0, x1), (2, 0, x2)]) E dX67_suffer_226 rfl (by rw [hN]; decide) rfl ?_
  refine r_pick E [1, 2, 3, 0] rfl ?_
  exact r_loop (L := fun s => [(0, 69, 0), (1, 0, x1), (2, 0, x2), (3, 0, s)]) (w_fX67_suffer_B227 E hN hT x1 x2) zBIG 0
theorem w_fX67_suffer_B194 {K : zK} (E : zE K cX67_suffer "RingHouseModel" none 1) (hN : zNl K = 4) (hT : zTr K = none) (x1 : Int) (x2 : Int) : ∀ r194 : Int → zX, (∀ s : Int, zR K 194 [(0, 69, 0), (1, 0, x1), (2, 0, x2), (3, 0, s)] [] (r194 s)) → ∀ s : Int, zR K 194 [(0, 69, 0), (1, 0, x1), (2, 0, x2), (3, 0, s)] [] (fX67_suffer_B194 x1 x2 r194 s) := by
  intro r194 hr194 x3
  refine r_iload_n E dX67_suffer_194 rfl 3 rfl ?_
  refine r_iconst E dX67_suffer_195 (zkI (by decide) (by decide)) ?_
  refine r_icmp_ge E 225 (by decide) dX67_suffer_196 (fun _ => ?_) (fun _ => ?_)
  · refine r_pick E [0, 1, 2] rfl ?_
    exact w_fX67_suffer_J225 E hN hT x1 x2
  · refine r_aload_n E dX67_suffer_199 rfl 0 rfl ?_
    refine r_gec (y := 0) E zc_69 dX67_suffer_200 q3266 zr_69 (zh_6851 (by decide)) (by decide) ?_
    refine r_iconst E dX67_suffer_203 (zkI (by decide) (by decide)) ?_
    refine r_iload_n E dX67_suffer_204 rfl 2 rfl ?_
    refine r_imul E dX67_suffer_205 ?_
    refine r_iload_n E dX67_suffer_206 rfl 3 rfl ?_
    refine r_iadd E dX67_suffer_207 ?_
    refine r_aload_n E dX67_suffer_208 rfl 0 rfl ?_
    refine r_gec (y := 0) E zc_69 dX67_suffer_209 q3242 zr_69 (zh_6827 (by decide)) (by decide) ?_
    refine r_iconst E dX67_suffer_212 (zkI (by decide) (by decide)) ?_
    refine r_iload_n E dX67_suffer_213 rfl 1 rfl ?_
    refine r_imul E dX67_suffer_214 ?_
    refine r_iload_n E dX67_suffer_215 rfl 3 rfl ?_
    refine r_iadd E dX67_suffer_216 ?_
    refine r_iaload E zc_6827 za_6827 zt_6827 zx_6827 rfl rfl dX67_suffer_217 (by decide) (fun v34 => ?_)
    refine r_iastore E zc_6851 za_6851 zt_6851 zo_6851 zx_6851 rfl rfl dX67_suffer_218 (by decide) ?_
    refine r_iinc (ls' := fun v35 => [(3, 0, v35), (0, 69, 0), (1, 0, x1), (2, 0, x2)]) E 3 rfl (by rw [hN]; decide) (fun _ => rfl) dX67_suffer_219 (fun v35 _ => ?_)
    refine r_goto E 194 (by decide) dX67_suffer_222 ?_
    refine r_pick E [1, 2, 3, 0] rfl ?_
    exact hr194 v35
theorem w_fX67_suffer_J74 {K : zK} (E : zE K cX67_suffer "RingHouseModel" none 1) (hN : zNl K = 4) (hT : zTr K = none) (x1 : Int) : zR K 74 [(0, 69, 0), (1, 0, x1)] [] (fX67_suffer_J74 x1) := by
  refine r_aload_n E dX67_suffer_74 rfl 0 rfl ?_
  refine r_iload_n E dX67_suffer_75 rfl 1 rfl ?_
  refine r_iconst E dX67_suffer_76 (zkI (by decide) (by decide)) ?_
  refine r_aload_n E dX67_suffer_77 rfl 0 rfl ?_
  refine r_get E zc_69 zt_6874 dX67_suffer_78 q3289 zr_69 (zg_6874 _) (by decide) (fun v3 => ?_)
  refine r_i2l E dX67_suffer_81 ?_
  refine r_aload_n E dX67_suffer_82 rfl 0 rfl ?_
  refine r_get E zc_69 zt_6875 dX67_suffer_83 q3290 zr_69 (zg_6875 _) (by decide) (fun v4 => ?_)
  refine r_i2l E dX67_suffer_86 ?_
  refine r_aload_n E dX67_suffer_87 rfl 0 rfl ?_
  refine r_get E zc_69 zt_6876 dX67_suffer_88 q3291 zr_69 (zg_6876 _) (by decide) (fun v5 => ?_)
  refine r_i2l E dX67_suffer_91 ?_
  refine r_callV E [(0, x1), (0, 2), (1, v3), (1, v4), (1, v5)] [] rfl zc_69 zr_69 (fun o _ => ⟨_, zw_X67.1 o, rfl⟩) (lw_V q3830 q3832 qs118 q294 q3833) dX67_suffer_92 zy_X67_tell rfl (by omega) (by decide) (Nat.le_of_ble_eq_true rfl) (by decide) (fun l G => k_fX67_tell l G x1 2 v3 v4 v5) (fun _ => ?_)
  refine r_aload_n E dX67_suffer_95 rfl 0 rfl ?_
  refine r_gec (y := 0) E zc_69 dX67_suffer_96 q3257 zr_69 (zh_6842 (by decide)) (by decide) ?_
  refine r_iload_n E dX67_suffer_99 rfl 1 rfl ?_
  refine r_baloadz E zc_6842 za_6842 zt_6842 zx_6842 rfl rfl dX67_suffer_100 (by decide) (fun v7 => ?_)
  refine r_if_eq E 129 (by decide) dX67_suffer_101 (fun _ => ?_) (fun _ => ?_)
  · exact w_fX67_suffer_J129 E hN hT x1
  · refine r_aload_n E dX67_suffer_104 rfl 0 rfl ?_
    refine r_gec (y := 0) E zc_69 dX67_suffer_105 q3260 zr_69 (zh_6845 (by decide)) (by decide) ?_
    refine r_iload_n E dX67_suffer_108 rfl 1 rfl ?_
    refine r_iaload E zc_6845 za_6845 zt_6845 zx_6845 rfl rfl dX67_suffer_109 (by decide) (fun v9 => ?_)
    refine r_aload_n E dX67_suffer_110 rfl 0 rfl ?_
    refine r_gec (y := 0) E zc_69 dX67_suffer_111 q3248 zr_69 (zh_6833 (by decide)) (by decide) ?_
    refine r_iload_n E dX67_suffer_114 rfl 1 rfl ?_
    refine r_iaload E zc_6833 za_6833 zt_6833 zx_6833 rfl rfl dX67_suffer_115 (by decide) (fun v10 => ?_)
    refine r_icmp_gt E 129 (by decide) dX67_suffer_116 (fun _ => ?_) (fun _ => ?_)
    · exact w_fX67_suffer_J129 E hN hT x1
    · refine r_aload_n E dX67_suffer_119 rfl 0 rfl ?_
      refine r_gec (y := 0) E zc_69 dX67_suffer_120 q3263 zr_69 (zh_6848 (by decide)) (by decide) ?_
      refine r_iload_n E dX67_suffer_123 rfl 1 rfl ?_
      refine r_iaload E zc_6848 za_6848 zt_6848 zx_6848 rfl rfl dX67_suffer_124 (by decide) (fun v11 => ?_)
      refine r_iconst E dX67_suffer_125 (zkI (by decide) (by decide)) ?_
      refine r_icmp_ne E 147 (by decide) dX67_suffer_126 (fun _ => ?_) (fun _ => ?_)
      · refine r_iconst E dX67_suffer_147 (zkI (by decide) (by decide)) ?_
        refine r_iload_n E dX67_suffer_148 rfl 1 rfl ?_
        refine r_imul E dX67_suffer_149 ?_
        refine r_aload_n E dX67_suffer_150 rfl 0 rfl ?_
        refine r_gec (y := 0) E zc_69 dX67_suffer_151 q3263 zr_69 (zh_6848 (by decide)) (by decide) ?_
        refine r_iload_n E dX67_suffer_154 rfl 1 rfl ?_
        refine r_iaload E zc_6848 za_6848 zt_6848 zx_6848 rfl rfl dX67_suffer_155 (by decide) (fun v12 => ?_)
        refine r_iadd E dX67_suffer_156 ?_
        refine r_let E (fun v13 ev13 => ?_)
        refine r_istore_n (ls' := [(2, 0, v13), (0, 69, 0), (1, 0, x1)]) E dX67_suffer_157 rfl (by rw [hN]; decide) rfl ?_
        refine r_aload_n E dX67_suffer_158 rfl 1 rfl ?_
        refine r_gec (y := 0) E zc_69 dX67_suffer_159 q3263 zr_69 (zh_6848 (by decide)) (by decide) ?_
        refine r_iload_n E dX67_suffer_162 rfl 2 rfl ?_
        refine r_dup22 E (zn1 rfl) (zn1 rfl) dX67_suffer_163 ?_
        refine r_iaload E zc_6848 za_6848 zt_6848 zx_6848 rfl rfl dX67_suffer_164 (by decide) (fun v14 => ?_)
        refine r_iconst E dX67_suffer_165 (zkI (by decide) (by decide)) ?_
        refine r_iadd E dX67_suffer_166 ?_
        refine r_iastore E zc_6848 za_6848 zt_6848 zo_6848 zx_6848 rfl rfl dX67_suffer_167 (by decide) ?_
        refine r_aload_n E dX67_suffer_168 rfl 1 rfl ?_
        refine r_gec (y := 0) E zc_69 dX67_suffer_169 q3264 zr_69 (zh_6849 (by decide)) (by decide) ?_
        refine r_iload_n E dX67_suffer_172 rfl 0 rfl ?_
        refine r_aload_n E dX67_suffer_173 rfl 1 rfl ?_
        refine r_gec (y := 0) E zc_69 dX67_suffer_174 q3240 zr_69 (zh_6825 (by decide)) (by decide) ?_
        refine r_iload_n E dX67_suffer_177 rfl 2 rfl ?_
        refine r_laload E zc_6825 za_6825 zt_6825 zx_6825 rfl rfl dX67_suffer_178 (by decide) (fun v15 => ?_)
        refine r_lastore E zc_6849 za_6849 zt_6849 zo_6849 zx_6849 rfl rfl dX67_suffer_179 (by decide) ?_
        refine r_aload_n E dX67_suffer_180 rfl 1 rfl ?_
        refine r_gec (y := 0) E zc_69 dX67_suffer_181 q3265 zr_69 (zh_6850 (by decide)) (by decide) ?_
        refine r_iload_n E dX67_suffer_184 rfl 0 rfl ?_
        refine r_aload_n E dX67_suffer_185 rfl 1 rfl ?_
        refine r_gec (y := 0) E zc_69 dX67_suffer_186 q3241 zr_69 (zh_6826 (by decide)) (by decide) ?_
        refine r_iload_n E dX67_suffer_189 rfl 2 rfl ?_
        refine r_laload E zc_6826 za_6826 zt_6826 zx_6826 rfl rfl dX67_suffer_190 (by decide) (fun v16 => ?_)
        refine r_lastore E zc_6850 za_6850 zt_6850 zo_6850 zx_6850 rfl rfl dX67_suffer_191 (by decide) ?_
        refine r_iconst E dX67_suffer_192 (zkI (by decide) (by decide)) ?_
        refine r_istore_n (ls' := [(3, 0, 0), (2, 0, v13), (0, 69, 0), (1, 0, x1)]) E dX67_suffer_193 rfl (by rw [hN]; decide) rfl ?_
        refine r_pick E [2, 3, 1, 0] rfl ?_
        exact r_loop (L := fun s => [(0, 69, 0), (1, 0, x1), (2, 0, v13), (3, 0, s)]) (w_fX67_suffer_B194 E hN hT x1 v13) zBIG 0
      · exact w_fX67_suffer_J129 E hN hT x1
theorem w_fX67_suffer_J72 {K : zK} (E : zE K cX67_suffer "RingHouseModel" none 1) (hN : zNl K = 4) (hT : zTr K = none) (x1 : Int) (s1 : Int) (s2 : Int) (s3 : Int) : zR K 72 [(0, 69, 0), (1, 0, x1)] [(0, s3), (0, s2), (0, s1), (6809, 0)] (fX67_suffer_J72 x1 s1 s2 s3) := by
  refine r_iadd E dX67_suffer_72 ?_
  refine r_iastore E zc_6809 za_6809 zt_6809 zo_6809 zx_6809 rfl rfl dX67_suffer_73 (by decide) ?_
  exact w_fX67_suffer_J74 E hN hT x1
theorem w_fX67_suffer {K : zK} (E : zE K cX67_suffer "RingHouseModel" none 1) (hN : zNl K = 4) (hT : zTr K = none) (x1 : Int) : zR K 0 [(0, 69, 0), (1, 0, x1)] [] (fX67_suffer x1) := by
  refine r_aload_n E dX67_suffer_0 rfl 0 rfl ?_
  refine r_get E zc_69 zt_6874 dX67_suffer_1 q3289 zr_69 (zg_6874 _) (by decide) (fun v1 => ?_)
  refine r_i2l E dX67_suffer_4 ?_
  refine r_ldc2 (v := 3) E dX67_suffer_5 q3802 (by decide) (zkJ (by decide) (by decide)) ?_
  refine r_ldc2 (v := 7) E dX67_suffer_8 q3709 (by decide) (zkJ (by decide) (by decide)) ?_
  refine r_callS E [(1, v1), (1, 3), (1, 7)] [] rfl q3619 q3620 q294 q3621 dX67_suffer_11 zy_X67_in rfl (by omega) (by decide) (Nat.le_of_ble_eq_true rfl) (fun l G => k_fX67_in l G v1 3 7) (fun v2 => ?_)
  refine r_if_eq E 74 (by decide) dX67_suffer_14 (fun _ => ?_) (fun _ => ?_)
  · exact w_fX67_suffer_J74 E hN hT x1
  · refine r_aload_n E dX67_suffer_17 rfl 0 rfl ?_
    refine r_get E zc_69 zt_6875 dX67_suffer_18 q3290 zr_69 (zg_6875 _) (by decide) (fun v36 => ?_)
    refine r_bipush E dX67_suffer_21 (by decide) (zkI (by decide) (by decide)) ?_
    refine r_icmp_le E 74 (by decide) dX67_suffer_23 (fun _ => ?_) (fun _ => ?_)
    · exact w_fX67_suffer_J74 E hN hT x1
    · refine r_aload_n E dX67_suffer_26 rfl 0 rfl ?_
      refine r_gec (y := 0) E zc_69 dX67_suffer_27 q3253 zr_69 (zh_6838 (by decide)) (by decide) ?_
      refine r_bipush E dX67_suffer_30 (by decide) (zkI (by decide) (by decide)) ?_
      refine r_iload_n E dX67_suffer_32 rfl 1 rfl ?_
      refine r_imul E dX67_suffer_33 ?_
      refine r_aload_n E dX67_suffer_34 rfl 0 rfl ?_
      refine r_get E zc_69 zt_6875 dX67_suffer_35 q3290 zr_69 (zg_6875 _) (by decide) (fun v37 => ?_)
      refine r_iadd E dX67_suffer_38 ?_
      refine r_iaload E zc_6838 za_6838 zt_6838 zx_6838 rfl rfl dX67_suffer_39 (by decide) (fun v38 => ?_)
      refine r_istore_n (ls' := [(2, 0, v38), (0, 69, 0), (1, 0, x1)]) E dX67_suffer_40 rfl (by rw [hN]; decide) rfl ?_
      refine r_aload_n E dX67_suffer_41 rfl 1 rfl ?_
      refine r_iload_n E dX67_suffer_42 rfl 2 rfl ?_
      refine r_iconst E dX67_suffer_43 (zkI (by decide) (by decide)) ?_
      refine r_iload_n E dX67_suffer_44 rfl 0 rfl ?_
      refine r_aload_n E dX67_suffer_45 rfl 1 rfl ?_
      refine r_get E zc_69 zt_6874 dX67_suffer_46 q3289 zr_69 (zg_6874 _) (by decide) (fun v39 => ?_)
      refine r_callV E [(0, x1), (0, 1), (0, v38), (0, v39)] [] rfl zc_69 zr_69 (fun o _ => ⟨_, zw_X67.1 o, rfl⟩) (lw_V q3933 q3935 qs142 q294 q3936) dX67_suffer_49 zy_X67_note rfl (by omega) (by decide) (Nat.le_of_ble_eq_true rfl) (by decide) (fun l G => k_fX67_note l G x1 1 v38 v39) (fun _ => ?_)
      refine r_aload_n E dX67_suffer_52 rfl 1 rfl ?_
      refine r_gec (y := 0) E zc_69 dX67_suffer_53 q3224 zr_69 (zh_6809 (by decide)) (by decide) ?_
      refine r_iload_n E dX67_suffer_56 rfl 0 rfl ?_
      refine r_dup22 E (zn1 rfl) (zn1 rfl) dX67_suffer_57 ?_
      refine r_iaload E zc_6809 za_6809 zt_6809 zx_6809 rfl rfl dX67_suffer_58 (by decide) (fun v41 => ?_)
      refine r_aload_n E dX67_suffer_59 rfl 1 rfl ?_
      refine r_get E zc_69 zt_6874 dX67_suffer_60 q3289 zr_69 (zg_6874 _) (by decide) (fun v42 => ?_)
      refine r_iconst E dX67_suffer_63 (zkI (by decide) (by decide)) ?_
      refine r_icmp_gt E 71 (by decide) dX67_suffer_64 (fun _ => ?_) (fun _ => ?_)
      · refine r_iconst E dX67_suffer_71 (zkI (by decide) (by decide)) ?_
        refine r_pick E [1, 2] rfl ?_
        exact w_fX67_suffer_J72 E hN hT x1 v38 v41 0
      · refine r_iconst E dX67_suffer_67 (zkI (by decide) (by decide)) ?_
        refine r_goto E 72 (by decide) dX67_suffer_68 ?_
        refine r_pick E [1, 2] rfl ?_
        exact w_fX67_suffer_J72 E hN hT x1 v38 v41 1
theorem k_fX67_suffer (l : Launch) (G : zG) (x1 : Int) : zCt l G yX67_suffer cX67_suffer 4 none 1 [(69, 0), (0, x1)] none (fX67_suffer x1) := zCt.of (by decide) (Nat.le_of_ble_eq_true rfl) (fun K E _ _ hN hT => w_fX67_suffer E hN hT x1)
theorem dX67_isTicked_0 : decode cX67_isTicked 0 = .ok (.iload_n 1, 1) := by decide +kernel
theorem dX67_isTicked_1 : decode cX67_isTicked 1 = .ok (.ifCond .lt 41, 3) := by decide +kernel
theorem dX67_isTicked_4 : decode cX67_isTicked 4 = .ok (.aload_n 0, 1) := by decide +kernel
theorem dX67_isTicked_5 : decode cX67_isTicked 5 = .ok (.getfield 70, 3) := by decide +kernel
theorem dX67_isTicked_8 : decode cX67_isTicked 8 = .ok (.iload_n 1, 1) := by decide +kernel
theorem dX67_isTicked_9 : decode cX67_isTicked 9 = .ok (.baload, 1) := by decide +kernel
theorem dX67_isTicked_10 : decode cX67_isTicked 10 = .ok (.ifCond .eq 32, 3) := by decide +kernel
theorem dX67_isTicked_13 : decode cX67_isTicked 13 = .ok (.aload_n 0, 1) := by decide +kernel
theorem dX67_isTicked_14 : decode cX67_isTicked 14 = .ok (.getfield 74, 3) := by decide +kernel
theorem dX67_isTicked_17 : decode cX67_isTicked 17 = .ok (.iload_n 1, 1) := by decide +kernel
theorem dX67_isTicked_18 : decode cX67_isTicked 18 = .ok (.iaload, 1) := by decide +kernel
theorem dX67_isTicked_19 : decode cX67_isTicked 19 = .ok (.iconst 1, 1) := by decide +kernel
theorem dX67_isTicked_20 : decode cX67_isTicked 20 = .ok (.if_icmp .gt 22, 3) := by decide +kernel
theorem dX67_isTicked_23 : decode cX67_isTicked 23 = .ok (.aload_n 0, 1) := by decide +kernel
theorem dX67_isTicked_24 : decode cX67_isTicked 24 = .ok (.getfield 74, 3) := by decide +kernel
theorem dX67_isTicked_27 : decode cX67_isTicked 27 = .ok (.iload_n 1, 1) := by decide +kernel
theorem dX67_isTicked_28 : decode cX67_isTicked 28 = .ok (.iaload, 1) := by decide +kernel
theorem dX67_isTicked_29 : decode cX67_isTicked 29 = .ok (.iconst 1, 1) := by decide +kernel
theorem dX67_isTicked_30 : decode cX67_isTicked 30 = .ok (.if_icmp .ne 14, 3) := by decide +kernel
theorem dX67_isTicked_33 : decode cX67_isTicked 33 = .ok (.aload_n 0, 1) := by decide +kernel
theorem dX67_isTicked_34 : decode cX67_isTicked 34 = .ok (.getfield 149, 3) := by decide +kernel
theorem dX67_isTicked_37 : decode cX67_isTicked 37 = .ok (.iload_n 1, 1) := by decide +kernel
theorem dX67_isTicked_38 : decode cX67_isTicked 38 = .ok (.iaload, 1) := by decide +kernel
theorem dX67_isTicked_39 : decode cX67_isTicked 39 = .ok (.ifCond .ne 5, 3) := by decide +kernel
theorem dX67_isTicked_42 : decode cX67_isTicked 42 = .ok (.iconst 0, 1) := by decide +kernel
theorem dX67_isTicked_43 : decode cX67_isTicked 43 = .ok (.ireturn, 1) := by decide +kernel
theorem dX67_isTicked_44 : decode cX67_isTicked 44 = .ok (.aload_n 0, 1) := by decide +kernel
theorem dX67_isTicked_45 : decode cX67_isTicked 45 = .ok (.getfield 74, 3) := by decide +kernel
theorem dX67_isTicked_48 : decode cX67_isTicked 48 = .ok (.iload_n 1, 1) := by decide +kernel
theorem dX67_isTicked_49 : decode cX67_isTicked 49 = .ok (.iaload, 1) := by decide +kernel
theorem dX67_isTicked_50 : decode cX67_isTicked 50 = .ok (.iconst 1, 1) := by decide +kernel
theorem dX67_isTicked_51 : decode cX67_isTicked 51 = .ok (.if_icmp .ne 28, 3) := by decide +kernel
theorem dX67_isTicked_54 : decode cX67_isTicked 54 = .ok (.aload_n 0, 1) := by decide +kernel
theorem dX67_isTicked_55 : decode cX67_isTicked 55 = .ok (.getfield 74, 3) := by decide +kernel
theorem dX67_isTicked_58 : decode cX67_isTicked 58 = .ok (.iload_n 1, 1) := by decide +kernel
theorem dX67_isTicked_59 : decode cX67_isTicked 59 = .ok (.iconst 0, 1) := by decide +kernel
theorem dX67_isTicked_60 : decode cX67_isTicked 60 = .ok (.iastore, 1) := by decide +kernel
theorem dX67_isTicked_61 : decode cX67_isTicked 61 = .ok (.aload_n 0, 1) := by decide +kernel
theorem dX67_isTicked_62 : decode cX67_isTicked 62 = .ok (.iload_n 1, 1) := by decide +kernel
theorem dX67_isTicked_63 : decode cX67_isTicked 63 = .ok (.bipush 8, 2) := by decide +kernel
theorem dX67_isTicked_65 : decode cX67_isTicked 65 = .ok (.aload_n 0, 1) := by decide +kernel
theorem dX67_isTicked_66 : decode cX67_isTicked 66 = .ok (.getfield 152, 3) := by decide +kernel
theorem dX67_isTicked_69 : decode cX67_isTicked 69 = .ok (.bipush 8, 2) := by decide +kernel
theorem dX67_isTicked_71 : decode cX67_isTicked 71 = .ok (.iload_n 1, 1) := by decide +kernel
theorem dX67_isTicked_72 : decode cX67_isTicked 72 = .ok (.imul, 1) := by decide +kernel
theorem dX67_isTicked_73 : decode cX67_isTicked 73 = .ok (.laload, 1) := by decide +kernel
theorem dX67_isTicked_74 : decode cX67_isTicked 74 = .ok (.lconst 0, 1) := by decide +kernel
theorem dX67_isTicked_75 : decode cX67_isTicked 75 = .ok (.lconst 0, 1) := by decide +kernel
theorem dX67_isTicked_76 : decode cX67_isTicked 76 = .ok (.invokevirtual 616, 3) := by decide +kernel
theorem dX67_isTicked_79 : decode cX67_isTicked 79 = .ok (.aload_n 0, 1) := by decide +kernel
theorem dX67_isTicked_80 : decode cX67_isTicked 80 = .ok (.getfield 119, 3) := by decide +kernel
theorem dX67_isTicked_83 : decode cX67_isTicked 83 = .ok (.iload_n 1, 1) := by decide +kernel
theorem dX67_isTicked_84 : decode cX67_isTicked 84 = .ok (.dup2, 1) := by decide +kernel
theorem dX67_isTicked_85 : decode cX67_isTicked 85 = .ok (.iaload, 1) := by decide +kernel
theorem dX67_isTicked_86 : decode cX67_isTicked 86 = .ok (.iconst 1, 1) := by decide +kernel
theorem dX67_isTicked_87 : decode cX67_isTicked 87 = .ok (.iadd, 1) := by decide +kernel
theorem dX67_isTicked_88 : decode cX67_isTicked 88 = .ok (.iastore, 1) := by decide +kernel
theorem dX67_isTicked_89 : decode cX67_isTicked 89 = .ok (.aload_n 0, 1) := by decide +kernel
theorem dX67_isTicked_90 : decode cX67_isTicked 90 = .ok (.iconst 0, 1) := by decide +kernel
theorem dX67_isTicked_91 : decode cX67_isTicked 91 = .ok (.putfield 510, 3) := by decide +kernel
theorem dX67_isTicked_94 : decode cX67_isTicked 94 = .ok (.aload_n 0, 1) := by decide +kernel
theorem dX67_isTicked_95 : decode cX67_isTicked 95 = .ok (.iload_n 1, 1) := by decide +kernel
theorem dX67_isTicked_96 : decode cX67_isTicked 96 = .ok (.invokevirtual 652, 3) := by decide +kernel
theorem dX67_isTicked_99 : decode cX67_isTicked 99 = .ok (.aload_n 0, 1) := by decide +kernel
theorem dX67_isTicked_100 : decode cX67_isTicked 100 = .ok (.getfield 510, 3) := by decide +kernel
theorem dX67_isTicked_103 : decode cX67_isTicked 103 = .ok (.ifCond .le 8, 3) := by decide +kernel
theorem dX67_isTicked_106 : decode cX67_isTicked 106 = .ok (.aload_n 0, 1) := by decide +kernel
theorem dX67_isTicked_107 : decode cX67_isTicked 107 = .ok (.iload_n 1, 1) := by decide +kernel
theorem dX67_isTicked_108 : decode cX67_isTicked 108 = .ok (.invokevirtual 655, 3) := by decide +kernel
theorem dX67_isTicked_111 : decode cX67_isTicked 111 = .ok (.iconst 1, 1) := by decide +kernel
theorem dX67_isTicked_112 : decode cX67_isTicked 112 = .ok (.ireturn, 1) := by decide +kernel
theorem zy_X67_isTicked : yX67_isTicked.cls ≠ "java/lang/invoke/MethodHandle" ∧ yX67_isTicked.cls ≠ "java/lang/invoke/VarHandle" ∧ (parseMethodDescriptor yX67_isTicked.desc).map (fun d => d.parameters.length) = some 1 := by decide +kernel
theorem w_fX67_isTicked_J79 {K : zK} (E : zE K cX67_isTicked "RingHouseModel" (some .boolean) 8) (hN : zNl K = 2) (hT : zTr K = (some 0)) (x1 : Int) : zR K 79 [(0, 69, 0), (1, 0, x1)] [] (fX67_isTicked_J79 x1) := by
  refine r_aload_n E dX67_isTicked_79 rfl 0 rfl ?_
  refine r_gec (y := 0) E zc_69 dX67_isTicked_80 q3251 zr_69 (zh_6836 (by decide)) (by decide) ?_
  refine r_iload_n E dX67_isTicked_83 rfl 1 rfl ?_
  refine r_dup22 E (zn1 rfl) (zn1 rfl) dX67_isTicked_84 ?_
  refine r_iaload E zc_6836 za_6836 zt_6836 zx_6836 rfl rfl dX67_isTicked_85 (by decide) (fun v5 => ?_)
  refine r_iconst E dX67_isTicked_86 (zkI (by decide) (by decide)) ?_
  refine r_iadd E dX67_isTicked_87 ?_
  refine r_iastore E zc_6836 za_6836 zt_6836 zo_6836 zx_6836 rfl rfl dX67_isTicked_88 (by decide) ?_
  refine r_aload_n E dX67_isTicked_89 rfl 0 rfl ?_
  refine r_iconst E dX67_isTicked_90 (zkI (by decide) (by decide)) ?_
  refine r_put E zc_69 zt_6874 zo_6874 dX67_isTicked_91 q3289 zr_69 zw_X67 zp_6874 (fun _ => rfl) (fun _ => rfl) (by decide) ?_
  refine r_aload_n E dX67_isTicked_94 rfl 0 rfl ?_
  refine r_iload_n E dX67_isTicked_95 rfl 1 rfl ?_
  refine r_callV E [(0, x1)] [] rfl zc_69 zr_69 (fun o _ => ⟨_, zw_X67.1 o, rfl⟩) (lw_V q3835 q3837 qs119 q294 q3838) dX67_isTicked_96 zy_X67_perform rfl (by omega) (by decide) (Nat.le_of_ble_eq_true rfl) (by decide) (fun l G => k_fX67_perform l G x1) (fun _ => ?_)
  refine r_aload_n E dX67_isTicked_99 rfl 0 rfl ?_
  refine r_get E zc_69 zt_6874 dX67_isTicked_100 q3289 zr_69 (zg_6874 _) (by decide) (fun v7 => ?_)
  refine r_if_le E 111 (by decide) dX67_isTicked_103 (fun _ => ?_) (fun _ => ?_)
  · refine r_iconst E dX67_isTicked_111 (zkI (by decide) (by decide)) ?_
    exact r_zreturn E rfl hT (by decide) dX67_isTicked_112
  · refine r_aload_n E dX67_isTicked_106 rfl 0 rfl ?_
    refine r_iload_n E dX67_isTicked_107 rfl 1 rfl ?_
    refine r_callV E [(0, x1)] [] rfl zc_69 zr_69 (fun o _ => ⟨_, zw_X67.1 o, rfl⟩) (lw_V q4079 q4081 qs171 q294 q4082) dX67_isTicked_108 zy_X67_suffer rfl (by omega) (by decide) (Nat.le_of_ble_eq_true rfl) (by decide) (fun l G => k_fX67_suffer l G x1) (fun _ => ?_)
    refine r_iconst E dX67_isTicked_111 (zkI (by decide) (by decide)) ?_
    exact r_zreturn E rfl hT (by decide) dX67_isTicked_112
theorem w_fX67_isTicked_J44 {K : zK} (E : zE K cX67_isTicked "RingHouseModel" (some .boolean) 8) (hN : zNl K = 2) (hT : zTr K = (some 0)) (x1 : Int) : zR K 44 [(0, 69, 0), (1, 0, x1)] [] (fX67_isTicked_J44 x1) := by
  refine r_aload_n E dX67_isTicked_44 rfl 0 rfl ?_
  refine r_gec (y := 0) E zc_69 dX67_isTicked_45 q3236 zr_69 (zh_6821 (by decide)) (by decide) ?_
  refine r_iload_n E dX67_isTicked_48 rfl 1 rfl ?_
  refine r_iaload E zc_6821 za_6821 zt_6821 zx_6821 rfl rfl dX67_isTicked_49 (by decide) (fun v4 => ?_)
  refine r_iconst E dX67_isTicked_50 (zkI (by decide) (by decide)) ?_
  refine r_icmp_ne E 79 (by decide) dX67_isTicked_51 (fun _ => ?_) (fun _ => ?_)
  · exact w_fX67_isTicked_J79 E hN hT x1
  · refine r_aload_n E dX67_isTicked_54 rfl 0 rfl ?_
    refine r_gec (y := 0) E zc_69 dX67_isTicked_55 q3236 zr_69 (zh_6821 (by decide)) (by decide) ?_
    refine r_iload_n E dX67_isTicked_58 rfl 1 rfl ?_
    refine r_iconst E dX67_isTicked_59 (zkI (by decide) (by decide)) ?_
    refine r_iastore E zc_6821 za_6821 zt_6821 zo_6821 zx_6821 rfl rfl dX67_isTicked_60 (by decide) ?_
    refine r_aload_n E dX67_isTicked_61 rfl 0 rfl ?_
    refine r_iload_n E dX67_isTicked_62 rfl 1 rfl ?_
    refine r_bipush E dX67_isTicked_63 (by decide) (zkI (by decide) (by decide)) ?_
    refine r_aload_n E dX67_isTicked_65 rfl 0 rfl ?_
    refine r_gec (y := 0) E zc_69 dX67_isTicked_66 q3262 zr_69 (zh_6847 (by decide)) (by decide) ?_
    refine r_bipush E dX67_isTicked_69 (by decide) (zkI (by decide) (by decide)) ?_
    refine r_iload_n E dX67_isTicked_71 rfl 1 rfl ?_
    refine r_imul E dX67_isTicked_72 ?_
    refine r_laload E zc_6847 za_6847 zt_6847 zx_6847 rfl rfl dX67_isTicked_73 (by decide) (fun v9 => ?_)
    refine r_lconst (v := 0) E dX67_isTicked_74 (by decide) (zkJ (by decide) (by decide)) ?_
    refine r_lconst (v := 0) E dX67_isTicked_75 (by decide) (zkJ (by decide) (by decide)) ?_
    refine r_callV E [(0, x1), (0, 8), (1, v9), (1, 0), (1, 0)] [] rfl zc_69 zr_69 (fun o _ => ⟨_, zw_X67.1 o, rfl⟩) (lw_V q3830 q3832 qs118 q294 q3833) dX67_isTicked_76 zy_X67_tell rfl (by omega) (by decide) (Nat.le_of_ble_eq_true rfl) (by decide) (fun l G => k_fX67_tell l G x1 8 v9 0 0) (fun _ => ?_)
    exact w_fX67_isTicked_J79 E hN hT x1
theorem w_fX67_isTicked {K : zK} (E : zE K cX67_isTicked "RingHouseModel" (some .boolean) 8) (hN : zNl K = 2) (hT : zTr K = (some 0)) (x1 : Int) : zR K 0 [(0, 69, 0), (1, 0, x1)] [] (fX67_isTicked x1) := by
  refine r_iload_n E dX67_isTicked_0 rfl 1 rfl ?_
  refine r_if_lt E 42 (by decide) dX67_isTicked_1 (fun _ => ?_) (fun _ => ?_)
  · refine r_iconst E dX67_isTicked_42 (zkI (by decide) (by decide)) ?_
    exact r_zreturn E rfl hT (by decide) dX67_isTicked_43
  · refine r_aload_n E dX67_isTicked_4 rfl 0 rfl ?_
    refine r_gec (y := 0) E zc_69 dX67_isTicked_5 q3235 zr_69 (zh_6820 (by decide)) (by decide) ?_
    refine r_iload_n E dX67_isTicked_8 rfl 1 rfl ?_
    refine r_baloadz E zc_6820 za_6820 zt_6820 zx_6820 rfl rfl dX67_isTicked_9 (by decide) (fun v1 => ?_)
    refine r_if_eq E 42 (by decide) dX67_isTicked_10 (fun _ => ?_) (fun _ => ?_)
    · refine r_iconst E dX67_isTicked_42 (zkI (by decide) (by decide)) ?_
      exact r_zreturn E rfl hT (by decide) dX67_isTicked_43
    · refine r_aload_n E dX67_isTicked_13 rfl 0 rfl ?_
      refine r_gec (y := 0) E zc_69 dX67_isTicked_14 q3236 zr_69 (zh_6821 (by decide)) (by decide) ?_
      refine r_iload_n E dX67_isTicked_17 rfl 1 rfl ?_
      refine r_iaload E zc_6821 za_6821 zt_6821 zx_6821 rfl rfl dX67_isTicked_18 (by decide) (fun v2 => ?_)
      refine r_iconst E dX67_isTicked_19 (zkI (by decide) (by decide)) ?_
      refine r_icmp_gt E 42 (by decide) dX67_isTicked_20 (fun _ => ?_) (fun _ => ?_)
      · refine r_iconst E dX67_isTicked_42 (zkI (by decide) (by decide)) ?_
        exact r_zreturn E rfl hT (by decide) dX67_isTicked_43
      · refine r_aload_n E dX67_isTicked_23 rfl 0 rfl ?_
        refine r_gec (y := 0) E zc_69 dX67_isTicked_24 q3236 zr_69 (zh_6821 (by decide)) (by decide) ?_
        refine r_iload_n E dX67_isTicked_27 rfl 1 rfl ?_
        refine r_iaload E zc_6821 za_6821 zt_6821 zx_6821 rfl rfl dX67_isTicked_28 (by decide) (fun v3 => ?_)
        refine r_iconst E dX67_isTicked_29 (zkI (by decide) (by decide)) ?_
        refine r_icmp_ne E 44 (by decide) dX67_isTicked_30 (fun _ => ?_) (fun _ => ?_)
        · exact w_fX67_isTicked_J44 E hN hT x1
        · refine r_aload_n E dX67_isTicked_33 rfl 0 rfl ?_
          refine r_gec (y := 0) E zc_69 dX67_isTicked_34 q3261 zr_69 (zh_6846 (by decide)) (by decide) ?_
          refine r_iload_n E dX67_isTicked_37 rfl 1 rfl ?_
          refine r_iaload E zc_6846 za_6846 zt_6846 zx_6846 rfl rfl dX67_isTicked_38 (by decide) (fun v11 => ?_)
          refine r_if_ne E 44 (by decide) dX67_isTicked_39 (fun _ => ?_) (fun _ => ?_)
          · exact w_fX67_isTicked_J44 E hN hT x1
          · refine r_iconst E dX67_isTicked_42 (zkI (by decide) (by decide)) ?_
            exact r_zreturn E rfl hT (by decide) dX67_isTicked_43
theorem k_fX67_isTicked (l : Launch) (G : zG) (x1 : Int) : zCt l G yX67_isTicked cX67_isTicked 2 (some .boolean) 8 [(69, 0), (0, x1)] (some 0) (fX67_isTicked x1) := zCt.of (by decide) (Nat.le_of_ble_eq_true rfl) (fun K E _ _ hN hT => w_fX67_isTicked E hN hT x1)
theorem dX67_tick_0 : decode cX67_tick 0 = .ok (.aload_n 0, 1) := by decide +kernel
theorem dX67_tick_1 : decode cX67_tick 1 = .ok (.iload_n 1, 1) := by decide +kernel
theorem dX67_tick_2 : decode cX67_tick 2 = .ok (.invokevirtual 782, 3) := by decide +kernel
theorem dX67_tick_5 : decode cX67_tick 5 = .ok (.ifCond .eq 15, 3) := by decide +kernel
theorem dX67_tick_8 : decode cX67_tick 8 = .ok (.iload_n 2, 1) := by decide +kernel
theorem dX67_tick_9 : decode cX67_tick 9 = .ok (.i2l, 1) := by decide +kernel
theorem dX67_tick_10 : decode cX67_tick 10 = .ok (.lconst 1, 1) := by decide +kernel
theorem dX67_tick_11 : decode cX67_tick 11 = .ok (.ldc2_w 785, 3) := by decide +kernel
theorem dX67_tick_14 : decode cX67_tick 14 = .ok (.invokestatic 363, 3) := by decide +kernel
theorem dX67_tick_17 : decode cX67_tick 17 = .ok (.ifCond .ne 6, 3) := by decide +kernel
theorem dX67_tick_20 : decode cX67_tick 20 = .ok (.bipush (-8), 2) := by decide +kernel
theorem dX67_tick_22 : decode cX67_tick 22 = .ok (.ireturn, 1) := by decide +kernel
theorem dX67_tick_23 : decode cX67_tick 23 = .ok (.iconst 0, 1) := by decide +kernel
theorem dX67_tick_24 : decode cX67_tick 24 = .ok (.istore_n 3, 1) := by decide +kernel
theorem dX67_tick_25 : decode cX67_tick 25 = .ok (.iconst 0, 1) := by decide +kernel
theorem dX67_tick_26 : decode cX67_tick 26 = .ok (.istore 4, 2) := by decide +kernel
theorem dX67_tick_28 : decode cX67_tick 28 = .ok (.iload 4, 2) := by decide +kernel
theorem dX67_tick_30 : decode cX67_tick 30 = .ok (.iload_n 2, 1) := by decide +kernel
theorem dX67_tick_31 : decode cX67_tick 31 = .ok (.if_icmp .ge 25, 3) := by decide +kernel
theorem dX67_tick_34 : decode cX67_tick 34 = .ok (.aload_n 0, 1) := by decide +kernel
theorem dX67_tick_35 : decode cX67_tick 35 = .ok (.iload_n 1, 1) := by decide +kernel
theorem dX67_tick_36 : decode cX67_tick 36 = .ok (.invokevirtual 787, 3) := by decide +kernel
theorem dX67_tick_39 : decode cX67_tick 39 = .ok (.ifCond .eq 9, 3) := by decide +kernel
theorem dX67_tick_42 : decode cX67_tick 42 = .ok (.iload_n 3, 1) := by decide +kernel
theorem dX67_tick_43 : decode cX67_tick 43 = .ok (.iconst 1, 1) := by decide +kernel
theorem dX67_tick_44 : decode cX67_tick 44 = .ok (.iadd, 1) := by decide +kernel
theorem dX67_tick_45 : decode cX67_tick 45 = .ok (.goto 4, 3) := by decide +kernel
theorem dX67_tick_48 : decode cX67_tick 48 = .ok (.iload_n 3, 1) := by decide +kernel
theorem dX67_tick_49 : decode cX67_tick 49 = .ok (.istore_n 3, 1) := by decide +kernel
theorem dX67_tick_50 : decode cX67_tick 50 = .ok (.iinc 4 1, 3) := by decide +kernel
theorem dX67_tick_53 : decode cX67_tick 53 = .ok (.goto (-25), 3) := by decide +kernel
theorem dX67_tick_56 : decode cX67_tick 56 = .ok (.iload_n 3, 1) := by decide +kernel
theorem dX67_tick_57 : decode cX67_tick 57 = .ok (.ireturn, 1) := by decide +kernel
theorem zy_X67_tick : yX67_tick.cls ≠ "java/lang/invoke/MethodHandle" ∧ yX67_tick.cls ≠ "java/lang/invoke/VarHandle" ∧ (parseMethodDescriptor yX67_tick.desc).map (fun d => d.parameters.length) = some 2 := by decide +kernel
theorem w_fX67_tick_J49 {K : zK} (E : zE K cX67_tick "RingHouseModel" (some .int) 9) (hN : zNl K = 5) (hT : zTr K = (some 0)) (x1 : Int) (x2 : Int) (x4 : Int) (s0 : Int) {r28 : Int × Int → zX} (hr28 : ∀ s : Int × Int, zR K 28 [(0, 69, 0), (1, 0, x1), (2, 0, x2), (3, 0, s.1), (4, 0, s.2)] [] (r28 s)) : zR K 49 [(0, 69, 0), (1, 0, x1), (2, 0, x2), (4, 0, x4)] [(0, s0)] (fX67_tick_J49 r28 x1 x2 x4 s0) := by
  refine r_istore_n (ls' := [(3, 0, s0), (0, 69, 0), (1, 0, x1), (2, 0, x2), (4, 0, x4)]) E dX67_tick_49 rfl (by rw [hN]; decide) rfl ?_
  refine r_iinc (ls' := fun v4 => [(4, 0, v4), (3, 0, s0), (0, 69, 0), (1, 0, x1), (2, 0, x2)]) E 4 rfl (by rw [hN]; decide) (fun _ => rfl) dX67_tick_50 (fun v4 _ => ?_)
  refine r_goto E 28 (by decide) dX67_tick_53 ?_
  refine r_pick E [2, 3, 4, 1, 0] rfl ?_
  exact hr28 (s0, v4)
theorem w_fX67_tick_B28 {K : zK} (E : zE K cX67_tick "RingHouseModel" (some .int) 9) (hN : zNl K = 5) (hT : zTr K = (some 0)) (x1 : Int) (x2 : Int) : ∀ r28 : Int × Int → zX, (∀ s : Int × Int, zR K 28 [(0, 69, 0), (1, 0, x1), (2, 0, x2), (3, 0, s.1), (4, 0, s.2)] [] (r28 s)) → ∀ s : Int × Int, zR K 28 [(0, 69, 0), (1, 0, x1), (2, 0, x2), (3, 0, s.1), (4, 0, s.2)] [] (fX67_tick_B28 x1 x2 r28 s) := by
  intro r28 hr28 s
  obtain ⟨x3, x4⟩ := s
  refine r_iload E dX67_tick_28 4 rfl ?_
  refine r_iload_n E dX67_tick_30 rfl 2 rfl ?_
  refine r_icmp_ge E 56 (by decide) dX67_tick_31 (fun _ => ?_) (fun _ => ?_)
  · refine r_iload_n E dX67_tick_56 rfl 3 rfl ?_
    exact r_ireturn E rfl hT dX67_tick_57
  · refine r_aload_n E dX67_tick_34 rfl 0 rfl ?_
    refine r_iload_n E dX67_tick_35 rfl 1 rfl ?_
    refine r_callV E [(0, x1)] [] rfl zc_69 zr_69 (fun o _ => ⟨_, zw_X67.1 o, rfl⟩) (lw_V q3826 q3828 qs117 q294 q3829) dX67_tick_36 zy_X67_isTicked rfl (by omega) (by decide) (Nat.le_of_ble_eq_true rfl) (by decide) (fun l G => k_fX67_isTicked l G x1) (fun v3 => ?_)
    refine r_if_eq E 48 (by decide) dX67_tick_39 (fun _ => ?_) (fun _ => ?_)
    · refine r_iload_n E dX67_tick_48 rfl 3 rfl ?_
      refine r_pick E [0, 1, 2, 4] rfl ?_
      exact w_fX67_tick_J49 E hN hT x1 x2 x4 x3 hr28
    · refine r_iload_n E dX67_tick_42 rfl 3 rfl ?_
      refine r_iconst E dX67_tick_43 (zkI (by decide) (by decide)) ?_
      refine r_iadd E dX67_tick_44 ?_
      refine r_goto E 49 (by decide) dX67_tick_45 ?_
      refine r_pick E [0, 1, 2, 4] rfl ?_
      exact w_fX67_tick_J49 E hN hT x1 x2 x4 (zi (x3 + 1)) hr28
theorem w_fX67_tick {K : zK} (E : zE K cX67_tick "RingHouseModel" (some .int) 9) (hN : zNl K = 5) (hT : zTr K = (some 0)) (x1 : Int) (x2 : Int) : zR K 0 [(0, 69, 0), (1, 0, x1), (2, 0, x2)] [] (fX67_tick x1 x2) := by
  refine r_aload_n E dX67_tick_0 rfl 0 rfl ?_
  refine r_iload_n E dX67_tick_1 rfl 1 rfl ?_
  refine r_callV E [(0, x1)] [] rfl zc_69 zr_69 (fun o _ => ⟨_, zw_X67.1 o, rfl⟩) (lw_V q3813 q3815 qs116 q294 q3816) dX67_tick_2 zy_X67_isThere rfl (by omega) (by decide) (Nat.le_of_ble_eq_true rfl) (by decide) (fun l G => k_fX67_isThere l G x1) (fun v1 => ?_)
  refine r_if_eq E 20 (by decide) dX67_tick_5 (fun _ => ?_) (fun _ => ?_)
  · refine r_bipush E dX67_tick_20 (by decide) (zkI (by decide) (by decide)) ?_
    exact r_ireturn E rfl hT dX67_tick_22
  · refine r_iload_n E dX67_tick_8 rfl 2 rfl ?_
    refine r_i2l E dX67_tick_9 ?_
    refine r_lconst (v := 1) E dX67_tick_10 (by decide) (zkJ (by decide) (by decide)) ?_
    refine r_ldc2 (v := 1000) E dX67_tick_11 q3825 (by decide) (zkJ (by decide) (by decide)) ?_
    refine r_callS E [(1, x2), (1, 1), (1, 1000)] [] rfl q3619 q3620 q294 q3621 dX67_tick_14 zy_X67_in rfl (by omega) (by decide) (Nat.le_of_ble_eq_true rfl) (fun l G => k_fX67_in l G x2 1 1000) (fun v2 => ?_)
    refine r_if_ne E 23 (by decide) dX67_tick_17 (fun _ => ?_) (fun _ => ?_)
    · refine r_iconst E dX67_tick_23 (zkI (by decide) (by decide)) ?_
      refine r_istore_n (ls' := [(3, 0, 0), (0, 69, 0), (1, 0, x1), (2, 0, x2)]) E dX67_tick_24 rfl (by rw [hN]; decide) rfl ?_
      refine r_iconst E dX67_tick_25 (zkI (by decide) (by decide)) ?_
      refine r_istore (ls' := [(4, 0, 0), (3, 0, 0), (0, 69, 0), (1, 0, x1), (2, 0, x2)]) E dX67_tick_26 (by rw [hN]; decide) rfl ?_
      refine r_pick E [2, 3, 4, 1, 0] rfl ?_
      exact r_loop (L := fun s => [(0, 69, 0), (1, 0, x1), (2, 0, x2), (3, 0, s.1), (4, 0, s.2)]) (w_fX67_tick_B28 E hN hT x1 x2) zBIG (0, 0)
    · refine r_bipush E dX67_tick_20 (by decide) (zkI (by decide) (by decide)) ?_
      exact r_ireturn E rfl hT dX67_tick_22
theorem k_fX67_tick (l : Launch) (G : zG) (x1 : Int) (x2 : Int) : zCt l G yX67_tick cX67_tick 5 (some .int) 9 [(69, 0), (0, x1), (0, x2)] (some 0) (fX67_tick x1 x2) := zCt.of (by decide) (Nat.le_of_ble_eq_true rfl) (fun K E _ _ hN hT => w_fX67_tick E hN hT x1 x2)
theorem dX67_schedule_0 : decode cX67_schedule 0 = .ok (.iload_n 1, 1) := by decide +kernel
theorem dX67_schedule_1 : decode cX67_schedule 1 = .ok (.i2l, 1) := by decide +kernel
theorem dX67_schedule_2 : decode cX67_schedule 2 = .ok (.lconst 0, 1) := by decide +kernel
theorem dX67_schedule_3 : decode cX67_schedule 3 = .ok (.ldc2_w 496, 3) := by decide +kernel
theorem dX67_schedule_6 : decode cX67_schedule 6 = .ok (.invokestatic 363, 3) := by decide +kernel
theorem dX67_schedule_9 : decode cX67_schedule 9 = .ok (.ifCond .eq 17, 3) := by decide +kernel
theorem dX67_schedule_12 : decode cX67_schedule 12 = .ok (.iload_n 2, 1) := by decide +kernel
theorem dX67_schedule_13 : decode cX67_schedule 13 = .ok (.i2l, 1) := by decide +kernel
theorem dX67_schedule_14 : decode cX67_schedule 14 = .ok (.ldc2_w 422, 3) := by decide +kernel
theorem dX67_schedule_17 : decode cX67_schedule 17 = .ok (.ldc2_w 476, 3) := by decide +kernel
theorem dX67_schedule_20 : decode cX67_schedule 20 = .ok (.invokestatic 363, 3) := by decide +kernel
theorem dX67_schedule_23 : decode cX67_schedule 23 = .ok (.ifCond .ne 6, 3) := by decide +kernel
theorem dX67_schedule_26 : decode cX67_schedule 26 = .ok (.bipush (-8), 2) := by decide +kernel
theorem dX67_schedule_28 : decode cX67_schedule 28 = .ok (.ireturn, 1) := by decide +kernel
theorem dX67_schedule_29 : decode cX67_schedule 29 = .ok (.aload_n 0, 1) := by decide +kernel
theorem dX67_schedule_30 : decode cX67_schedule 30 = .ok (.getfield 200, 3) := by decide +kernel
theorem dX67_schedule_33 : decode cX67_schedule 33 = .ok (.iload_n 1, 1) := by decide +kernel
theorem dX67_schedule_34 : decode cX67_schedule 34 = .ok (.iaload, 1) := by decide +kernel
theorem dX67_schedule_35 : decode cX67_schedule 35 = .ok (.istore_n 3, 1) := by decide +kernel
theorem dX67_schedule_36 : decode cX67_schedule 36 = .ok (.aload_n 0, 1) := by decide +kernel
theorem dX67_schedule_37 : decode cX67_schedule 37 = .ok (.getfield 200, 3) := by decide +kernel
theorem dX67_schedule_40 : decode cX67_schedule 40 = .ok (.iload_n 1, 1) := by decide +kernel
theorem dX67_schedule_41 : decode cX67_schedule 41 = .ok (.iload_n 2, 1) := by decide +kernel
theorem dX67_schedule_42 : decode cX67_schedule 42 = .ok (.iastore, 1) := by decide +kernel
theorem dX67_schedule_43 : decode cX67_schedule 43 = .ok (.iload_n 3, 1) := by decide +kernel
theorem dX67_schedule_44 : decode cX67_schedule 44 = .ok (.ireturn, 1) := by decide +kernel
theorem zy_X67_schedule : yX67_schedule.cls ≠ "java/lang/invoke/MethodHandle" ∧ yX67_schedule.cls ≠ "java/lang/invoke/VarHandle" ∧ (parseMethodDescriptor yX67_schedule.desc).map (fun d => d.parameters.length) = some 2 := by decide +kernel
theorem w_fX67_schedule {K : zK} (E : zE K cX67_schedule "RingHouseModel" (some .int) 1) (hN : zNl K = 4) (hT : zTr K = (some 0)) (x1 : Int) (x2 : Int) : zR K 0 [(0, 69, 0), (1, 0, x1), (2, 0, x2)] [] (fX67_schedule x1 x2) := by
  refine r_iload_n E dX67_schedule_0 rfl 1 rfl ?_
  refine r_i2l E dX67_schedule_1 ?_
  refine r_lconst (v := 0) E dX67_schedule_2 (by decide) (zkJ (by decide) (by decide)) ?_
  refine r_ldc2 (v := 15) E dX67_schedule_3 q3777 (by decide) (zkJ (by decide) (by decide)) ?_
  refine r_callS E [(1, x1), (1, 0), (1, 15)] [] rfl q3619 q3620 q294 q3621 dX67_schedule_6 zy_X67_in rfl (by omega) (by decide) (Nat.le_of_ble_eq_true rfl) (fun l G => k_fX67_in l G x1 0 15) (fun v1 => ?_)
  refine r_if_eq E 26 (by decide) dX67_schedule_9 (fun _ => ?_) (fun _ => ?_)
  · refine r_bipush E dX67_schedule_26 (by decide) (zkI (by decide) (by decide)) ?_
    exact r_ireturn E rfl hT dX67_schedule_28
  · refine r_iload_n E dX67_schedule_12 rfl 2 rfl ?_
    refine r_i2l E dX67_schedule_13 ?_
    refine r_ldc2 (v := (-1)) E dX67_schedule_14 q3759 (by decide) (zkJ (by decide) (by decide)) ?_
    refine r_ldc2 (v := 7) E dX67_schedule_17 q3709 (by decide) (zkJ (by decide) (by decide)) ?_
    refine r_callS E [(1, x2), (1, (-1)), (1, 7)] [] rfl q3619 q3620 q294 q3621 dX67_schedule_20 zy_X67_in rfl (by omega) (by decide) (Nat.le_of_ble_eq_true rfl) (fun l G => k_fX67_in l G x2 (-1) 7) (fun v2 => ?_)
    refine r_if_ne E 29 (by decide) dX67_schedule_23 (fun _ => ?_) (fun _ => ?_)
    · refine r_aload_n E dX67_schedule_29 rfl 0 rfl ?_
      refine r_gec (y := 0) E zc_69 dX67_schedule_30 q3278 zr_69 (zh_6863 (by decide)) (by decide) ?_
      refine r_iload_n E dX67_schedule_33 rfl 1 rfl ?_
      refine r_iaload E zc_6863 za_6863 zt_6863 zx_6863 rfl rfl dX67_schedule_34 (by decide) (fun v3 => ?_)
      refine r_istore_n (ls' := [(3, 0, v3), (0, 69, 0), (1, 0, x1), (2, 0, x2)]) E dX67_schedule_35 rfl (by rw [hN]; decide) rfl ?_
      refine r_aload_n E dX67_schedule_36 rfl 1 rfl ?_
      refine r_gec (y := 0) E zc_69 dX67_schedule_37 q3278 zr_69 (zh_6863 (by decide)) (by decide) ?_
      refine r_iload_n E dX67_schedule_40 rfl 2 rfl ?_
      refine r_iload_n E dX67_schedule_41 rfl 3 rfl ?_
      refine r_iastore E zc_6863 za_6863 zt_6863 zo_6863 zx_6863 rfl rfl dX67_schedule_42 (by decide) ?_
      refine r_iload_n E dX67_schedule_43 rfl 0 rfl ?_
      exact r_ireturn E rfl hT dX67_schedule_44
    · refine r_bipush E dX67_schedule_26 (by decide) (zkI (by decide) (by decide)) ?_
      exact r_ireturn E rfl hT dX67_schedule_28
theorem k_fX67_schedule (l : Launch) (G : zG) (x1 : Int) (x2 : Int) : zCt l G yX67_schedule cX67_schedule 4 (some .int) 1 [(69, 0), (0, x1), (0, x2)] (some 0) (fX67_schedule x1 x2) := zCt.of (by decide) (Nat.le_of_ble_eq_true rfl) (fun K E _ _ hN hT => w_fX67_schedule E hN hT x1 x2)
theorem dX67_run_0 : decode cX67_run 0 = .ok (.iload_n 1, 1) := by decide +kernel
theorem dX67_run_1 : decode cX67_run 1 = .ok (.i2l, 1) := by decide +kernel
theorem dX67_run_2 : decode cX67_run 2 = .ok (.lconst 1, 1) := by decide +kernel
theorem dX67_run_3 : decode cX67_run 3 = .ok (.ldc2_w 790, 3) := by decide +kernel
theorem dX67_run_6 : decode cX67_run 6 = .ok (.invokestatic 363, 3) := by decide +kernel
theorem dX67_run_9 : decode cX67_run 9 = .ok (.ifCond .ne 6, 3) := by decide +kernel
theorem dX67_run_12 : decode cX67_run 12 = .ok (.bipush (-8), 2) := by decide +kernel
theorem dX67_run_14 : decode cX67_run 14 = .ok (.ireturn, 1) := by decide +kernel
theorem dX67_run_15 : decode cX67_run 15 = .ok (.iconst 0, 1) := by decide +kernel
theorem dX67_run_16 : decode cX67_run 16 = .ok (.istore_n 2, 1) := by decide +kernel
theorem dX67_run_17 : decode cX67_run 17 = .ok (.iconst 0, 1) := by decide +kernel
theorem dX67_run_18 : decode cX67_run 18 = .ok (.istore_n 3, 1) := by decide +kernel
theorem dX67_run_19 : decode cX67_run 19 = .ok (.iload_n 3, 1) := by decide +kernel
theorem dX67_run_20 : decode cX67_run 20 = .ok (.iload_n 1, 1) := by decide +kernel
theorem dX67_run_21 : decode cX67_run 21 = .ok (.if_icmp .ge 50, 3) := by decide +kernel
theorem dX67_run_24 : decode cX67_run 24 = .ok (.aload_n 0, 1) := by decide +kernel
theorem dX67_run_25 : decode cX67_run 25 = .ok (.getfield 200, 3) := by decide +kernel
theorem dX67_run_28 : decode cX67_run 28 = .ok (.aload_n 0, 1) := by decide +kernel
theorem dX67_run_29 : decode cX67_run 29 = .ok (.getfield 792, 3) := by decide +kernel
theorem dX67_run_32 : decode cX67_run 32 = .ok (.iaload, 1) := by decide +kernel
theorem dX67_run_33 : decode cX67_run 33 = .ok (.istore 4, 2) := by decide +kernel
theorem dX67_run_35 : decode cX67_run 35 = .ok (.aload_n 0, 1) := by decide +kernel
theorem dX67_run_36 : decode cX67_run 36 = .ok (.aload_n 0, 1) := by decide +kernel
theorem dX67_run_37 : decode cX67_run 37 = .ok (.getfield 792, 3) := by decide +kernel
theorem dX67_run_40 : decode cX67_run 40 = .ok (.iconst 1, 1) := by decide +kernel
theorem dX67_run_41 : decode cX67_run 41 = .ok (.iadd, 1) := by decide +kernel
theorem dX67_run_42 : decode cX67_run 42 = .ok (.bipush 16, 2) := by decide +kernel
theorem dX67_run_44 : decode cX67_run 44 = .ok (.irem, 1) := by decide +kernel
theorem dX67_run_45 : decode cX67_run 45 = .ok (.putfield 792, 3) := by decide +kernel
theorem dX67_run_48 : decode cX67_run 48 = .ok (.aload_n 0, 1) := by decide +kernel
theorem dX67_run_49 : decode cX67_run 49 = .ok (.iload 4, 2) := by decide +kernel
theorem dX67_run_51 : decode cX67_run 51 = .ok (.invokevirtual 787, 3) := by decide +kernel
theorem dX67_run_54 : decode cX67_run 54 = .ok (.ifCond .eq 9, 3) := by decide +kernel
theorem dX67_run_57 : decode cX67_run 57 = .ok (.iload_n 2, 1) := by decide +kernel
theorem dX67_run_58 : decode cX67_run 58 = .ok (.iconst 1, 1) := by decide +kernel
theorem dX67_run_59 : decode cX67_run 59 = .ok (.iadd, 1) := by decide +kernel
theorem dX67_run_60 : decode cX67_run 60 = .ok (.goto 4, 3) := by decide +kernel
theorem dX67_run_63 : decode cX67_run 63 = .ok (.iload_n 2, 1) := by decide +kernel
theorem dX67_run_64 : decode cX67_run 64 = .ok (.istore_n 2, 1) := by decide +kernel
theorem dX67_run_65 : decode cX67_run 65 = .ok (.iinc 3 1, 3) := by decide +kernel
theorem dX67_run_68 : decode cX67_run 68 = .ok (.goto (-49), 3) := by decide +kernel
theorem dX67_run_71 : decode cX67_run 71 = .ok (.iload_n 2, 1) := by decide +kernel
theorem dX67_run_72 : decode cX67_run 72 = .ok (.ireturn, 1) := by decide +kernel
theorem zy_X67_run : yX67_run.cls ≠ "java/lang/invoke/MethodHandle" ∧ yX67_run.cls ≠ "java/lang/invoke/VarHandle" ∧ (parseMethodDescriptor yX67_run.desc).map (fun d => d.parameters.length) = some 1 := by decide +kernel
theorem w_fX67_run_J64 {K : zK} (E : zE K cX67_run "RingHouseModel" (some .int) 9) (hN : zNl K = 5) (hT : zTr K = (some 0)) (x1 : Int) (x3 : Int) (s0 : Int) {r19 : Int × Int → zX} (hr19 : ∀ s : Int × Int, zR K 19 [(0, 69, 0), (1, 0, x1), (2, 0, s.1), (3, 0, s.2)] [] (r19 s)) : zR K 64 [(0, 69, 0), (1, 0, x1), (3, 0, x3)] [(0, s0)] (fX67_run_J64 r19 x1 x3 s0) := by
  refine r_istore_n (ls' := [(2, 0, s0), (0, 69, 0), (1, 0, x1), (3, 0, x3)]) E dX67_run_64 rfl (by rw [hN]; decide) rfl ?_
  refine r_iinc (ls' := fun v6 => [(3, 0, v6), (2, 0, s0), (0, 69, 0), (1, 0, x1)]) E 3 rfl (by rw [hN]; decide) (fun _ => rfl) dX67_run_65 (fun v6 _ => ?_)
  refine r_goto E 19 (by decide) dX67_run_68 ?_
  refine r_pick E [2, 3, 1, 0] rfl ?_
  exact hr19 (s0, v6)
theorem w_fX67_run_B19 {K : zK} (E : zE K cX67_run "RingHouseModel" (some .int) 9) (hN : zNl K = 5) (hT : zTr K = (some 0)) (x1 : Int) : ∀ r19 : Int × Int → zX, (∀ s : Int × Int, zR K 19 [(0, 69, 0), (1, 0, x1), (2, 0, s.1), (3, 0, s.2)] [] (r19 s)) → ∀ s : Int × Int, zR K 19 [(0, 69, 0), (1, 0, x1), (2, 0, s.1), (3, 0, s.2)] [] (fX67_run_B19 x1 r19 s) := by
  intro r19 hr19 s
  obtain ⟨x2, x3⟩ := s
  refine r_iload_n E dX67_run_19 rfl 3 rfl ?_
  refine r_iload_n E dX67_run_20 rfl 1 rfl ?_
  refine r_icmp_ge E 71 (by decide) dX67_run_21 (fun _ => ?_) (fun _ => ?_)
  · refine r_iload_n E dX67_run_71 rfl 2 rfl ?_
    exact r_ireturn E rfl hT dX67_run_72
  · refine r_aload_n E dX67_run_24 rfl 0 rfl ?_
    refine r_gec (y := 0) E zc_69 dX67_run_25 q3278 zr_69 (zh_6863 (by decide)) (by decide) ?_
    refine r_aload_n E dX67_run_28 rfl 0 rfl ?_
    refine r_get E zc_69 zt_6864 dX67_run_29 q3279 zr_69 (zg_6864 _) (by decide) (fun v2 => ?_)
    refine r_iaload E zc_6863 za_6863 zt_6863 zx_6863 rfl rfl dX67_run_32 (by decide) (fun v3 => ?_)
    refine r_istore (ls' := [(4, 0, v3), (0, 69, 0), (1, 0, x1), (2, 0, x2), (3, 0, x3)]) E dX67_run_33 (by rw [hN]; decide) rfl ?_
    refine r_aload_n E dX67_run_35 rfl 1 rfl ?_
    refine r_aload_n E dX67_run_36 rfl 1 rfl ?_
    refine r_get E zc_69 zt_6864 dX67_run_37 q3279 zr_69 (zg_6864 _) (by decide) (fun v4 => ?_)
    refine r_iconst E dX67_run_40 (zkI (by decide) (by decide)) ?_
    refine r_iadd E dX67_run_41 ?_
    refine r_bipush E dX67_run_42 (by decide) (zkI (by decide) (by decide)) ?_
    refine r_irem E (by decide) dX67_run_44 ?_
    refine r_put E zc_69 zt_6864 zo_6864 dX67_run_45 q3279 zr_69 zw_X67 zp_6864 (fun _ => rfl) (fun _ => rfl) (by decide) ?_
    refine r_aload_n E dX67_run_48 rfl 1 rfl ?_
    refine r_iload E dX67_run_49 0 rfl ?_
    refine r_callV E [(0, v3)] [] rfl zc_69 zr_69 (fun o _ => ⟨_, zw_X67.1 o, rfl⟩) (lw_V q3826 q3828 qs117 q294 q3829) dX67_run_51 zy_X67_isTicked rfl (by omega) (by decide) (Nat.le_of_ble_eq_true rfl) (by decide) (fun l G => k_fX67_isTicked l G v3) (fun v5 => ?_)
    refine r_if_eq E 63 (by decide) dX67_run_54 (fun _ => ?_) (fun _ => ?_)
    · refine r_iload_n E dX67_run_63 rfl 3 rfl ?_
      refine r_pick E [1, 2, 4] rfl ?_
      exact w_fX67_run_J64 E hN hT x1 x3 x2 hr19
    · refine r_iload_n E dX67_run_57 rfl 3 rfl ?_
      refine r_iconst E dX67_run_58 (zkI (by decide) (by decide)) ?_
      refine r_iadd E dX67_run_59 ?_
      refine r_goto E 64 (by decide) dX67_run_60 ?_
      refine r_pick E [1, 2, 4] rfl ?_
      exact w_fX67_run_J64 E hN hT x1 x3 (zi (x2 + 1)) hr19
theorem w_fX67_run {K : zK} (E : zE K cX67_run "RingHouseModel" (some .int) 9) (hN : zNl K = 5) (hT : zTr K = (some 0)) (x1 : Int) : zR K 0 [(0, 69, 0), (1, 0, x1)] [] (fX67_run x1) := by
  refine r_iload_n E dX67_run_0 rfl 1 rfl ?_
  refine r_i2l E dX67_run_1 ?_
  refine r_lconst (v := 1) E dX67_run_2 (by decide) (zkJ (by decide) (by decide)) ?_
  refine r_ldc2 (v := 2000) E dX67_run_3 q4091 (by decide) (zkJ (by decide) (by decide)) ?_
  refine r_callS E [(1, x1), (1, 1), (1, 2000)] [] rfl q3619 q3620 q294 q3621 dX67_run_6 zy_X67_in rfl (by omega) (by decide) (Nat.le_of_ble_eq_true rfl) (fun l G => k_fX67_in l G x1 1 2000) (fun v1 => ?_)
  refine r_if_ne E 15 (by decide) dX67_run_9 (fun _ => ?_) (fun _ => ?_)
  · refine r_iconst E dX67_run_15 (zkI (by decide) (by decide)) ?_
    refine r_istore_n (ls' := [(2, 0, 0), (0, 69, 0), (1, 0, x1)]) E dX67_run_16 rfl (by rw [hN]; decide) rfl ?_
    refine r_iconst E dX67_run_17 (zkI (by decide) (by decide)) ?_
    refine r_istore_n (ls' := [(3, 0, 0), (2, 0, 0), (0, 69, 0), (1, 0, x1)]) E dX67_run_18 rfl (by rw [hN]; decide) rfl ?_
    refine r_pick E [2, 3, 1, 0] rfl ?_
    exact r_loop (L := fun s => [(0, 69, 0), (1, 0, x1), (2, 0, s.1), (3, 0, s.2)]) (w_fX67_run_B19 E hN hT x1) zBIG (0, 0)
  · refine r_bipush E dX67_run_12 (by decide) (zkI (by decide) (by decide)) ?_
    exact r_ireturn E rfl hT dX67_run_14
theorem k_fX67_run (l : Launch) (G : zG) (x1 : Int) : zCt l G yX67_run cX67_run 5 (some .int) 9 [(69, 0), (0, x1)] (some 0) (fX67_run x1) := zCt.of (by decide) (Nat.le_of_ble_eq_true rfl) (fun K E _ _ hN hT => w_fX67_run E hN hT x1)
theorem dX67_register_0 : decode cX67_register 0 = .ok (.aload_n 0, 1) := by decide +kernel
theorem dX67_register_1 : decode cX67_register 1 = .ok (.iload_n 1, 1) := by decide +kernel
theorem dX67_register_2 : decode cX67_register 2 = .ok (.invokevirtual 782, 3) := by decide +kernel
theorem dX67_register_5 : decode cX67_register 5 = .ok (.ifCond .ne 7, 3) := by decide +kernel
theorem dX67_register_8 : decode cX67_register 8 = .ok (.ldc2_w 422, 3) := by decide +kernel
theorem dX67_register_11 : decode cX67_register 11 = .ok (.lreturn, 1) := by decide +kernel
theorem dX67_register_12 : decode cX67_register 12 = .ok (.iload_n 2, 1) := by decide +kernel
theorem dX67_register_13 : decode cX67_register 13 = .ok (.i2l, 1) := by decide +kernel
theorem dX67_register_14 : decode cX67_register 14 = .ok (.ldc2_w 409, 3) := by decide +kernel
theorem dX67_register_17 : decode cX67_register 17 = .ok (.ldc2_w 795, 3) := by decide +kernel
theorem dX67_register_20 : decode cX67_register 20 = .ok (.invokestatic 363, 3) := by decide +kernel
theorem dX67_register_23 : decode cX67_register 23 = .ok (.ifCond .eq 35, 3) := by decide +kernel
theorem dX67_register_26 : decode cX67_register 26 = .ok (.bipush 8, 2) := by decide +kernel
theorem dX67_register_28 : decode cX67_register 28 = .ok (.iload_n 1, 1) := by decide +kernel
theorem dX67_register_29 : decode cX67_register 29 = .ok (.imul, 1) := by decide +kernel
theorem dX67_register_30 : decode cX67_register 30 = .ok (.iload_n 2, 1) := by decide +kernel
theorem dX67_register_31 : decode cX67_register 31 = .ok (.iadd, 1) := by decide +kernel
theorem dX67_register_32 : decode cX67_register 32 = .ok (.bipush 16, 2) := by decide +kernel
theorem dX67_register_34 : decode cX67_register 34 = .ok (.isub, 1) := by decide +kernel
theorem dX67_register_35 : decode cX67_register 35 = .ok (.istore_n 3, 1) := by decide +kernel
theorem dX67_register_36 : decode cX67_register 36 = .ok (.aload_n 0, 1) := by decide +kernel
theorem dX67_register_37 : decode cX67_register 37 = .ok (.getfield 95, 3) := by decide +kernel
theorem dX67_register_40 : decode cX67_register 40 = .ok (.iload_n 3, 1) := by decide +kernel
theorem dX67_register_41 : decode cX67_register 41 = .ok (.iaload, 1) := by decide +kernel
theorem dX67_register_42 : decode cX67_register 42 = .ok (.aload_n 0, 1) := by decide +kernel
theorem dX67_register_43 : decode cX67_register 43 = .ok (.getfield 98, 3) := by decide +kernel
theorem dX67_register_46 : decode cX67_register 46 = .ok (.iload_n 3, 1) := by decide +kernel
theorem dX67_register_47 : decode cX67_register 47 = .ok (.iaload, 1) := by decide +kernel
theorem dX67_register_48 : decode cX67_register 48 = .ok (.aload_n 0, 1) := by decide +kernel
theorem dX67_register_49 : decode cX67_register 49 = .ok (.getfield 101, 3) := by decide +kernel
theorem dX67_register_52 : decode cX67_register 52 = .ok (.iload_n 3, 1) := by decide +kernel
theorem dX67_register_53 : decode cX67_register 53 = .ok (.iaload, 1) := by decide +kernel
theorem dX67_register_54 : decode cX67_register 54 = .ok (.invokestatic 606, 3) := by decide +kernel
theorem dX67_register_57 : decode cX67_register 57 = .ok (.lreturn, 1) := by decide +kernel
theorem dX67_register_58 : decode cX67_register 58 = .ok (.iload_n 2, 1) := by decide +kernel
theorem dX67_register_59 : decode cX67_register 59 = .ok (.i2l, 1) := by decide +kernel
theorem dX67_register_60 : decode cX67_register 60 = .ok (.ldc2_w 466, 3) := by decide +kernel
theorem dX67_register_63 : decode cX67_register 63 = .ok (.ldc2_w 580, 3) := by decide +kernel
theorem dX67_register_66 : decode cX67_register 66 = .ok (.invokestatic 363, 3) := by decide +kernel
theorem dX67_register_69 : decode cX67_register 69 = .ok (.ifCond .eq 17, 3) := by decide +kernel
theorem dX67_register_72 : decode cX67_register 72 = .ok (.aload_n 0, 1) := by decide +kernel
theorem dX67_register_73 : decode cX67_register 73 = .ok (.getfield 92, 3) := by decide +kernel
theorem dX67_register_76 : decode cX67_register 76 = .ok (.iconst 4, 1) := by decide +kernel
theorem dX67_register_77 : decode cX67_register 77 = .ok (.iload_n 1, 1) := by decide +kernel
theorem dX67_register_78 : decode cX67_register 78 = .ok (.imul, 1) := by decide +kernel
theorem dX67_register_79 : decode cX67_register 79 = .ok (.iload_n 2, 1) := by decide +kernel
theorem dX67_register_80 : decode cX67_register 80 = .ok (.iadd, 1) := by decide +kernel
theorem dX67_register_81 : decode cX67_register 81 = .ok (.iconst 2, 1) := by decide +kernel
theorem dX67_register_82 : decode cX67_register 82 = .ok (.isub, 1) := by decide +kernel
theorem dX67_register_83 : decode cX67_register 83 = .ok (.iaload, 1) := by decide +kernel
theorem dX67_register_84 : decode cX67_register 84 = .ok (.i2l, 1) := by decide +kernel
theorem dX67_register_85 : decode cX67_register 85 = .ok (.lreturn, 1) := by decide +kernel
theorem dX67_register_86 : decode cX67_register 86 = .ok (.iload_n 2, 1) := by decide +kernel
theorem dX67_register_87 : decode cX67_register 87 = .ok (.tableswitch 125 0 10 #[57, 64, 125, 125, 125, 125, 71, 79, 87, 95, 110], 57) := by decide +kernel
theorem dX67_register_144 : decode cX67_register 144 = .ok (.aload_n 0, 1) := by decide +kernel
theorem dX67_register_145 : decode cX67_register 145 = .ok (.getfield 86, 3) := by decide +kernel
theorem dX67_register_148 : decode cX67_register 148 = .ok (.iload_n 1, 1) := by decide +kernel
theorem dX67_register_149 : decode cX67_register 149 = .ok (.laload, 1) := by decide +kernel
theorem dX67_register_150 : decode cX67_register 150 = .ok (.lreturn, 1) := by decide +kernel
theorem dX67_register_151 : decode cX67_register 151 = .ok (.aload_n 0, 1) := by decide +kernel
theorem dX67_register_152 : decode cX67_register 152 = .ok (.getfield 89, 3) := by decide +kernel
theorem dX67_register_155 : decode cX67_register 155 = .ok (.iload_n 1, 1) := by decide +kernel
theorem dX67_register_156 : decode cX67_register 156 = .ok (.laload, 1) := by decide +kernel
theorem dX67_register_157 : decode cX67_register 157 = .ok (.lreturn, 1) := by decide +kernel
theorem dX67_register_158 : decode cX67_register 158 = .ok (.aload_n 0, 1) := by decide +kernel
theorem dX67_register_159 : decode cX67_register 159 = .ok (.getfield 104, 3) := by decide +kernel
theorem dX67_register_162 : decode cX67_register 162 = .ok (.iload_n 1, 1) := by decide +kernel
theorem dX67_register_163 : decode cX67_register 163 = .ok (.iaload, 1) := by decide +kernel
theorem dX67_register_164 : decode cX67_register 164 = .ok (.i2l, 1) := by decide +kernel
theorem dX67_register_165 : decode cX67_register 165 = .ok (.lreturn, 1) := by decide +kernel
theorem dX67_register_166 : decode cX67_register 166 = .ok (.aload_n 0, 1) := by decide +kernel
theorem dX67_register_167 : decode cX67_register 167 = .ok (.getfield 107, 3) := by decide +kernel
theorem dX67_register_170 : decode cX67_register 170 = .ok (.iload_n 1, 1) := by decide +kernel
theorem dX67_register_171 : decode cX67_register 171 = .ok (.iaload, 1) := by decide +kernel
theorem dX67_register_172 : decode cX67_register 172 = .ok (.i2l, 1) := by decide +kernel
theorem dX67_register_173 : decode cX67_register 173 = .ok (.lreturn, 1) := by decide +kernel
theorem dX67_register_174 : decode cX67_register 174 = .ok (.aload_n 0, 1) := by decide +kernel
theorem dX67_register_175 : decode cX67_register 175 = .ok (.getfield 110, 3) := by decide +kernel
theorem dX67_register_178 : decode cX67_register 178 = .ok (.iload_n 1, 1) := by decide +kernel
theorem dX67_register_179 : decode cX67_register 179 = .ok (.iaload, 1) := by decide +kernel
theorem dX67_register_180 : decode cX67_register 180 = .ok (.i2l, 1) := by decide +kernel
theorem dX67_register_181 : decode cX67_register 181 = .ok (.lreturn, 1) := by decide +kernel
theorem dX67_register_182 : decode cX67_register 182 = .ok (.aload_n 0, 1) := by decide +kernel
theorem dX67_register_183 : decode cX67_register 183 = .ok (.getfield 113, 3) := by decide +kernel
theorem dX67_register_186 : decode cX67_register 186 = .ok (.iload_n 1, 1) := by decide +kernel
theorem dX67_register_187 : decode cX67_register 187 = .ok (.baload, 1) := by decide +kernel
theorem dX67_register_188 : decode cX67_register 188 = .ok (.ifCond .eq 7, 3) := by decide +kernel
theorem dX67_register_191 : decode cX67_register 191 = .ok (.lconst 1, 1) := by decide +kernel
theorem dX67_register_192 : decode cX67_register 192 = .ok (.goto 4, 3) := by decide +kernel
theorem dX67_register_195 : decode cX67_register 195 = .ok (.lconst 0, 1) := by decide +kernel
theorem dX67_register_196 : decode cX67_register 196 = .ok (.lreturn, 1) := by decide +kernel
theorem dX67_register_197 : decode cX67_register 197 = .ok (.aload_n 0, 1) := by decide +kernel
theorem dX67_register_198 : decode cX67_register 198 = .ok (.getfield 116, 3) := by decide +kernel
theorem dX67_register_201 : decode cX67_register 201 = .ok (.iload_n 1, 1) := by decide +kernel
theorem dX67_register_202 : decode cX67_register 202 = .ok (.baload, 1) := by decide +kernel
theorem dX67_register_203 : decode cX67_register 203 = .ok (.ifCond .eq 7, 3) := by decide +kernel
theorem dX67_register_206 : decode cX67_register 206 = .ok (.lconst 1, 1) := by decide +kernel
theorem dX67_register_207 : decode cX67_register 207 = .ok (.goto 4, 3) := by decide +kernel
theorem dX67_register_210 : decode cX67_register 210 = .ok (.lconst 0, 1) := by decide +kernel
theorem dX67_register_211 : decode cX67_register 211 = .ok (.lreturn, 1) := by decide +kernel
theorem dX67_register_212 : decode cX67_register 212 = .ok (.ldc2_w 494, 3) := by decide +kernel
theorem dX67_register_215 : decode cX67_register 215 = .ok (.lreturn, 1) := by decide +kernel
theorem zy_X67_register : yX67_register.cls ≠ "java/lang/invoke/MethodHandle" ∧ yX67_register.cls ≠ "java/lang/invoke/VarHandle" ∧ (parseMethodDescriptor yX67_register.desc).map (fun d => d.parameters.length) = some 2 := by decide +kernel
theorem w_fX67_register {K : zK} (E : zE K cX67_register "RingHouseModel" (some .long) 2) (hN : zNl K = 4) (hT : zTr K = (some 1)) (x1 : Int) (x2 : Int) : zR K 0 [(0, 69, 0), (1, 0, x1), (2, 0, x2)] [] (fX67_register x1 x2) := by
  refine r_aload_n E dX67_register_0 rfl 0 rfl ?_
  refine r_iload_n E dX67_register_1 rfl 1 rfl ?_
  refine r_callV E [(0, x1)] [] rfl zc_69 zr_69 (fun o _ => ⟨_, zw_X67.1 o, rfl⟩) (lw_V q3813 q3815 qs116 q294 q3816) dX67_register_2 zy_X67_isThere rfl (by omega) (by decide) (Nat.le_of_ble_eq_true rfl) (by decide) (fun l G => k_fX67_isThere l G x1) (fun v1 => ?_)
  refine r_if_ne E 12 (by decide) dX67_register_5 (fun _ => ?_) (fun _ => ?_)
  · refine r_iload_n E dX67_register_12 rfl 2 rfl ?_
    refine r_i2l E dX67_register_13 ?_
    refine r_ldc2 (v := 16) E dX67_register_14 q3691 (by decide) (zkJ (by decide) (by decide)) ?_
    refine r_ldc2 (v := 23) E dX67_register_17 q4096 (by decide) (zkJ (by decide) (by decide)) ?_
    refine r_callS E [(1, x2), (1, 16), (1, 23)] [] rfl q3619 q3620 q294 q3621 dX67_register_20 zy_X67_in rfl (by omega) (by decide) (Nat.le_of_ble_eq_true rfl) (fun l G => k_fX67_in l G x2 16 23) (fun v2 => ?_)
    refine r_if_eq E 58 (by decide) dX67_register_23 (fun _ => ?_) (fun _ => ?_)
    · refine r_iload_n E dX67_register_58 rfl 2 rfl ?_
      refine r_i2l E dX67_register_59 ?_
      refine r_ldc2 (v := 2) E dX67_register_60 q3687 (by decide) (zkJ (by decide) (by decide)) ?_
      refine r_ldc2 (v := 5) E dX67_register_63 q3912 (by decide) (zkJ (by decide) (by decide)) ?_
      refine r_callS E [(1, x2), (1, 2), (1, 5)] [] rfl q3619 q3620 q294 q3621 dX67_register_66 zy_X67_in rfl (by omega) (by decide) (Nat.le_of_ble_eq_true rfl) (fun l G => k_fX67_in l G x2 2 5) (fun v3 => ?_)
      refine r_if_eq E 86 (by decide) dX67_register_69 (fun _ => ?_) (fun _ => ?_)
      · refine r_iload_n E dX67_register_86 rfl 2 rfl ?_
        refine r_tabc E dX67_register_87 0 144 (by decide) (by decide) rfl (by decide) (fun _ => ?_) (fun ht4 => ?_)
        · refine r_aload_n E dX67_register_144 rfl 0 rfl ?_
          refine r_gec (y := 0) E zc_69 dX67_register_145 q3240 zr_69 (zh_6825 (by decide)) (by decide) ?_
          refine r_iload_n E dX67_register_148 rfl 1 rfl ?_
          refine r_laload E zc_6825 za_6825 zt_6825 zx_6825 rfl rfl dX67_register_149 (by decide) (fun v5 => ?_)
          exact r_lreturn E rfl hT dX67_register_150
        · refine r_tabc E dX67_register_87 1 151 (by decide) (by decide) rfl (by decide) (fun _ => ?_) (fun ht6 => ?_)
          · refine r_aload_n E dX67_register_151 rfl 0 rfl ?_
            refine r_gec (y := 0) E zc_69 dX67_register_152 q3241 zr_69 (zh_6826 (by decide)) (by decide) ?_
            refine r_iload_n E dX67_register_155 rfl 1 rfl ?_
            refine r_laload E zc_6826 za_6826 zt_6826 zx_6826 rfl rfl dX67_register_156 (by decide) (fun v7 => ?_)
            exact r_lreturn E rfl hT dX67_register_157
          · refine r_tabc E dX67_register_87 6 158 (by decide) (by decide) rfl (by decide) (fun _ => ?_) (fun ht8 => ?_)
            · refine r_aload_n E dX67_register_158 rfl 0 rfl ?_
              refine r_gec (y := 0) E zc_69 dX67_register_159 q3246 zr_69 (zh_6831 (by decide)) (by decide) ?_
              refine r_iload_n E dX67_register_162 rfl 1 rfl ?_
              refine r_iaload E zc_6831 za_6831 zt_6831 zx_6831 rfl rfl dX67_register_163 (by decide) (fun v9 => ?_)
              refine r_i2l E dX67_register_164 ?_
              exact r_lreturn E rfl hT dX67_register_165
            · refine r_tabc E dX67_register_87 7 166 (by decide) (by decide) rfl (by decide) (fun _ => ?_) (fun ht10 => ?_)
              · refine r_aload_n E dX67_register_166 rfl 0 rfl ?_
                refine r_gec (y := 0) E zc_69 dX67_register_167 q3247 zr_69 (zh_6832 (by decide)) (by decide) ?_
                refine r_iload_n E dX67_register_170 rfl 1 rfl ?_
                refine r_iaload E zc_6832 za_6832 zt_6832 zx_6832 rfl rfl dX67_register_171 (by decide) (fun v11 => ?_)
                refine r_i2l E dX67_register_172 ?_
                exact r_lreturn E rfl hT dX67_register_173
              · refine r_tabc E dX67_register_87 8 174 (by decide) (by decide) rfl (by decide) (fun _ => ?_) (fun ht12 => ?_)
                · refine r_aload_n E dX67_register_174 rfl 0 rfl ?_
                  refine r_gec (y := 0) E zc_69 dX67_register_175 q3248 zr_69 (zh_6833 (by decide)) (by decide) ?_
                  refine r_iload_n E dX67_register_178 rfl 1 rfl ?_
                  refine r_iaload E zc_6833 za_6833 zt_6833 zx_6833 rfl rfl dX67_register_179 (by decide) (fun v13 => ?_)
                  refine r_i2l E dX67_register_180 ?_
                  exact r_lreturn E rfl hT dX67_register_181
                · refine r_tabc E dX67_register_87 9 182 (by decide) (by decide) rfl (by decide) (fun _ => ?_) (fun ht14 => ?_)
                  · refine r_aload_n E dX67_register_182 rfl 0 rfl ?_
                    refine r_gec (y := 0) E zc_69 dX67_register_183 q3249 zr_69 (zh_6834 (by decide)) (by decide) ?_
                    refine r_iload_n E dX67_register_186 rfl 1 rfl ?_
                    refine r_baloadz E zc_6834 za_6834 zt_6834 zx_6834 rfl rfl dX67_register_187 (by decide) (fun v15 => ?_)
                    refine r_if_eq E 195 (by decide) dX67_register_188 (fun _ => ?_) (fun _ => ?_)
                    · refine r_lconst (v := 0) E dX67_register_195 (by decide) (zkJ (by decide) (by decide)) ?_
                      exact r_lreturn E rfl hT dX67_register_196
                    · refine r_lconst (v := 1) E dX67_register_191 (by decide) (zkJ (by decide) (by decide)) ?_
                      refine r_goto E 196 (by decide) dX67_register_192 ?_
                      exact r_lreturn E rfl hT dX67_register_196
                  · refine r_tabc E dX67_register_87 10 197 (by decide) (by decide) rfl (by decide) (fun _ => ?_) (fun ht16 => ?_)
                    · refine r_aload_n E dX67_register_197 rfl 0 rfl ?_
                      refine r_gec (y := 0) E zc_69 dX67_register_198 q3250 zr_69 (zh_6835 (by decide)) (by decide) ?_
                      refine r_iload_n E dX67_register_201 rfl 1 rfl ?_
                      refine r_baloadz E zc_6835 za_6835 zt_6835 zx_6835 rfl rfl dX67_register_202 (by decide) (fun v17 => ?_)
                      refine r_if_eq E 210 (by decide) dX67_register_203 (fun _ => ?_) (fun _ => ?_)
                      · refine r_lconst (v := 0) E dX67_register_210 (by decide) (zkJ (by decide) (by decide)) ?_
                        exact r_lreturn E rfl hT dX67_register_211
                      · refine r_lconst (v := 1) E dX67_register_206 (by decide) (zkJ (by decide) (by decide)) ?_
                        refine r_goto E 211 (by decide) dX67_register_207 ?_
                        exact r_lreturn E rfl hT dX67_register_211
                    · refine r_tabd E dX67_register_87 212 [0, 1, 6, 7, 8, 9, 10] (by decide) (by decide) (by decide) ⟨ht4, ht6, ht8, ht10, ht12, ht14, ht16, trivial⟩ ?_
                      refine r_ldc2 (v := (-8)) E dX67_register_212 q3772 (by decide) (zkJ (by decide) (by decide)) ?_
                      exact r_lreturn E rfl hT dX67_register_215
      · refine r_aload_n E dX67_register_72 rfl 0 rfl ?_
        refine r_gec (y := 0) E zc_69 dX67_register_73 q3242 zr_69 (zh_6827 (by decide)) (by decide) ?_
        refine r_iconst E dX67_register_76 (zkI (by decide) (by decide)) ?_
        refine r_iload_n E dX67_register_77 rfl 1 rfl ?_
        refine r_imul E dX67_register_78 ?_
        refine r_iload_n E dX67_register_79 rfl 2 rfl ?_
        refine r_iadd E dX67_register_80 ?_
        refine r_iconst E dX67_register_81 (zkI (by decide) (by decide)) ?_
        refine r_isub E dX67_register_82 ?_
        refine r_iaload E zc_6827 za_6827 zt_6827 zx_6827 rfl rfl dX67_register_83 (by decide) (fun v18 => ?_)
        refine r_i2l E dX67_register_84 ?_
        exact r_lreturn E rfl hT dX67_register_85
    · refine r_bipush E dX67_register_26 (by decide) (zkI (by decide) (by decide)) ?_
      refine r_iload_n E dX67_register_28 rfl 1 rfl ?_
      refine r_imul E dX67_register_29 ?_
      refine r_iload_n E dX67_register_30 rfl 2 rfl ?_
      refine r_iadd E dX67_register_31 ?_
      refine r_bipush E dX67_register_32 (by decide) (zkI (by decide) (by decide)) ?_
      refine r_isub E dX67_register_34 ?_
      refine r_let E (fun v19 ev19 => ?_)
      refine r_istore_n (ls' := [(3, 0, v19), (0, 69, 0), (1, 0, x1), (2, 0, x2)]) E dX67_register_35 rfl (by rw [hN]; decide) rfl ?_
      refine r_aload_n E dX67_register_36 rfl 1 rfl ?_
      refine r_gec (y := 0) E zc_69 dX67_register_37 q3243 zr_69 (zh_6828 (by decide)) (by decide) ?_
      refine r_iload_n E dX67_register_40 rfl 0 rfl ?_
      refine r_iaload E zc_6828 za_6828 zt_6828 zx_6828 rfl rfl dX67_register_41 (by decide) (fun v20 => ?_)
      refine r_aload_n E dX67_register_42 rfl 1 rfl ?_
      refine r_gec (y := 0) E zc_69 dX67_register_43 q3244 zr_69 (zh_6829 (by decide)) (by decide) ?_
      refine r_iload_n E dX67_register_46 rfl 0 rfl ?_
      refine r_iaload E zc_6829 za_6829 zt_6829 zx_6829 rfl rfl dX67_register_47 (by decide) (fun v21 => ?_)
      refine r_aload_n E dX67_register_48 rfl 1 rfl ?_
      refine r_gec (y := 0) E zc_69 dX67_register_49 q3245 zr_69 (zh_6830 (by decide)) (by decide) ?_
      refine r_iload_n E dX67_register_52 rfl 0 rfl ?_
      refine r_iaload E zc_6830 za_6830 zt_6830 zx_6830 rfl rfl dX67_register_53 (by decide) (fun v22 => ?_)
      refine r_callS E [(0, v20), (0, v21), (0, v22)] [] rfl q4049 q4050 q294 q4051 dX67_register_54 zy_X67_pointerWord rfl (by omega) (by decide) (Nat.le_of_ble_eq_true rfl) (fun l G => k_fX67_pointerWord l G v20 v21 v22) (fun v23 => ?_)
      exact r_lreturn E rfl hT dX67_register_57
  · refine r_ldc2 (v := (-1)) E dX67_register_8 q3759 (by decide) (zkJ (by decide) (by decide)) ?_
    exact r_lreturn E rfl hT dX67_register_11
theorem k_fX67_register (l : Launch) (G : zG) (x1 : Int) (x2 : Int) : zCt l G yX67_register cX67_register 4 (some .long) 2 [(69, 0), (0, x1), (0, x2)] (some 1) (fX67_register x1 x2) := zCt.of (by decide) (Nat.le_of_ble_eq_true rfl) (fun K E _ _ hN hT => w_fX67_register E hN hT x1 x2)
theorem dX67_process_0 : decode cX67_process 0 = .ok (.aload_n 0, 1) := by decide +kernel
theorem dX67_process_1 : decode cX67_process 1 = .ok (.iload_n 1, 1) := by decide +kernel
theorem dX67_process_2 : decode cX67_process 2 = .ok (.invokevirtual 782, 3) := by decide +kernel
theorem dX67_process_5 : decode cX67_process 5 = .ok (.ifCond .ne 5, 3) := by decide +kernel
theorem dX67_process_8 : decode cX67_process 8 = .ok (.iconst (-1), 1) := by decide +kernel
theorem dX67_process_9 : decode cX67_process 9 = .ok (.ireturn, 1) := by decide +kernel
theorem dX67_process_10 : decode cX67_process 10 = .ok (.iload_n 2, 1) := by decide +kernel
theorem dX67_process_11 : decode cX67_process 11 = .ok (.i2l, 1) := by decide +kernel
theorem dX67_process_12 : decode cX67_process 12 = .ok (.ldc2_w 411, 3) := by decide +kernel
theorem dX67_process_15 : decode cX67_process 15 = .ok (.ldc2_w 797, 3) := by decide +kernel
theorem dX67_process_18 : decode cX67_process 18 = .ok (.invokestatic 363, 3) := by decide +kernel
theorem dX67_process_21 : decode cX67_process 21 = .ok (.ifCond .eq 17, 3) := by decide +kernel
theorem dX67_process_24 : decode cX67_process 24 = .ok (.aload_n 0, 1) := by decide +kernel
theorem dX67_process_25 : decode cX67_process 25 = .ok (.getfield 134, 3) := by decide +kernel
theorem dX67_process_28 : decode cX67_process 28 = .ok (.iconst 4, 1) := by decide +kernel
theorem dX67_process_29 : decode cX67_process 29 = .ok (.iload_n 1, 1) := by decide +kernel
theorem dX67_process_30 : decode cX67_process 30 = .ok (.imul, 1) := by decide +kernel
theorem dX67_process_31 : decode cX67_process 31 = .ok (.iload_n 2, 1) := by decide +kernel
theorem dX67_process_32 : decode cX67_process 32 = .ok (.iadd, 1) := by decide +kernel
theorem dX67_process_33 : decode cX67_process 33 = .ok (.bipush 8, 2) := by decide +kernel
theorem dX67_process_35 : decode cX67_process 35 = .ok (.isub, 1) := by decide +kernel
theorem dX67_process_36 : decode cX67_process 36 = .ok (.iaload, 1) := by decide +kernel
theorem dX67_process_37 : decode cX67_process 37 = .ok (.ireturn, 1) := by decide +kernel
theorem dX67_process_38 : decode cX67_process 38 = .ok (.iload_n 2, 1) := by decide +kernel
theorem dX67_process_39 : decode cX67_process 39 = .ok (.tableswitch 147 0 13 #[69, 76, 83, 90, 97, 104, 111, 118, 147, 147, 147, 147, 125, 140], 69) := by decide +kernel
theorem dX67_process_108 : decode cX67_process 108 = .ok (.aload_n 0, 1) := by decide +kernel
theorem dX67_process_109 : decode cX67_process 109 = .ok (.getfield 74, 3) := by decide +kernel
theorem dX67_process_112 : decode cX67_process 112 = .ok (.iload_n 1, 1) := by decide +kernel
theorem dX67_process_113 : decode cX67_process 113 = .ok (.iaload, 1) := by decide +kernel
theorem dX67_process_114 : decode cX67_process 114 = .ok (.ireturn, 1) := by decide +kernel
theorem dX67_process_115 : decode cX67_process 115 = .ok (.aload_n 0, 1) := by decide +kernel
theorem dX67_process_116 : decode cX67_process 116 = .ok (.getfield 77, 3) := by decide +kernel
theorem dX67_process_119 : decode cX67_process 119 = .ok (.iload_n 1, 1) := by decide +kernel
theorem dX67_process_120 : decode cX67_process 120 = .ok (.iaload, 1) := by decide +kernel
theorem dX67_process_121 : decode cX67_process 121 = .ok (.ireturn, 1) := by decide +kernel
theorem dX67_process_122 : decode cX67_process 122 = .ok (.aload_n 0, 1) := by decide +kernel
theorem dX67_process_123 : decode cX67_process 123 = .ok (.getfield 80, 3) := by decide +kernel
theorem dX67_process_126 : decode cX67_process 126 = .ok (.iload_n 1, 1) := by decide +kernel
theorem dX67_process_127 : decode cX67_process 127 = .ok (.iaload, 1) := by decide +kernel
theorem dX67_process_128 : decode cX67_process 128 = .ok (.ireturn, 1) := by decide +kernel
theorem dX67_process_129 : decode cX67_process 129 = .ok (.aload_n 0, 1) := by decide +kernel
theorem dX67_process_130 : decode cX67_process 130 = .ok (.getfield 83, 3) := by decide +kernel
theorem dX67_process_133 : decode cX67_process 133 = .ok (.iload_n 1, 1) := by decide +kernel
theorem dX67_process_134 : decode cX67_process 134 = .ok (.iaload, 1) := by decide +kernel
theorem dX67_process_135 : decode cX67_process 135 = .ok (.ireturn, 1) := by decide +kernel
theorem dX67_process_136 : decode cX67_process 136 = .ok (.aload_n 0, 1) := by decide +kernel
theorem dX67_process_137 : decode cX67_process 137 = .ok (.getfield 119, 3) := by decide +kernel
theorem dX67_process_140 : decode cX67_process 140 = .ok (.iload_n 1, 1) := by decide +kernel
theorem dX67_process_141 : decode cX67_process 141 = .ok (.iaload, 1) := by decide +kernel
theorem dX67_process_142 : decode cX67_process 142 = .ok (.ireturn, 1) := by decide +kernel
theorem dX67_process_143 : decode cX67_process 143 = .ok (.aload_n 0, 1) := by decide +kernel
theorem dX67_process_144 : decode cX67_process 144 = .ok (.getfield 149, 3) := by decide +kernel
theorem dX67_process_147 : decode cX67_process 147 = .ok (.iload_n 1, 1) := by decide +kernel
theorem dX67_process_148 : decode cX67_process 148 = .ok (.iaload, 1) := by decide +kernel
theorem dX67_process_149 : decode cX67_process 149 = .ok (.ireturn, 1) := by decide +kernel
theorem dX67_process_150 : decode cX67_process 150 = .ok (.aload_n 0, 1) := by decide +kernel
theorem dX67_process_151 : decode cX67_process 151 = .ok (.getfield 155, 3) := by decide +kernel
theorem dX67_process_154 : decode cX67_process 154 = .ok (.iload_n 1, 1) := by decide +kernel
theorem dX67_process_155 : decode cX67_process 155 = .ok (.iaload, 1) := by decide +kernel
theorem dX67_process_156 : decode cX67_process 156 = .ok (.ireturn, 1) := by decide +kernel
theorem dX67_process_157 : decode cX67_process 157 = .ok (.aload_n 0, 1) := by decide +kernel
theorem dX67_process_158 : decode cX67_process 158 = .ok (.getfield 131, 3) := by decide +kernel
theorem dX67_process_161 : decode cX67_process 161 = .ok (.iload_n 1, 1) := by decide +kernel
theorem dX67_process_162 : decode cX67_process 162 = .ok (.iaload, 1) := by decide +kernel
theorem dX67_process_163 : decode cX67_process 163 = .ok (.ireturn, 1) := by decide +kernel
theorem dX67_process_164 : decode cX67_process 164 = .ok (.aload_n 0, 1) := by decide +kernel
theorem dX67_process_165 : decode cX67_process 165 = .ok (.getfield 137, 3) := by decide +kernel
theorem dX67_process_168 : decode cX67_process 168 = .ok (.iload_n 1, 1) := by decide +kernel
theorem dX67_process_169 : decode cX67_process 169 = .ok (.baload, 1) := by decide +kernel
theorem dX67_process_170 : decode cX67_process 170 = .ok (.ifCond .eq 7, 3) := by decide +kernel
theorem dX67_process_173 : decode cX67_process 173 = .ok (.iconst 1, 1) := by decide +kernel
theorem dX67_process_174 : decode cX67_process 174 = .ok (.goto 4, 3) := by decide +kernel
theorem dX67_process_177 : decode cX67_process 177 = .ok (.iconst 0, 1) := by decide +kernel
theorem dX67_process_178 : decode cX67_process 178 = .ok (.ireturn, 1) := by decide +kernel
theorem dX67_process_179 : decode cX67_process 179 = .ok (.aload_n 0, 1) := by decide +kernel
theorem dX67_process_180 : decode cX67_process 180 = .ok (.getfield 191, 3) := by decide +kernel
theorem dX67_process_183 : decode cX67_process 183 = .ok (.iload_n 1, 1) := by decide +kernel
theorem dX67_process_184 : decode cX67_process 184 = .ok (.iaload, 1) := by decide +kernel
theorem dX67_process_185 : decode cX67_process 185 = .ok (.ireturn, 1) := by decide +kernel
theorem dX67_process_186 : decode cX67_process 186 = .ok (.bipush (-8), 2) := by decide +kernel
theorem dX67_process_188 : decode cX67_process 188 = .ok (.ireturn, 1) := by decide +kernel
theorem zy_X67_process : yX67_process.cls ≠ "java/lang/invoke/MethodHandle" ∧ yX67_process.cls ≠ "java/lang/invoke/VarHandle" ∧ (parseMethodDescriptor yX67_process.desc).map (fun d => d.parameters.length) = some 2 := by decide +kernel
theorem w_fX67_process {K : zK} (E : zE K cX67_process "RingHouseModel" (some .int) 2) (hN : zNl K = 3) (hT : zTr K = (some 0)) (x1 : Int) (x2 : Int) : zR K 0 [(0, 69, 0), (1, 0, x1), (2, 0, x2)] [] (fX67_process x1 x2) := by
  refine r_aload_n E dX67_process_0 rfl 0 rfl ?_
  refine r_iload_n E dX67_process_1 rfl 1 rfl ?_
  refine r_callV E [(0, x1)] [] rfl zc_69 zr_69 (fun o _ => ⟨_, zw_X67.1 o, rfl⟩) (lw_V q3813 q3815 qs116 q294 q3816) dX67_process_2 zy_X67_isThere rfl (by omega) (by decide) (Nat.le_of_ble_eq_true rfl) (by decide) (fun l G => k_fX67_isThere l G x1) (fun v1 => ?_)
  refine r_if_ne E 10 (by decide) dX67_process_5 (fun _ => ?_) (fun _ => ?_)
  · refine r_iload_n E dX67_process_10 rfl 2 rfl ?_
    refine r_i2l E dX67_process_11 ?_
    refine r_ldc2 (v := 8) E dX67_process_12 q3692 (by decide) (zkJ (by decide) (by decide)) ?_
    refine r_ldc2 (v := 11) E dX67_process_15 q4101 (by decide) (zkJ (by decide) (by decide)) ?_
    refine r_callS E [(1, x2), (1, 8), (1, 11)] [] rfl q3619 q3620 q294 q3621 dX67_process_18 zy_X67_in rfl (by omega) (by decide) (Nat.le_of_ble_eq_true rfl) (fun l G => k_fX67_in l G x2 8 11) (fun v2 => ?_)
    refine r_if_eq E 38 (by decide) dX67_process_21 (fun _ => ?_) (fun _ => ?_)
    · refine r_iload_n E dX67_process_38 rfl 2 rfl ?_
      refine r_tabc E dX67_process_39 0 108 (by decide) (by decide) rfl (by decide) (fun _ => ?_) (fun ht3 => ?_)
      · refine r_aload_n E dX67_process_108 rfl 0 rfl ?_
        refine r_gec (y := 0) E zc_69 dX67_process_109 q3236 zr_69 (zh_6821 (by decide)) (by decide) ?_
        refine r_iload_n E dX67_process_112 rfl 1 rfl ?_
        refine r_iaload E zc_6821 za_6821 zt_6821 zx_6821 rfl rfl dX67_process_113 (by decide) (fun v4 => ?_)
        exact r_ireturn E rfl hT dX67_process_114
      · refine r_tabc E dX67_process_39 1 115 (by decide) (by decide) rfl (by decide) (fun _ => ?_) (fun ht5 => ?_)
        · refine r_aload_n E dX67_process_115 rfl 0 rfl ?_
          refine r_gec (y := 0) E zc_69 dX67_process_116 q3237 zr_69 (zh_6822 (by decide)) (by decide) ?_
          refine r_iload_n E dX67_process_119 rfl 1 rfl ?_
          refine r_iaload E zc_6822 za_6822 zt_6822 zx_6822 rfl rfl dX67_process_120 (by decide) (fun v6 => ?_)
          exact r_ireturn E rfl hT dX67_process_121
        · refine r_tabc E dX67_process_39 2 122 (by decide) (by decide) rfl (by decide) (fun _ => ?_) (fun ht7 => ?_)
          · refine r_aload_n E dX67_process_122 rfl 0 rfl ?_
            refine r_gec (y := 0) E zc_69 dX67_process_123 q3238 zr_69 (zh_6823 (by decide)) (by decide) ?_
            refine r_iload_n E dX67_process_126 rfl 1 rfl ?_
            refine r_iaload E zc_6823 za_6823 zt_6823 zx_6823 rfl rfl dX67_process_127 (by decide) (fun v8 => ?_)
            exact r_ireturn E rfl hT dX67_process_128
          · refine r_tabc E dX67_process_39 3 129 (by decide) (by decide) rfl (by decide) (fun _ => ?_) (fun ht9 => ?_)
            · refine r_aload_n E dX67_process_129 rfl 0 rfl ?_
              refine r_gec (y := 0) E zc_69 dX67_process_130 q3239 zr_69 (zh_6824 (by decide)) (by decide) ?_
              refine r_iload_n E dX67_process_133 rfl 1 rfl ?_
              refine r_iaload E zc_6824 za_6824 zt_6824 zx_6824 rfl rfl dX67_process_134 (by decide) (fun v10 => ?_)
              exact r_ireturn E rfl hT dX67_process_135
            · refine r_tabc E dX67_process_39 4 136 (by decide) (by decide) rfl (by decide) (fun _ => ?_) (fun ht11 => ?_)
              · refine r_aload_n E dX67_process_136 rfl 0 rfl ?_
                refine r_gec (y := 0) E zc_69 dX67_process_137 q3251 zr_69 (zh_6836 (by decide)) (by decide) ?_
                refine r_iload_n E dX67_process_140 rfl 1 rfl ?_
                refine r_iaload E zc_6836 za_6836 zt_6836 zx_6836 rfl rfl dX67_process_141 (by decide) (fun v12 => ?_)
                exact r_ireturn E rfl hT dX67_process_142
              · refine r_tabc E dX67_process_39 5 143 (by decide) (by decide) rfl (by decide) (fun _ => ?_) (fun ht13 => ?_)
                · refine r_aload_n E dX67_process_143 rfl 0 rfl ?_
                  refine r_gec (y := 0) E zc_69 dX67_process_144 q3261 zr_69 (zh_6846 (by decide)) (by decide) ?_
                  refine r_iload_n E dX67_process_147 rfl 1 rfl ?_
                  refine r_iaload E zc_6846 za_6846 zt_6846 zx_6846 rfl rfl dX67_process_148 (by decide) (fun v14 => ?_)
                  exact r_ireturn E rfl hT dX67_process_149
                · refine r_tabc E dX67_process_39 6 150 (by decide) (by decide) rfl (by decide) (fun _ => ?_) (fun ht15 => ?_)
                  · refine r_aload_n E dX67_process_150 rfl 0 rfl ?_
                    refine r_gec (y := 0) E zc_69 dX67_process_151 q3263 zr_69 (zh_6848 (by decide)) (by decide) ?_
                    refine r_iload_n E dX67_process_154 rfl 1 rfl ?_
                    refine r_iaload E zc_6848 za_6848 zt_6848 zx_6848 rfl rfl dX67_process_155 (by decide) (fun v16 => ?_)
                    exact r_ireturn E rfl hT dX67_process_156
                  · refine r_tabc E dX67_process_39 7 157 (by decide) (by decide) rfl (by decide) (fun _ => ?_) (fun ht17 => ?_)
                    · refine r_aload_n E dX67_process_157 rfl 0 rfl ?_
                      refine r_gec (y := 0) E zc_69 dX67_process_158 q3255 zr_69 (zh_6840 (by decide)) (by decide) ?_
                      refine r_iload_n E dX67_process_161 rfl 1 rfl ?_
                      refine r_iaload E zc_6840 za_6840 zt_6840 zx_6840 rfl rfl dX67_process_162 (by decide) (fun v18 => ?_)
                      exact r_ireturn E rfl hT dX67_process_163
                    · refine r_tabc E dX67_process_39 12 164 (by decide) (by decide) rfl (by decide) (fun _ => ?_) (fun ht19 => ?_)
                      · refine r_aload_n E dX67_process_164 rfl 0 rfl ?_
                        refine r_gec (y := 0) E zc_69 dX67_process_165 q3257 zr_69 (zh_6842 (by decide)) (by decide) ?_
                        refine r_iload_n E dX67_process_168 rfl 1 rfl ?_
                        refine r_baloadz E zc_6842 za_6842 zt_6842 zx_6842 rfl rfl dX67_process_169 (by decide) (fun v20 => ?_)
                        refine r_if_eq E 177 (by decide) dX67_process_170 (fun _ => ?_) (fun _ => ?_)
                        · refine r_iconst E dX67_process_177 (zkI (by decide) (by decide)) ?_
                          exact r_ireturn E rfl hT dX67_process_178
                        · refine r_iconst E dX67_process_173 (zkI (by decide) (by decide)) ?_
                          refine r_goto E 178 (by decide) dX67_process_174 ?_
                          exact r_ireturn E rfl hT dX67_process_178
                      · refine r_tabc E dX67_process_39 13 179 (by decide) (by decide) rfl (by decide) (fun _ => ?_) (fun ht21 => ?_)
                        · refine r_aload_n E dX67_process_179 rfl 0 rfl ?_
                          refine r_gec (y := 0) E zc_69 dX67_process_180 q3275 zr_69 (zh_6860 (by decide)) (by decide) ?_
                          refine r_iload_n E dX67_process_183 rfl 1 rfl ?_
                          refine r_iaload E zc_6860 za_6860 zt_6860 zx_6860 rfl rfl dX67_process_184 (by decide) (fun v22 => ?_)
                          exact r_ireturn E rfl hT dX67_process_185
                        · refine r_tabd E dX67_process_39 186 [0, 1, 2, 3, 4, 5, 6, 7, 12, 13] (by decide) (by decide) (by decide) ⟨ht3, ht5, ht7, ht9, ht11, ht13, ht15, ht17, ht19, ht21, trivial⟩ ?_
                          refine r_bipush E dX67_process_186 (by decide) (zkI (by decide) (by decide)) ?_
                          exact r_ireturn E rfl hT dX67_process_188
    · refine r_aload_n E dX67_process_24 rfl 0 rfl ?_
      refine r_gec (y := 0) E zc_69 dX67_process_25 q3256 zr_69 (zh_6841 (by decide)) (by decide) ?_
      refine r_iconst E dX67_process_28 (zkI (by decide) (by decide)) ?_
      refine r_iload_n E dX67_process_29 rfl 1 rfl ?_
      refine r_imul E dX67_process_30 ?_
      refine r_iload_n E dX67_process_31 rfl 2 rfl ?_
      refine r_iadd E dX67_process_32 ?_
      refine r_bipush E dX67_process_33 (by decide) (zkI (by decide) (by decide)) ?_
      refine r_isub E dX67_process_35 ?_
      refine r_iaload E zc_6841 za_6841 zt_6841 zx_6841 rfl rfl dX67_process_36 (by decide) (fun v23 => ?_)
      exact r_ireturn E rfl hT dX67_process_37
  · refine r_iconst E dX67_process_8 (zkI (by decide) (by decide)) ?_
    exact r_ireturn E rfl hT dX67_process_9
theorem k_fX67_process (l : Launch) (G : zG) (x1 : Int) (x2 : Int) : zCt l G yX67_process cX67_process 3 (some .int) 2 [(69, 0), (0, x1), (0, x2)] (some 0) (fX67_process x1 x2) := zCt.of (by decide) (Nat.le_of_ble_eq_true rfl) (fun K E _ _ hN hT => w_fX67_process E hN hT x1 x2)
theorem dX67_stack_0 : decode cX67_stack 0 = .ok (.aload_n 0, 1) := by decide +kernel
theorem dX67_stack_1 : decode cX67_stack 1 = .ok (.iload_n 1, 1) := by decide +kernel
theorem dX67_stack_2 : decode cX67_stack 2 = .ok (.invokevirtual 782, 3) := by decide +kernel
theorem dX67_stack_5 : decode cX67_stack 5 = .ok (.ifCond .eq 47, 3) := by decide +kernel
theorem dX67_stack_8 : decode cX67_stack 8 = .ok (.iload_n 2, 1) := by decide +kernel
theorem dX67_stack_9 : decode cX67_stack 9 = .ok (.i2l, 1) := by decide +kernel
theorem dX67_stack_10 : decode cX67_stack 10 = .ok (.lconst 0, 1) := by decide +kernel
theorem dX67_stack_11 : decode cX67_stack 11 = .ok (.ldc2_w 476, 3) := by decide +kernel
theorem dX67_stack_14 : decode cX67_stack 14 = .ok (.invokestatic 363, 3) := by decide +kernel
theorem dX67_stack_17 : decode cX67_stack 17 = .ok (.ifCond .eq 35, 3) := by decide +kernel
theorem dX67_stack_20 : decode cX67_stack 20 = .ok (.iload_n 3, 1) := by decide +kernel
theorem dX67_stack_21 : decode cX67_stack 21 = .ok (.i2l, 1) := by decide +kernel
theorem dX67_stack_22 : decode cX67_stack 22 = .ok (.lconst 0, 1) := by decide +kernel
theorem dX67_stack_23 : decode cX67_stack 23 = .ok (.ldc2_w 371, 3) := by decide +kernel
theorem dX67_stack_26 : decode cX67_stack 26 = .ok (.invokestatic 363, 3) := by decide +kernel
theorem dX67_stack_29 : decode cX67_stack 29 = .ok (.ifCond .eq 23, 3) := by decide +kernel
theorem dX67_stack_32 : decode cX67_stack 32 = .ok (.aload_n 0, 1) := by decide +kernel
theorem dX67_stack_33 : decode cX67_stack 33 = .ok (.getfield 122, 3) := by decide +kernel
theorem dX67_stack_36 : decode cX67_stack 36 = .ok (.sipush 512, 3) := by decide +kernel
theorem dX67_stack_39 : decode cX67_stack 39 = .ok (.iload_n 1, 1) := by decide +kernel
theorem dX67_stack_40 : decode cX67_stack 40 = .ok (.imul, 1) := by decide +kernel
theorem dX67_stack_41 : decode cX67_stack 41 = .ok (.bipush 64, 2) := by decide +kernel
theorem dX67_stack_43 : decode cX67_stack 43 = .ok (.iload_n 2, 1) := by decide +kernel
theorem dX67_stack_44 : decode cX67_stack 44 = .ok (.imul, 1) := by decide +kernel
theorem dX67_stack_45 : decode cX67_stack 45 = .ok (.iadd, 1) := by decide +kernel
theorem dX67_stack_46 : decode cX67_stack 46 = .ok (.iload_n 3, 1) := by decide +kernel
theorem dX67_stack_47 : decode cX67_stack 47 = .ok (.iadd, 1) := by decide +kernel
theorem dX67_stack_48 : decode cX67_stack 48 = .ok (.laload, 1) := by decide +kernel
theorem dX67_stack_49 : decode cX67_stack 49 = .ok (.goto 6, 3) := by decide +kernel
theorem dX67_stack_52 : decode cX67_stack 52 = .ok (.ldc2_w 422, 3) := by decide +kernel
theorem dX67_stack_55 : decode cX67_stack 55 = .ok (.lreturn, 1) := by decide +kernel
theorem zy_X67_stack : yX67_stack.cls ≠ "java/lang/invoke/MethodHandle" ∧ yX67_stack.cls ≠ "java/lang/invoke/VarHandle" ∧ (parseMethodDescriptor yX67_stack.desc).map (fun d => d.parameters.length) = some 3 := by decide +kernel
theorem w_fX67_stack {K : zK} (E : zE K cX67_stack "RingHouseModel" (some .long) 2) (hN : zNl K = 4) (hT : zTr K = (some 1)) (x1 : Int) (x2 : Int) (x3 : Int) : zR K 0 [(0, 69, 0), (1, 0, x1), (2, 0, x2), (3, 0, x3)] [] (fX67_stack x1 x2 x3) := by
  refine r_aload_n E dX67_stack_0 rfl 0 rfl ?_
  refine r_iload_n E dX67_stack_1 rfl 1 rfl ?_
  refine r_callV E [(0, x1)] [] rfl zc_69 zr_69 (fun o _ => ⟨_, zw_X67.1 o, rfl⟩) (lw_V q3813 q3815 qs116 q294 q3816) dX67_stack_2 zy_X67_isThere rfl (by omega) (by decide) (Nat.le_of_ble_eq_true rfl) (by decide) (fun l G => k_fX67_isThere l G x1) (fun v1 => ?_)
  refine r_if_eq E 52 (by decide) dX67_stack_5 (fun _ => ?_) (fun _ => ?_)
  · refine r_ldc2 (v := (-1)) E dX67_stack_52 q3759 (by decide) (zkJ (by decide) (by decide)) ?_
    exact r_lreturn E rfl hT dX67_stack_55
  · refine r_iload_n E dX67_stack_8 rfl 2 rfl ?_
    refine r_i2l E dX67_stack_9 ?_
    refine r_lconst (v := 0) E dX67_stack_10 (by decide) (zkJ (by decide) (by decide)) ?_
    refine r_ldc2 (v := 7) E dX67_stack_11 q3709 (by decide) (zkJ (by decide) (by decide)) ?_
    refine r_callS E [(1, x2), (1, 0), (1, 7)] [] rfl q3619 q3620 q294 q3621 dX67_stack_14 zy_X67_in rfl (by omega) (by decide) (Nat.le_of_ble_eq_true rfl) (fun l G => k_fX67_in l G x2 0 7) (fun v2 => ?_)
    refine r_if_eq E 52 (by decide) dX67_stack_17 (fun _ => ?_) (fun _ => ?_)
    · refine r_ldc2 (v := (-1)) E dX67_stack_52 q3759 (by decide) (zkJ (by decide) (by decide)) ?_
      exact r_lreturn E rfl hT dX67_stack_55
    · refine r_iload_n E dX67_stack_20 rfl 3 rfl ?_
      refine r_i2l E dX67_stack_21 ?_
      refine r_lconst (v := 0) E dX67_stack_22 (by decide) (zkJ (by decide) (by decide)) ?_
      refine r_ldc2 (v := 63) E dX67_stack_23 q3629 (by decide) (zkJ (by decide) (by decide)) ?_
      refine r_callS E [(1, x3), (1, 0), (1, 63)] [] rfl q3619 q3620 q294 q3621 dX67_stack_26 zy_X67_in rfl (by omega) (by decide) (Nat.le_of_ble_eq_true rfl) (fun l G => k_fX67_in l G x3 0 63) (fun v3 => ?_)
      refine r_if_eq E 52 (by decide) dX67_stack_29 (fun _ => ?_) (fun _ => ?_)
      · refine r_ldc2 (v := (-1)) E dX67_stack_52 q3759 (by decide) (zkJ (by decide) (by decide)) ?_
        exact r_lreturn E rfl hT dX67_stack_55
      · refine r_aload_n E dX67_stack_32 rfl 0 rfl ?_
        refine r_gec (y := 0) E zc_69 dX67_stack_33 q3252 zr_69 (zh_6837 (by decide)) (by decide) ?_
        refine r_sipush E dX67_stack_36 (by decide) (zkI (by decide) (by decide)) ?_
        refine r_iload_n E dX67_stack_39 rfl 1 rfl ?_
        refine r_imul E dX67_stack_40 ?_
        refine r_bipush E dX67_stack_41 (by decide) (zkI (by decide) (by decide)) ?_
        refine r_iload_n E dX67_stack_43 rfl 2 rfl ?_
        refine r_imul E dX67_stack_44 ?_
        refine r_iadd E dX67_stack_45 ?_
        refine r_iload_n E dX67_stack_46 rfl 3 rfl ?_
        refine r_iadd E dX67_stack_47 ?_
        refine r_laload E zc_6837 za_6837 zt_6837 zx_6837 rfl rfl dX67_stack_48 (by decide) (fun v4 => ?_)
        refine r_goto E 55 (by decide) dX67_stack_49 ?_
        exact r_lreturn E rfl hT dX67_stack_55
theorem k_fX67_stack (l : Launch) (G : zG) (x1 : Int) (x2 : Int) (x3 : Int) : zCt l G yX67_stack cX67_stack 4 (some .long) 2 [(69, 0), (0, x1), (0, x2), (0, x3)] (some 1) (fX67_stack x1 x2 x3) := zCt.of (by decide) (Nat.le_of_ble_eq_true rfl) (fun K E _ _ hN hT => w_fX67_stack E hN hT x1 x2 x3)
theorem dX67_known_0 : decode cX67_known 0 = .ok (.aload_n 0, 1) := by decide +kernel
theorem dX67_known_1 : decode cX67_known 1 = .ok (.iload_n 1, 1) := by decide +kernel
theorem dX67_known_2 : decode cX67_known 2 = .ok (.invokevirtual 782, 3) := by decide +kernel
theorem dX67_known_5 : decode cX67_known 5 = .ok (.ifCond .eq 31, 3) := by decide +kernel
theorem dX67_known_8 : decode cX67_known 8 = .ok (.iload_n 2, 1) := by decide +kernel
theorem dX67_known_9 : decode cX67_known 9 = .ok (.i2l, 1) := by decide +kernel
theorem dX67_known_10 : decode cX67_known 10 = .ok (.ldc2_w 411, 3) := by decide +kernel
theorem dX67_known_13 : decode cX67_known 13 = .ok (.ldc2_w 445, 3) := by decide +kernel
theorem dX67_known_16 : decode cX67_known 16 = .ok (.invokestatic 363, 3) := by decide +kernel
theorem dX67_known_19 : decode cX67_known 19 = .ok (.ifCond .eq 17, 3) := by decide +kernel
theorem dX67_known_22 : decode cX67_known 22 = .ok (.aload_n 0, 1) := by decide +kernel
theorem dX67_known_23 : decode cX67_known 23 = .ok (.getfield 125, 3) := by decide +kernel
theorem dX67_known_26 : decode cX67_known 26 = .ok (.bipush 32, 2) := by decide +kernel
theorem dX67_known_28 : decode cX67_known 28 = .ok (.iload_n 1, 1) := by decide +kernel
theorem dX67_known_29 : decode cX67_known 29 = .ok (.imul, 1) := by decide +kernel
theorem dX67_known_30 : decode cX67_known 30 = .ok (.iload_n 2, 1) := by decide +kernel
theorem dX67_known_31 : decode cX67_known 31 = .ok (.iadd, 1) := by decide +kernel
theorem dX67_known_32 : decode cX67_known 32 = .ok (.iaload, 1) := by decide +kernel
theorem dX67_known_33 : decode cX67_known 33 = .ok (.goto 4, 3) := by decide +kernel
theorem dX67_known_36 : decode cX67_known 36 = .ok (.iconst (-1), 1) := by decide +kernel
theorem dX67_known_37 : decode cX67_known 37 = .ok (.ireturn, 1) := by decide +kernel
theorem zy_X67_known : yX67_known.cls ≠ "java/lang/invoke/MethodHandle" ∧ yX67_known.cls ≠ "java/lang/invoke/VarHandle" ∧ (parseMethodDescriptor yX67_known.desc).map (fun d => d.parameters.length) = some 2 := by decide +kernel
theorem w_fX67_known {K : zK} (E : zE K cX67_known "RingHouseModel" (some .int) 2) (hN : zNl K = 3) (hT : zTr K = (some 0)) (x1 : Int) (x2 : Int) : zR K 0 [(0, 69, 0), (1, 0, x1), (2, 0, x2)] [] (fX67_known x1 x2) := by
  refine r_aload_n E dX67_known_0 rfl 0 rfl ?_
  refine r_iload_n E dX67_known_1 rfl 1 rfl ?_
  refine r_callV E [(0, x1)] [] rfl zc_69 zr_69 (fun o _ => ⟨_, zw_X67.1 o, rfl⟩) (lw_V q3813 q3815 qs116 q294 q3816) dX67_known_2 zy_X67_isThere rfl (by omega) (by decide) (Nat.le_of_ble_eq_true rfl) (by decide) (fun l G => k_fX67_isThere l G x1) (fun v1 => ?_)
  refine r_if_eq E 36 (by decide) dX67_known_5 (fun _ => ?_) (fun _ => ?_)
  · refine r_iconst E dX67_known_36 (zkI (by decide) (by decide)) ?_
    exact r_ireturn E rfl hT dX67_known_37
  · refine r_iload_n E dX67_known_8 rfl 2 rfl ?_
    refine r_i2l E dX67_known_9 ?_
    refine r_ldc2 (v := 8) E dX67_known_10 q3692 (by decide) (zkJ (by decide) (by decide)) ?_
    refine r_ldc2 (v := 31) E dX67_known_13 q3631 (by decide) (zkJ (by decide) (by decide)) ?_
    refine r_callS E [(1, x2), (1, 8), (1, 31)] [] rfl q3619 q3620 q294 q3621 dX67_known_16 zy_X67_in rfl (by omega) (by decide) (Nat.le_of_ble_eq_true rfl) (fun l G => k_fX67_in l G x2 8 31) (fun v2 => ?_)
    refine r_if_eq E 36 (by decide) dX67_known_19 (fun _ => ?_) (fun _ => ?_)
    · refine r_iconst E dX67_known_36 (zkI (by decide) (by decide)) ?_
      exact r_ireturn E rfl hT dX67_known_37
    · refine r_aload_n E dX67_known_22 rfl 0 rfl ?_
      refine r_gec (y := 0) E zc_69 dX67_known_23 q3253 zr_69 (zh_6838 (by decide)) (by decide) ?_
      refine r_bipush E dX67_known_26 (by decide) (zkI (by decide) (by decide)) ?_
      refine r_iload_n E dX67_known_28 rfl 1 rfl ?_
      refine r_imul E dX67_known_29 ?_
      refine r_iload_n E dX67_known_30 rfl 2 rfl ?_
      refine r_iadd E dX67_known_31 ?_
      refine r_iaload E zc_6838 za_6838 zt_6838 zx_6838 rfl rfl dX67_known_32 (by decide) (fun v3 => ?_)
      refine r_goto E 37 (by decide) dX67_known_33 ?_
      exact r_ireturn E rfl hT dX67_known_37
theorem k_fX67_known (l : Launch) (G : zG) (x1 : Int) (x2 : Int) : zCt l G yX67_known cX67_known 3 (some .int) 2 [(69, 0), (0, x1), (0, x2)] (some 0) (fX67_known x1 x2) := zCt.of (by decide) (Nat.le_of_ble_eq_true rfl) (fun K E _ _ hN hT => w_fX67_known E hN hT x1 x2)
theorem dX67_link_0 : decode cX67_link 0 = .ok (.aload_n 0, 1) := by decide +kernel
theorem dX67_link_1 : decode cX67_link 1 = .ok (.iload_n 1, 1) := by decide +kernel
theorem dX67_link_2 : decode cX67_link 2 = .ok (.invokevirtual 782, 3) := by decide +kernel
theorem dX67_link_5 : decode cX67_link 5 = .ok (.ifCond .eq 49, 3) := by decide +kernel
theorem dX67_link_8 : decode cX67_link 8 = .ok (.iload_n 2, 1) := by decide +kernel
theorem dX67_link_9 : decode cX67_link 9 = .ok (.i2l, 1) := by decide +kernel
theorem dX67_link_10 : decode cX67_link 10 = .ok (.ldc2_w 411, 3) := by decide +kernel
theorem dX67_link_13 : decode cX67_link 13 = .ok (.ldc2_w 445, 3) := by decide +kernel
theorem dX67_link_16 : decode cX67_link 16 = .ok (.invokestatic 363, 3) := by decide +kernel
theorem dX67_link_19 : decode cX67_link 19 = .ok (.ifCond .eq 35, 3) := by decide +kernel
theorem dX67_link_22 : decode cX67_link 22 = .ok (.iload_n 3, 1) := by decide +kernel
theorem dX67_link_23 : decode cX67_link 23 = .ok (.i2l, 1) := by decide +kernel
theorem dX67_link_24 : decode cX67_link 24 = .ok (.lconst 0, 1) := by decide +kernel
theorem dX67_link_25 : decode cX67_link 25 = .ok (.ldc2_w 496, 3) := by decide +kernel
theorem dX67_link_28 : decode cX67_link 28 = .ok (.invokestatic 363, 3) := by decide +kernel
theorem dX67_link_31 : decode cX67_link 31 = .ok (.ifCond .eq 23, 3) := by decide +kernel
theorem dX67_link_34 : decode cX67_link 34 = .ok (.aload_n 0, 1) := by decide +kernel
theorem dX67_link_35 : decode cX67_link 35 = .ok (.getfield 128, 3) := by decide +kernel
theorem dX67_link_38 : decode cX67_link 38 = .ok (.sipush 512, 3) := by decide +kernel
theorem dX67_link_41 : decode cX67_link 41 = .ok (.iload_n 1, 1) := by decide +kernel
theorem dX67_link_42 : decode cX67_link 42 = .ok (.imul, 1) := by decide +kernel
theorem dX67_link_43 : decode cX67_link 43 = .ok (.bipush 16, 2) := by decide +kernel
theorem dX67_link_45 : decode cX67_link 45 = .ok (.iload_n 2, 1) := by decide +kernel
theorem dX67_link_46 : decode cX67_link 46 = .ok (.imul, 1) := by decide +kernel
theorem dX67_link_47 : decode cX67_link 47 = .ok (.iadd, 1) := by decide +kernel
theorem dX67_link_48 : decode cX67_link 48 = .ok (.iload_n 3, 1) := by decide +kernel
theorem dX67_link_49 : decode cX67_link 49 = .ok (.iadd, 1) := by decide +kernel
theorem dX67_link_50 : decode cX67_link 50 = .ok (.laload, 1) := by decide +kernel
theorem dX67_link_51 : decode cX67_link 51 = .ok (.goto 6, 3) := by decide +kernel
theorem dX67_link_54 : decode cX67_link 54 = .ok (.ldc2_w 422, 3) := by decide +kernel
theorem dX67_link_57 : decode cX67_link 57 = .ok (.lreturn, 1) := by decide +kernel
theorem zy_X67_link : yX67_link.cls ≠ "java/lang/invoke/MethodHandle" ∧ yX67_link.cls ≠ "java/lang/invoke/VarHandle" ∧ (parseMethodDescriptor yX67_link.desc).map (fun d => d.parameters.length) = some 3 := by decide +kernel
theorem w_fX67_link {K : zK} (E : zE K cX67_link "RingHouseModel" (some .long) 2) (hN : zNl K = 4) (hT : zTr K = (some 1)) (x1 : Int) (x2 : Int) (x3 : Int) : zR K 0 [(0, 69, 0), (1, 0, x1), (2, 0, x2), (3, 0, x3)] [] (fX67_link x1 x2 x3) := by
  refine r_aload_n E dX67_link_0 rfl 0 rfl ?_
  refine r_iload_n E dX67_link_1 rfl 1 rfl ?_
  refine r_callV E [(0, x1)] [] rfl zc_69 zr_69 (fun o _ => ⟨_, zw_X67.1 o, rfl⟩) (lw_V q3813 q3815 qs116 q294 q3816) dX67_link_2 zy_X67_isThere rfl (by omega) (by decide) (Nat.le_of_ble_eq_true rfl) (by decide) (fun l G => k_fX67_isThere l G x1) (fun v1 => ?_)
  refine r_if_eq E 54 (by decide) dX67_link_5 (fun _ => ?_) (fun _ => ?_)
  · refine r_ldc2 (v := (-1)) E dX67_link_54 q3759 (by decide) (zkJ (by decide) (by decide)) ?_
    exact r_lreturn E rfl hT dX67_link_57
  · refine r_iload_n E dX67_link_8 rfl 2 rfl ?_
    refine r_i2l E dX67_link_9 ?_
    refine r_ldc2 (v := 8) E dX67_link_10 q3692 (by decide) (zkJ (by decide) (by decide)) ?_
    refine r_ldc2 (v := 31) E dX67_link_13 q3631 (by decide) (zkJ (by decide) (by decide)) ?_
    refine r_callS E [(1, x2), (1, 8), (1, 31)] [] rfl q3619 q3620 q294 q3621 dX67_link_16 zy_X67_in rfl (by omega) (by decide) (Nat.le_of_ble_eq_true rfl) (fun l G => k_fX67_in l G x2 8 31) (fun v2 => ?_)
    refine r_if_eq E 54 (by decide) dX67_link_19 (fun _ => ?_) (fun _ => ?_)
    · refine r_ldc2 (v := (-1)) E dX67_link_54 q3759 (by decide) (zkJ (by decide) (by decide)) ?_
      exact r_lreturn E rfl hT dX67_link_57
    · refine r_iload_n E dX67_link_22 rfl 3 rfl ?_
      refine r_i2l E dX67_link_23 ?_
      refine r_lconst (v := 0) E dX67_link_24 (by decide) (zkJ (by decide) (by decide)) ?_
      refine r_ldc2 (v := 15) E dX67_link_25 q3777 (by decide) (zkJ (by decide) (by decide)) ?_
      refine r_callS E [(1, x3), (1, 0), (1, 15)] [] rfl q3619 q3620 q294 q3621 dX67_link_28 zy_X67_in rfl (by omega) (by decide) (Nat.le_of_ble_eq_true rfl) (fun l G => k_fX67_in l G x3 0 15) (fun v3 => ?_)
      refine r_if_eq E 54 (by decide) dX67_link_31 (fun _ => ?_) (fun _ => ?_)
      · refine r_ldc2 (v := (-1)) E dX67_link_54 q3759 (by decide) (zkJ (by decide) (by decide)) ?_
        exact r_lreturn E rfl hT dX67_link_57
      · refine r_aload_n E dX67_link_34 rfl 0 rfl ?_
        refine r_gec (y := 0) E zc_69 dX67_link_35 q3254 zr_69 (zh_6839 (by decide)) (by decide) ?_
        refine r_sipush E dX67_link_38 (by decide) (zkI (by decide) (by decide)) ?_
        refine r_iload_n E dX67_link_41 rfl 1 rfl ?_
        refine r_imul E dX67_link_42 ?_
        refine r_bipush E dX67_link_43 (by decide) (zkI (by decide) (by decide)) ?_
        refine r_iload_n E dX67_link_45 rfl 2 rfl ?_
        refine r_imul E dX67_link_46 ?_
        refine r_iadd E dX67_link_47 ?_
        refine r_iload_n E dX67_link_48 rfl 3 rfl ?_
        refine r_iadd E dX67_link_49 ?_
        refine r_laload E zc_6839 za_6839 zt_6839 zx_6839 rfl rfl dX67_link_50 (by decide) (fun v4 => ?_)
        refine r_goto E 57 (by decide) dX67_link_51 ?_
        exact r_lreturn E rfl hT dX67_link_57
theorem k_fX67_link (l : Launch) (G : zG) (x1 : Int) (x2 : Int) (x3 : Int) : zCt l G yX67_link cX67_link 4 (some .long) 2 [(69, 0), (0, x1), (0, x2), (0, x3)] (some 1) (fX67_link x1 x2 x3) := zCt.of (by decide) (Nat.le_of_ble_eq_true rfl) (fun K E _ _ hN hT => w_fX67_link E hN hT x1 x2 x3)
theorem dX67_event_0 : decode cX67_event 0 = .ok (.aload_n 0, 1) := by decide +kernel
theorem dX67_event_1 : decode cX67_event 1 = .ok (.iload_n 1, 1) := by decide +kernel
theorem dX67_event_2 : decode cX67_event 2 = .ok (.invokevirtual 782, 3) := by decide +kernel
theorem dX67_event_5 : decode cX67_event 5 = .ok (.ifCond .eq 30, 3) := by decide +kernel
theorem dX67_event_8 : decode cX67_event 8 = .ok (.iload_n 2, 1) := by decide +kernel
theorem dX67_event_9 : decode cX67_event 9 = .ok (.ifCond .lt 26, 3) := by decide +kernel
theorem dX67_event_12 : decode cX67_event 12 = .ok (.iload_n 2, 1) := by decide +kernel
theorem dX67_event_13 : decode cX67_event 13 = .ok (.aload_n 0, 1) := by decide +kernel
theorem dX67_event_14 : decode cX67_event 14 = .ok (.getfield 191, 3) := by decide +kernel
theorem dX67_event_17 : decode cX67_event 17 = .ok (.iload_n 1, 1) := by decide +kernel
theorem dX67_event_18 : decode cX67_event 18 = .ok (.iaload, 1) := by decide +kernel
theorem dX67_event_19 : decode cX67_event 19 = .ok (.if_icmp .ge 16, 3) := by decide +kernel
theorem dX67_event_22 : decode cX67_event 22 = .ok (.iload_n 2, 1) := by decide +kernel
theorem dX67_event_23 : decode cX67_event 23 = .ok (.aload_n 0, 1) := by decide +kernel
theorem dX67_event_24 : decode cX67_event 24 = .ok (.getfield 191, 3) := by decide +kernel
theorem dX67_event_27 : decode cX67_event 27 = .ok (.iload_n 1, 1) := by decide +kernel
theorem dX67_event_28 : decode cX67_event 28 = .ok (.iaload, 1) := by decide +kernel
theorem dX67_event_29 : decode cX67_event 29 = .ok (.bipush 64, 2) := by decide +kernel
theorem dX67_event_31 : decode cX67_event 31 = .ok (.isub, 1) := by decide +kernel
theorem dX67_event_32 : decode cX67_event 32 = .ok (.if_icmp .ge 7, 3) := by decide +kernel
theorem dX67_event_35 : decode cX67_event 35 = .ok (.ldc2_w 422, 3) := by decide +kernel
theorem dX67_event_38 : decode cX67_event 38 = .ok (.lreturn, 1) := by decide +kernel
theorem dX67_event_39 : decode cX67_event 39 = .ok (.iload_n 3, 1) := by decide +kernel
theorem dX67_event_40 : decode cX67_event 40 = .ok (.i2l, 1) := by decide +kernel
theorem dX67_event_41 : decode cX67_event 41 = .ok (.lconst 0, 1) := by decide +kernel
theorem dX67_event_42 : decode cX67_event 42 = .ok (.ldc2_w 508, 3) := by decide +kernel
theorem dX67_event_45 : decode cX67_event 45 = .ok (.invokestatic 363, 3) := by decide +kernel
theorem dX67_event_48 : decode cX67_event 48 = .ok (.ifCond .eq 25, 3) := by decide +kernel
theorem dX67_event_51 : decode cX67_event 51 = .ok (.aload_n 0, 1) := by decide +kernel
theorem dX67_event_52 : decode cX67_event 52 = .ok (.getfield 194, 3) := by decide +kernel
theorem dX67_event_55 : decode cX67_event 55 = .ok (.sipush 256, 3) := by decide +kernel
theorem dX67_event_58 : decode cX67_event 58 = .ok (.iload_n 1, 1) := by decide +kernel
theorem dX67_event_59 : decode cX67_event 59 = .ok (.imul, 1) := by decide +kernel
theorem dX67_event_60 : decode cX67_event 60 = .ok (.iconst 4, 1) := by decide +kernel
theorem dX67_event_61 : decode cX67_event 61 = .ok (.iload_n 2, 1) := by decide +kernel
theorem dX67_event_62 : decode cX67_event 62 = .ok (.bipush 64, 2) := by decide +kernel
theorem dX67_event_64 : decode cX67_event 64 = .ok (.irem, 1) := by decide +kernel
theorem dX67_event_65 : decode cX67_event 65 = .ok (.imul, 1) := by decide +kernel
theorem dX67_event_66 : decode cX67_event 66 = .ok (.iadd, 1) := by decide +kernel
theorem dX67_event_67 : decode cX67_event 67 = .ok (.iload_n 3, 1) := by decide +kernel
theorem dX67_event_68 : decode cX67_event 68 = .ok (.iadd, 1) := by decide +kernel
theorem dX67_event_69 : decode cX67_event 69 = .ok (.laload, 1) := by decide +kernel
theorem dX67_event_70 : decode cX67_event 70 = .ok (.goto 6, 3) := by decide +kernel
theorem dX67_event_73 : decode cX67_event 73 = .ok (.ldc2_w 494, 3) := by decide +kernel
theorem dX67_event_76 : decode cX67_event 76 = .ok (.lreturn, 1) := by decide +kernel
theorem zy_X67_event : yX67_event.cls ≠ "java/lang/invoke/MethodHandle" ∧ yX67_event.cls ≠ "java/lang/invoke/VarHandle" ∧ (parseMethodDescriptor yX67_event.desc).map (fun d => d.parameters.length) = some 3 := by decide +kernel
theorem w_fX67_event {K : zK} (E : zE K cX67_event "RingHouseModel" (some .long) 2) (hN : zNl K = 4) (hT : zTr K = (some 1)) (x1 : Int) (x2 : Int) (x3 : Int) : zR K 0 [(0, 69, 0), (1, 0, x1), (2, 0, x2), (3, 0, x3)] [] (fX67_event x1 x2 x3) := by
  refine r_aload_n E dX67_event_0 rfl 0 rfl ?_
  refine r_iload_n E dX67_event_1 rfl 1 rfl ?_
  refine r_callV E [(0, x1)] [] rfl zc_69 zr_69 (fun o _ => ⟨_, zw_X67.1 o, rfl⟩) (lw_V q3813 q3815 qs116 q294 q3816) dX67_event_2 zy_X67_isThere rfl (by omega) (by decide) (Nat.le_of_ble_eq_true rfl) (by decide) (fun l G => k_fX67_isThere l G x1) (fun v1 => ?_)
  refine r_if_eq E 35 (by decide) dX67_event_5 (fun _ => ?_) (fun _ => ?_)
  · refine r_ldc2 (v := (-1)) E dX67_event_35 q3759 (by decide) (zkJ (by decide) (by decide)) ?_
    exact r_lreturn E rfl hT dX67_event_38
  · refine r_iload_n E dX67_event_8 rfl 2 rfl ?_
    refine r_if_lt E 35 (by decide) dX67_event_9 (fun _ => ?_) (fun _ => ?_)
    · refine r_ldc2 (v := (-1)) E dX67_event_35 q3759 (by decide) (zkJ (by decide) (by decide)) ?_
      exact r_lreturn E rfl hT dX67_event_38
    · refine r_iload_n E dX67_event_12 rfl 2 rfl ?_
      refine r_aload_n E dX67_event_13 rfl 0 rfl ?_
      refine r_gec (y := 0) E zc_69 dX67_event_14 q3275 zr_69 (zh_6860 (by decide)) (by decide) ?_
      refine r_iload_n E dX67_event_17 rfl 1 rfl ?_
      refine r_iaload E zc_6860 za_6860 zt_6860 zx_6860 rfl rfl dX67_event_18 (by decide) (fun v2 => ?_)
      refine r_icmp_ge E 35 (by decide) dX67_event_19 (fun _ => ?_) (fun _ => ?_)
      · refine r_ldc2 (v := (-1)) E dX67_event_35 q3759 (by decide) (zkJ (by decide) (by decide)) ?_
        exact r_lreturn E rfl hT dX67_event_38
      · refine r_iload_n E dX67_event_22 rfl 2 rfl ?_
        refine r_aload_n E dX67_event_23 rfl 0 rfl ?_
        refine r_gec (y := 0) E zc_69 dX67_event_24 q3275 zr_69 (zh_6860 (by decide)) (by decide) ?_
        refine r_iload_n E dX67_event_27 rfl 1 rfl ?_
        refine r_iaload E zc_6860 za_6860 zt_6860 zx_6860 rfl rfl dX67_event_28 (by decide) (fun v3 => ?_)
        refine r_bipush E dX67_event_29 (by decide) (zkI (by decide) (by decide)) ?_
        refine r_isub E dX67_event_31 ?_
        refine r_icmp_ge E 39 (by decide) dX67_event_32 (fun _ => ?_) (fun _ => ?_)
        · refine r_iload_n E dX67_event_39 rfl 3 rfl ?_
          refine r_i2l E dX67_event_40 ?_
          refine r_lconst (v := 0) E dX67_event_41 (by decide) (zkJ (by decide) (by decide)) ?_
          refine r_ldc2 (v := 3) E dX67_event_42 q3802 (by decide) (zkJ (by decide) (by decide)) ?_
          refine r_callS E [(1, x3), (1, 0), (1, 3)] [] rfl q3619 q3620 q294 q3621 dX67_event_45 zy_X67_in rfl (by omega) (by decide) (Nat.le_of_ble_eq_true rfl) (fun l G => k_fX67_in l G x3 0 3) (fun v4 => ?_)
          refine r_if_eq E 73 (by decide) dX67_event_48 (fun _ => ?_) (fun _ => ?_)
          · refine r_ldc2 (v := (-8)) E dX67_event_73 q3772 (by decide) (zkJ (by decide) (by decide)) ?_
            exact r_lreturn E rfl hT dX67_event_76
          · refine r_aload_n E dX67_event_51 rfl 0 rfl ?_
            refine r_gec (y := 0) E zc_69 dX67_event_52 q3276 zr_69 (zh_6861 (by decide)) (by decide) ?_
            refine r_sipush E dX67_event_55 (by decide) (zkI (by decide) (by decide)) ?_
            refine r_iload_n E dX67_event_58 rfl 1 rfl ?_
            refine r_imul E dX67_event_59 ?_
            refine r_iconst E dX67_event_60 (zkI (by decide) (by decide)) ?_
            refine r_iload_n E dX67_event_61 rfl 2 rfl ?_
            refine r_bipush E dX67_event_62 (by decide) (zkI (by decide) (by decide)) ?_
            refine r_irem E (by decide) dX67_event_64 ?_
            refine r_imul E dX67_event_65 ?_
            refine r_iadd E dX67_event_66 ?_
            refine r_iload_n E dX67_event_67 rfl 3 rfl ?_
            refine r_iadd E dX67_event_68 ?_
            refine r_laload E zc_6861 za_6861 zt_6861 zx_6861 rfl rfl dX67_event_69 (by decide) (fun v5 => ?_)
            refine r_goto E 76 (by decide) dX67_event_70 ?_
            exact r_lreturn E rfl hT dX67_event_76
        · refine r_ldc2 (v := (-1)) E dX67_event_35 q3759 (by decide) (zkJ (by decide) (by decide)) ?_
          exact r_lreturn E rfl hT dX67_event_38
theorem k_fX67_event (l : Launch) (G : zG) (x1 : Int) (x2 : Int) (x3 : Int) : zCt l G yX67_event cX67_event 4 (some .long) 2 [(69, 0), (0, x1), (0, x2), (0, x3)] (some 1) (fX67_event x1 x2 x3) := zCt.of (by decide) (Nat.le_of_ble_eq_true rfl) (fun K E _ _ hN hT => w_fX67_event E hN hT x1 x2 x3)
theorem dX67_sum_0 : decode cX67_sum 0 = .ok (.aload_n 0, 1) := by decide +kernel
theorem dX67_sum_1 : decode cX67_sum 1 = .ok (.iload_n 1, 1) := by decide +kernel
theorem dX67_sum_2 : decode cX67_sum 2 = .ok (.invokevirtual 782, 3) := by decide +kernel
theorem dX67_sum_5 : decode cX67_sum 5 = .ok (.ifCond .eq 12, 3) := by decide +kernel
theorem dX67_sum_8 : decode cX67_sum 8 = .ok (.aload_n 0, 1) := by decide +kernel
theorem dX67_sum_9 : decode cX67_sum 9 = .ok (.getfield 197, 3) := by decide +kernel
theorem dX67_sum_12 : decode cX67_sum 12 = .ok (.iload_n 1, 1) := by decide +kernel
theorem dX67_sum_13 : decode cX67_sum 13 = .ok (.laload, 1) := by decide +kernel
theorem dX67_sum_14 : decode cX67_sum 14 = .ok (.goto 4, 3) := by decide +kernel
theorem dX67_sum_17 : decode cX67_sum 17 = .ok (.lconst 0, 1) := by decide +kernel
theorem dX67_sum_18 : decode cX67_sum 18 = .ok (.lreturn, 1) := by decide +kernel
theorem zy_X67_sum : yX67_sum.cls ≠ "java/lang/invoke/MethodHandle" ∧ yX67_sum.cls ≠ "java/lang/invoke/VarHandle" ∧ (parseMethodDescriptor yX67_sum.desc).map (fun d => d.parameters.length) = some 1 := by decide +kernel
theorem w_fX67_sum {K : zK} (E : zE K cX67_sum "RingHouseModel" (some .long) 2) (hN : zNl K = 2) (hT : zTr K = (some 1)) (x1 : Int) : zR K 0 [(0, 69, 0), (1, 0, x1)] [] (fX67_sum x1) := by
  refine r_aload_n E dX67_sum_0 rfl 0 rfl ?_
  refine r_iload_n E dX67_sum_1 rfl 1 rfl ?_
  refine r_callV E [(0, x1)] [] rfl zc_69 zr_69 (fun o _ => ⟨_, zw_X67.1 o, rfl⟩) (lw_V q3813 q3815 qs116 q294 q3816) dX67_sum_2 zy_X67_isThere rfl (by omega) (by decide) (Nat.le_of_ble_eq_true rfl) (by decide) (fun l G => k_fX67_isThere l G x1) (fun v1 => ?_)
  refine r_if_eq E 17 (by decide) dX67_sum_5 (fun _ => ?_) (fun _ => ?_)
  · refine r_lconst (v := 0) E dX67_sum_17 (by decide) (zkJ (by decide) (by decide)) ?_
    exact r_lreturn E rfl hT dX67_sum_18
  · refine r_aload_n E dX67_sum_8 rfl 0 rfl ?_
    refine r_gec (y := 0) E zc_69 dX67_sum_9 q3277 zr_69 (zh_6862 (by decide)) (by decide) ?_
    refine r_iload_n E dX67_sum_12 rfl 1 rfl ?_
    refine r_laload E zc_6862 za_6862 zt_6862 zx_6862 rfl rfl dX67_sum_13 (by decide) (fun v2 => ?_)
    refine r_goto E 18 (by decide) dX67_sum_14 ?_
    exact r_lreturn E rfl hT dX67_sum_18
theorem k_fX67_sum (l : Launch) (G : zG) (x1 : Int) : zCt l G yX67_sum cX67_sum 2 (some .long) 2 [(69, 0), (0, x1)] (some 1) (fX67_sum x1) := zCt.of (by decide) (Nat.le_of_ble_eq_true rfl) (fun K E _ _ hN hT => w_fX67_sum E hN hT x1)
theorem dX67_lineEnd_0 : decode cX67_lineEnd 0 = .ok (.iload_n 1, 1) := by decide +kernel
theorem dX67_lineEnd_1 : decode cX67_lineEnd 1 = .ok (.istore_n 2, 1) := by decide +kernel
theorem dX67_lineEnd_2 : decode cX67_lineEnd 2 = .ok (.iload_n 2, 1) := by decide +kernel
theorem dX67_lineEnd_3 : decode cX67_lineEnd 3 = .ok (.aload_n 0, 1) := by decide +kernel
theorem dX67_lineEnd_4 : decode cX67_lineEnd 4 = .ok (.getfield 825, 3) := by decide +kernel
theorem dX67_lineEnd_7 : decode cX67_lineEnd 7 = .ok (.if_icmp .ge 31, 3) := by decide +kernel
theorem dX67_lineEnd_10 : decode cX67_lineEnd 10 = .ok (.aload_n 0, 1) := by decide +kernel
theorem dX67_lineEnd_11 : decode cX67_lineEnd 11 = .ok (.getfield 206, 3) := by decide +kernel
theorem dX67_lineEnd_14 : decode cX67_lineEnd 14 = .ok (.iload_n 2, 1) := by decide +kernel
theorem dX67_lineEnd_15 : decode cX67_lineEnd 15 = .ok (.iaload, 1) := by decide +kernel
theorem dX67_lineEnd_16 : decode cX67_lineEnd 16 = .ok (.bipush 10, 2) := by decide +kernel
theorem dX67_lineEnd_18 : decode cX67_lineEnd 18 = .ok (.if_icmp .eq 20, 3) := by decide +kernel
theorem dX67_lineEnd_21 : decode cX67_lineEnd 21 = .ok (.aload_n 0, 1) := by decide +kernel
theorem dX67_lineEnd_22 : decode cX67_lineEnd 22 = .ok (.getfield 206, 3) := by decide +kernel
theorem dX67_lineEnd_25 : decode cX67_lineEnd 25 = .ok (.iload_n 2, 1) := by decide +kernel
theorem dX67_lineEnd_26 : decode cX67_lineEnd 26 = .ok (.iaload, 1) := by decide +kernel
theorem dX67_lineEnd_27 : decode cX67_lineEnd 27 = .ok (.bipush 59, 2) := by decide +kernel
theorem dX67_lineEnd_29 : decode cX67_lineEnd 29 = .ok (.if_icmp .eq 9, 3) := by decide +kernel
theorem dX67_lineEnd_32 : decode cX67_lineEnd 32 = .ok (.iinc 2 1, 3) := by decide +kernel
theorem dX67_lineEnd_35 : decode cX67_lineEnd 35 = .ok (.goto (-33), 3) := by decide +kernel
theorem dX67_lineEnd_38 : decode cX67_lineEnd 38 = .ok (.iload_n 2, 1) := by decide +kernel
theorem dX67_lineEnd_39 : decode cX67_lineEnd 39 = .ok (.ireturn, 1) := by decide +kernel
theorem zy_X67_lineEnd : yX67_lineEnd.cls ≠ "java/lang/invoke/MethodHandle" ∧ yX67_lineEnd.cls ≠ "java/lang/invoke/VarHandle" ∧ (parseMethodDescriptor yX67_lineEnd.desc).map (fun d => d.parameters.length) = some 1 := by decide +kernel
theorem w_fX67_lineEnd_B2 {K : zK} (E : zE K cX67_lineEnd "RingHouseModel" (some .int) 0) (hN : zNl K = 3) (hT : zTr K = (some 0)) : ∀ r2 : Int → zX, (∀ s : Int, zR K 2 [(0, 69, 0), (2, 0, s)] [] (r2 s)) → ∀ s : Int, zR K 2 [(0, 69, 0), (2, 0, s)] [] (fX67_lineEnd_B2 r2 s) := by
  intro r2 hr2 x2
  refine r_iload_n E dX67_lineEnd_2 rfl 1 rfl ?_
  refine r_aload_n E dX67_lineEnd_3 rfl 0 rfl ?_
  refine r_get E zc_69 zt_6867 dX67_lineEnd_4 q3282 zr_69 (zg_6867 _) (by decide) (fun v1 => ?_)
  refine r_icmp_ge E 38 (by decide) dX67_lineEnd_7 (fun _ => ?_) (fun _ => ?_)
  · refine r_iload_n E dX67_lineEnd_38 rfl 1 rfl ?_
    exact r_ireturn E rfl hT dX67_lineEnd_39
  · refine r_aload_n E dX67_lineEnd_10 rfl 0 rfl ?_
    refine r_gec (y := 0) E zc_69 dX67_lineEnd_11 q3283 zr_69 (zh_6868 (by decide)) (by decide) ?_
    refine r_iload_n E dX67_lineEnd_14 rfl 1 rfl ?_
    refine r_iaload E zc_6868 za_6868 zt_6868 zx_6868 rfl rfl dX67_lineEnd_15 (by decide) (fun v2 => ?_)
    refine r_bipush E dX67_lineEnd_16 (by decide) (zkI (by decide) (by decide)) ?_
    refine r_icmp_eq E 38 (by decide) dX67_lineEnd_18 (fun _ => ?_) (fun _ => ?_)
    · refine r_iload_n E dX67_lineEnd_38 rfl 1 rfl ?_
      exact r_ireturn E rfl hT dX67_lineEnd_39
    · refine r_aload_n E dX67_lineEnd_21 rfl 0 rfl ?_
      refine r_gec (y := 0) E zc_69 dX67_lineEnd_22 q3283 zr_69 (zh_6868 (by decide)) (by decide) ?_
      refine r_iload_n E dX67_lineEnd_25 rfl 1 rfl ?_
      refine r_iaload E zc_6868 za_6868 zt_6868 zx_6868 rfl rfl dX67_lineEnd_26 (by decide) (fun v3 => ?_)
      refine r_bipush E dX67_lineEnd_27 (by decide) (zkI (by decide) (by decide)) ?_
      refine r_icmp_eq E 38 (by decide) dX67_lineEnd_29 (fun _ => ?_) (fun _ => ?_)
      · refine r_iload_n E dX67_lineEnd_38 rfl 1 rfl ?_
        exact r_ireturn E rfl hT dX67_lineEnd_39
      · refine r_iinc (ls' := fun v4 => [(2, 0, v4), (0, 69, 0)]) E 1 rfl (by rw [hN]; decide) (fun _ => rfl) dX67_lineEnd_32 (fun v4 _ => ?_)
        refine r_goto E 2 (by decide) dX67_lineEnd_35 ?_
        refine r_pick E [1, 0] rfl ?_
        exact hr2 v4
theorem w_fX67_lineEnd {K : zK} (E : zE K cX67_lineEnd "RingHouseModel" (some .int) 0) (hN : zNl K = 3) (hT : zTr K = (some 0)) (x1 : Int) : zR K 0 [(0, 69, 0), (1, 0, x1)] [] (fX67_lineEnd x1) := by
  refine r_iload_n E dX67_lineEnd_0 rfl 1 rfl ?_
  refine r_istore_n (ls' := [(2, 0, x1), (0, 69, 0), (1, 0, x1)]) E dX67_lineEnd_1 rfl (by rw [hN]; decide) rfl ?_
  refine r_pick E [1, 0] rfl ?_
  exact r_loop (L := fun s => [(0, 69, 0), (2, 0, s)]) (w_fX67_lineEnd_B2 E hN hT) zBIG x1
theorem k_fX67_lineEnd (l : Launch) (G : zG) (x1 : Int) : zCt l G yX67_lineEnd cX67_lineEnd 3 (some .int) 0 [(69, 0), (0, x1)] (some 0) (fX67_lineEnd x1) := zCt.of (by decide) (Nat.le_of_ble_eq_true rfl) (fun K E _ _ hN hT => w_fX67_lineEnd E hN hT x1)
theorem dX67_isLetter_0 : decode cX67_isLetter 0 = .ok (.iload_n 0, 1) := by decide +kernel
theorem dX67_isLetter_1 : decode cX67_isLetter 1 = .ok (.i2l, 1) := by decide +kernel
theorem dX67_isLetter_2 : decode cX67_isLetter 2 = .ok (.ldc2_w 803, 3) := by decide +kernel
theorem dX67_isLetter_5 : decode cX67_isLetter 5 = .ok (.ldc2_w 805, 3) := by decide +kernel
theorem dX67_isLetter_8 : decode cX67_isLetter 8 = .ok (.invokestatic 363, 3) := by decide +kernel
theorem dX67_isLetter_11 : decode cX67_isLetter 11 = .ok (.ireturn, 1) := by decide +kernel
theorem zy_X67_isLetter : yX67_isLetter.cls ≠ "java/lang/invoke/MethodHandle" ∧ yX67_isLetter.cls ≠ "java/lang/invoke/VarHandle" ∧ (parseMethodDescriptor yX67_isLetter.desc).map (fun d => d.parameters.length) = some 1 := by decide +kernel
theorem w_fX67_isLetter {K : zK} (E : zE K cX67_isLetter "RingHouseModel" (some .boolean) 1) (hN : zNl K = 1) (hT : zTr K = (some 0)) (x0 : Int) : zR K 0 [(0, 0, x0)] [] (fX67_isLetter x0) := by
  refine r_iload_n E dX67_isLetter_0 rfl 0 rfl ?_
  refine r_i2l E dX67_isLetter_1 ?_
  refine r_ldc2 (v := 97) E dX67_isLetter_2 q4148 (by decide) (zkJ (by decide) (by decide)) ?_
  refine r_ldc2 (v := 122) E dX67_isLetter_5 q4149 (by decide) (zkJ (by decide) (by decide)) ?_
  refine r_callS E [(1, x0), (1, 97), (1, 122)] [] rfl q3619 q3620 q294 q3621 dX67_isLetter_8 zy_X67_in rfl (by omega) (by decide) (Nat.le_of_ble_eq_true rfl) (fun l G => k_fX67_in l G x0 97 122) (fun v1 => ?_)
  exact r_zreturnb E rfl hT dX67_isLetter_11
theorem k_fX67_isLetter (l : Launch) (G : zG) (x0 : Int) : zCt l G yX67_isLetter cX67_isLetter 1 (some .boolean) 1 [(0, x0)] (some 0) (fX67_isLetter x0) := zCt.of (by decide) (Nat.le_of_ble_eq_true rfl) (fun K E _ _ hN hT => w_fX67_isLetter E hN hT x0)
theorem dX67_isDigit_0 : decode cX67_isDigit 0 = .ok (.iload_n 0, 1) := by decide +kernel
theorem dX67_isDigit_1 : decode cX67_isDigit 1 = .ok (.i2l, 1) := by decide +kernel
theorem dX67_isDigit_2 : decode cX67_isDigit 2 = .ok (.ldc2_w 799, 3) := by decide +kernel
theorem dX67_isDigit_5 : decode cX67_isDigit 5 = .ok (.ldc2_w 801, 3) := by decide +kernel
theorem dX67_isDigit_8 : decode cX67_isDigit 8 = .ok (.invokestatic 363, 3) := by decide +kernel
theorem dX67_isDigit_11 : decode cX67_isDigit 11 = .ok (.ireturn, 1) := by decide +kernel
theorem zy_X67_isDigit : yX67_isDigit.cls ≠ "java/lang/invoke/MethodHandle" ∧ yX67_isDigit.cls ≠ "java/lang/invoke/VarHandle" ∧ (parseMethodDescriptor yX67_isDigit.desc).map (fun d => d.parameters.length) = some 1 := by decide +kernel
theorem w_fX67_isDigit {K : zK} (E : zE K cX67_isDigit "RingHouseModel" (some .boolean) 1) (hN : zNl K = 1) (hT : zTr K = (some 0)) (x0 : Int) : zR K 0 [(0, 0, x0)] [] (fX67_isDigit x0) := by
  refine r_iload_n E dX67_isDigit_0 rfl 0 rfl ?_
  refine r_i2l E dX67_isDigit_1 ?_
  refine r_ldc2 (v := 48) E dX67_isDigit_2 q4153 (by decide) (zkJ (by decide) (by decide)) ?_
  refine r_ldc2 (v := 57) E dX67_isDigit_5 q4154 (by decide) (zkJ (by decide) (by decide)) ?_
  refine r_callS E [(1, x0), (1, 48), (1, 57)] [] rfl q3619 q3620 q294 q3621 dX67_isDigit_8 zy_X67_in rfl (by omega) (by decide) (Nat.le_of_ble_eq_true rfl) (fun l G => k_fX67_in l G x0 48 57) (fun v1 => ?_)
  exact r_zreturnb E rfl hT dX67_isDigit_11
theorem k_fX67_isDigit (l : Launch) (G : zG) (x0 : Int) : zCt l G yX67_isDigit cX67_isDigit 1 (some .boolean) 1 [(0, x0)] (some 0) (fX67_isDigit x0) := zCt.of (by decide) (Nat.le_of_ble_eq_true rfl) (fun K E _ _ hN hT => w_fX67_isDigit E hN hT x0)
theorem dX67_isOfWord_0 : decode cX67_isOfWord 0 = .ok (.iload_n 0, 1) := by decide +kernel
theorem dX67_isOfWord_1 : decode cX67_isOfWord 1 = .ok (.invokestatic 807, 3) := by decide +kernel
theorem dX67_isOfWord_4 : decode cX67_isOfWord 4 = .ok (.ifCond .ne 22, 3) := by decide +kernel
theorem dX67_isOfWord_7 : decode cX67_isOfWord 7 = .ok (.iload_n 0, 1) := by decide +kernel
theorem dX67_isOfWord_8 : decode cX67_isOfWord 8 = .ok (.invokestatic 810, 3) := by decide +kernel
theorem dX67_isOfWord_11 : decode cX67_isOfWord 11 = .ok (.ifCond .ne 15, 3) := by decide +kernel
theorem dX67_isOfWord_14 : decode cX67_isOfWord 14 = .ok (.iload_n 0, 1) := by decide +kernel
theorem dX67_isOfWord_15 : decode cX67_isOfWord 15 = .ok (.bipush 95, 2) := by decide +kernel
theorem dX67_isOfWord_17 : decode cX67_isOfWord 17 = .ok (.if_icmp .eq 9, 3) := by decide +kernel
theorem dX67_isOfWord_20 : decode cX67_isOfWord 20 = .ok (.iload_n 0, 1) := by decide +kernel
theorem dX67_isOfWord_21 : decode cX67_isOfWord 21 = .ok (.bipush 46, 2) := by decide +kernel
theorem dX67_isOfWord_23 : decode cX67_isOfWord 23 = .ok (.if_icmp .ne 7, 3) := by decide +kernel
theorem dX67_isOfWord_26 : decode cX67_isOfWord 26 = .ok (.iconst 1, 1) := by decide +kernel
theorem dX67_isOfWord_27 : decode cX67_isOfWord 27 = .ok (.goto 4, 3) := by decide +kernel
theorem dX67_isOfWord_30 : decode cX67_isOfWord 30 = .ok (.iconst 0, 1) := by decide +kernel
theorem dX67_isOfWord_31 : decode cX67_isOfWord 31 = .ok (.ireturn, 1) := by decide +kernel
theorem zy_X67_isOfWord : yX67_isOfWord.cls ≠ "java/lang/invoke/MethodHandle" ∧ yX67_isOfWord.cls ≠ "java/lang/invoke/VarHandle" ∧ (parseMethodDescriptor yX67_isOfWord.desc).map (fun d => d.parameters.length) = some 1 := by decide +kernel
theorem w_fX67_isOfWord {K : zK} (E : zE K cX67_isOfWord "RingHouseModel" (some .boolean) 2) (hN : zNl K = 1) (hT : zTr K = (some 0)) (x0 : Int) : zR K 0 [(0, 0, x0)] [] (fX67_isOfWord x0) := by
  refine r_iload_n E dX67_isOfWord_0 rfl 0 rfl ?_
  refine r_callS E [(0, x0)] [] rfl q4145 q4146 q294 q4147 dX67_isOfWord_1 zy_X67_isLetter rfl (by omega) (by decide) (Nat.le_of_ble_eq_true rfl) (fun l G => k_fX67_isLetter l G x0) (fun v1 => ?_)
  refine r_if_ne E 26 (by decide) dX67_isOfWord_4 (fun _ => ?_) (fun _ => ?_)
  · refine r_iconst E dX67_isOfWord_26 (zkI (by decide) (by decide)) ?_
    refine r_goto E 31 (by decide) dX67_isOfWord_27 ?_
    exact r_zreturn E rfl hT (by decide) dX67_isOfWord_31
  · refine r_iload_n E dX67_isOfWord_7 rfl 0 rfl ?_
    refine r_callS E [(0, x0)] [] rfl q4150 q4151 q294 q4152 dX67_isOfWord_8 zy_X67_isDigit rfl (by omega) (by decide) (Nat.le_of_ble_eq_true rfl) (fun l G => k_fX67_isDigit l G x0) (fun v2 => ?_)
    refine r_if_ne E 26 (by decide) dX67_isOfWord_11 (fun _ => ?_) (fun _ => ?_)
    · refine r_iconst E dX67_isOfWord_26 (zkI (by decide) (by decide)) ?_
      refine r_goto E 31 (by decide) dX67_isOfWord_27 ?_
      exact r_zreturn E rfl hT (by decide) dX67_isOfWord_31
    · refine r_iload_n E dX67_isOfWord_14 rfl 0 rfl ?_
      refine r_bipush E dX67_isOfWord_15 (by decide) (zkI (by decide) (by decide)) ?_
      refine r_icmp_eq E 26 (by decide) dX67_isOfWord_17 (fun _ => ?_) (fun _ => ?_)
      · refine r_iconst E dX67_isOfWord_26 (zkI (by decide) (by decide)) ?_
        refine r_goto E 31 (by decide) dX67_isOfWord_27 ?_
        exact r_zreturn E rfl hT (by decide) dX67_isOfWord_31
      · refine r_iload_n E dX67_isOfWord_20 rfl 0 rfl ?_
        refine r_bipush E dX67_isOfWord_21 (by decide) (zkI (by decide) (by decide)) ?_
        refine r_icmp_ne E 30 (by decide) dX67_isOfWord_23 (fun _ => ?_) (fun _ => ?_)
        · refine r_iconst E dX67_isOfWord_30 (zkI (by decide) (by decide)) ?_
          exact r_zreturn E rfl hT (by decide) dX67_isOfWord_31
        · refine r_iconst E dX67_isOfWord_26 (zkI (by decide) (by decide)) ?_
          refine r_goto E 31 (by decide) dX67_isOfWord_27 ?_
          exact r_zreturn E rfl hT (by decide) dX67_isOfWord_31
theorem k_fX67_isOfWord (l : Launch) (G : zG) (x0 : Int) : zCt l G yX67_isOfWord cX67_isOfWord 1 (some .boolean) 2 [(0, x0)] (some 0) (fX67_isOfWord x0) := zCt.of (by decide) (Nat.le_of_ble_eq_true rfl) (fun K E _ _ hN hT => w_fX67_isOfWord E hN hT x0)
theorem dX67_next_0 : decode cX67_next 0 = .ok (.aload_n 0, 1) := by decide +kernel
theorem dX67_next_1 : decode cX67_next 1 = .ok (.aload_n 0, 1) := by decide +kernel
theorem dX67_next_2 : decode cX67_next 2 = .ok (.getfield 828, 3) := by decide +kernel
theorem dX67_next_5 : decode cX67_next 5 = .ok (.putfield 831, 3) := by decide +kernel
theorem dX67_next_8 : decode cX67_next 8 = .ok (.aload_n 0, 1) := by decide +kernel
theorem dX67_next_9 : decode cX67_next 9 = .ok (.getfield 831, 3) := by decide +kernel
theorem dX67_next_12 : decode cX67_next 12 = .ok (.aload_n 0, 1) := by decide +kernel
theorem dX67_next_13 : decode cX67_next 13 = .ok (.getfield 834, 3) := by decide +kernel
theorem dX67_next_16 : decode cX67_next 16 = .ok (.if_icmp .ge 30, 3) := by decide +kernel
theorem dX67_next_19 : decode cX67_next 19 = .ok (.aload_n 0, 1) := by decide +kernel
theorem dX67_next_20 : decode cX67_next 20 = .ok (.getfield 206, 3) := by decide +kernel
theorem dX67_next_23 : decode cX67_next 23 = .ok (.aload_n 0, 1) := by decide +kernel
theorem dX67_next_24 : decode cX67_next 24 = .ok (.getfield 831, 3) := by decide +kernel
theorem dX67_next_27 : decode cX67_next 27 = .ok (.iaload, 1) := by decide +kernel
theorem dX67_next_28 : decode cX67_next 28 = .ok (.bipush 32, 2) := by decide +kernel
theorem dX67_next_30 : decode cX67_next 30 = .ok (.if_icmp .ne 16, 3) := by decide +kernel
theorem dX67_next_33 : decode cX67_next 33 = .ok (.aload_n 0, 1) := by decide +kernel
theorem dX67_next_34 : decode cX67_next 34 = .ok (.dup, 1) := by decide +kernel
theorem dX67_next_35 : decode cX67_next 35 = .ok (.getfield 831, 3) := by decide +kernel
theorem dX67_next_38 : decode cX67_next 38 = .ok (.iconst 1, 1) := by decide +kernel
theorem dX67_next_39 : decode cX67_next 39 = .ok (.iadd, 1) := by decide +kernel
theorem dX67_next_40 : decode cX67_next 40 = .ok (.putfield 831, 3) := by decide +kernel
theorem dX67_next_43 : decode cX67_next 43 = .ok (.goto (-35), 3) := by decide +kernel
theorem dX67_next_46 : decode cX67_next 46 = .ok (.aload_n 0, 1) := by decide +kernel
theorem dX67_next_47 : decode cX67_next 47 = .ok (.aload_n 0, 1) := by decide +kernel
theorem dX67_next_48 : decode cX67_next 48 = .ok (.getfield 831, 3) := by decide +kernel
theorem dX67_next_51 : decode cX67_next 51 = .ok (.putfield 828, 3) := by decide +kernel
theorem dX67_next_54 : decode cX67_next 54 = .ok (.aload_n 0, 1) := by decide +kernel
theorem dX67_next_55 : decode cX67_next 55 = .ok (.getfield 831, 3) := by decide +kernel
theorem dX67_next_58 : decode cX67_next 58 = .ok (.aload_n 0, 1) := by decide +kernel
theorem dX67_next_59 : decode cX67_next 59 = .ok (.getfield 834, 3) := by decide +kernel
theorem dX67_next_62 : decode cX67_next 62 = .ok (.if_icmp .lt 25, 3) := by decide +kernel
theorem dX67_next_65 : decode cX67_next 65 = .ok (.aload_n 0, 1) := by decide +kernel
theorem dX67_next_66 : decode cX67_next 66 = .ok (.iconst 0, 1) := by decide +kernel
theorem dX67_next_67 : decode cX67_next 67 = .ok (.putfield 837, 3) := by decide +kernel
theorem dX67_next_70 : decode cX67_next 70 = .ok (.aload_n 0, 1) := by decide +kernel
theorem dX67_next_71 : decode cX67_next 71 = .ok (.aload_n 0, 1) := by decide +kernel
theorem dX67_next_72 : decode cX67_next 72 = .ok (.getfield 834, 3) := by decide +kernel
theorem dX67_next_75 : decode cX67_next 75 = .ok (.putfield 831, 3) := by decide +kernel
theorem dX67_next_78 : decode cX67_next 78 = .ok (.aload_n 0, 1) := by decide +kernel
theorem dX67_next_79 : decode cX67_next 79 = .ok (.aload_n 0, 1) := by decide +kernel
theorem dX67_next_80 : decode cX67_next 80 = .ok (.getfield 834, 3) := by decide +kernel
theorem dX67_next_83 : decode cX67_next 83 = .ok (.putfield 828, 3) := by decide +kernel
theorem dX67_next_86 : decode cX67_next 86 = .ok (.return_, 1) := by decide +kernel
theorem dX67_next_87 : decode cX67_next 87 = .ok (.aload_n 0, 1) := by decide +kernel
theorem dX67_next_88 : decode cX67_next 88 = .ok (.getfield 206, 3) := by decide +kernel
theorem dX67_next_91 : decode cX67_next 91 = .ok (.aload_n 0, 1) := by decide +kernel
theorem dX67_next_92 : decode cX67_next 92 = .ok (.getfield 831, 3) := by decide +kernel
theorem dX67_next_95 : decode cX67_next 95 = .ok (.iaload, 1) := by decide +kernel
theorem dX67_next_96 : decode cX67_next 96 = .ok (.istore_n 1, 1) := by decide +kernel
theorem dX67_next_97 : decode cX67_next 97 = .ok (.iload_n 1, 1) := by decide +kernel
theorem dX67_next_98 : decode cX67_next 98 = .ok (.invokestatic 840, 3) := by decide +kernel
theorem dX67_next_101 : decode cX67_next 101 = .ok (.ifCond .eq 48, 3) := by decide +kernel
theorem dX67_next_104 : decode cX67_next 104 = .ok (.aload_n 0, 1) := by decide +kernel
theorem dX67_next_105 : decode cX67_next 105 = .ok (.iconst 1, 1) := by decide +kernel
theorem dX67_next_106 : decode cX67_next 106 = .ok (.putfield 837, 3) := by decide +kernel
theorem dX67_next_109 : decode cX67_next 109 = .ok (.aload_n 0, 1) := by decide +kernel
theorem dX67_next_110 : decode cX67_next 110 = .ok (.getfield 828, 3) := by decide +kernel
theorem dX67_next_113 : decode cX67_next 113 = .ok (.aload_n 0, 1) := by decide +kernel
theorem dX67_next_114 : decode cX67_next 114 = .ok (.getfield 834, 3) := by decide +kernel
theorem dX67_next_117 : decode cX67_next 117 = .ok (.if_icmp .ge 31, 3) := by decide +kernel
theorem dX67_next_120 : decode cX67_next 120 = .ok (.aload_n 0, 1) := by decide +kernel
theorem dX67_next_121 : decode cX67_next 121 = .ok (.getfield 206, 3) := by decide +kernel
theorem dX67_next_124 : decode cX67_next 124 = .ok (.aload_n 0, 1) := by decide +kernel
theorem dX67_next_125 : decode cX67_next 125 = .ok (.getfield 828, 3) := by decide +kernel
theorem dX67_next_128 : decode cX67_next 128 = .ok (.iaload, 1) := by decide +kernel
theorem dX67_next_129 : decode cX67_next 129 = .ok (.invokestatic 840, 3) := by decide +kernel
theorem dX67_next_132 : decode cX67_next 132 = .ok (.ifCond .eq 16, 3) := by decide +kernel
theorem dX67_next_135 : decode cX67_next 135 = .ok (.aload_n 0, 1) := by decide +kernel
theorem dX67_next_136 : decode cX67_next 136 = .ok (.dup, 1) := by decide +kernel
theorem dX67_next_137 : decode cX67_next 137 = .ok (.getfield 828, 3) := by decide +kernel
theorem dX67_next_140 : decode cX67_next 140 = .ok (.iconst 1, 1) := by decide +kernel
theorem dX67_next_141 : decode cX67_next 141 = .ok (.iadd, 1) := by decide +kernel
theorem dX67_next_142 : decode cX67_next 142 = .ok (.putfield 828, 3) := by decide +kernel
theorem dX67_next_145 : decode cX67_next 145 = .ok (.goto (-36), 3) := by decide +kernel
theorem dX67_next_148 : decode cX67_next 148 = .ok (.return_, 1) := by decide +kernel
theorem dX67_next_149 : decode cX67_next 149 = .ok (.iload_n 1, 1) := by decide +kernel
theorem dX67_next_150 : decode cX67_next 150 = .ok (.bipush 58, 2) := by decide +kernel
theorem dX67_next_152 : decode cX67_next 152 = .ok (.if_icmp .eq 51, 3) := by decide +kernel
theorem dX67_next_155 : decode cX67_next 155 = .ok (.iload_n 1, 1) := by decide +kernel
theorem dX67_next_156 : decode cX67_next 156 = .ok (.bipush 35, 2) := by decide +kernel
theorem dX67_next_158 : decode cX67_next 158 = .ok (.if_icmp .eq 45, 3) := by decide +kernel
theorem dX67_next_161 : decode cX67_next 161 = .ok (.iload_n 1, 1) := by decide +kernel
theorem dX67_next_162 : decode cX67_next 162 = .ok (.bipush 124, 2) := by decide +kernel
theorem dX67_next_164 : decode cX67_next 164 = .ok (.if_icmp .eq 39, 3) := by decide +kernel
theorem dX67_next_167 : decode cX67_next 167 = .ok (.iload_n 1, 1) := by decide +kernel
theorem dX67_next_168 : decode cX67_next 168 = .ok (.bipush 36, 2) := by decide +kernel
theorem dX67_next_170 : decode cX67_next 170 = .ok (.if_icmp .eq 33, 3) := by decide +kernel
theorem dX67_next_173 : decode cX67_next 173 = .ok (.iload_n 1, 1) := by decide +kernel
theorem dX67_next_174 : decode cX67_next 174 = .ok (.bipush 42, 2) := by decide +kernel
theorem dX67_next_176 : decode cX67_next 176 = .ok (.if_icmp .eq 27, 3) := by decide +kernel
theorem dX67_next_179 : decode cX67_next 179 = .ok (.iload_n 1, 1) := by decide +kernel
theorem dX67_next_180 : decode cX67_next 180 = .ok (.bipush 44, 2) := by decide +kernel
theorem dX67_next_182 : decode cX67_next 182 = .ok (.if_icmp .eq 21, 3) := by decide +kernel
theorem dX67_next_185 : decode cX67_next 185 = .ok (.iload_n 1, 1) := by decide +kernel
theorem dX67_next_186 : decode cX67_next 186 = .ok (.bipush 43, 2) := by decide +kernel
theorem dX67_next_188 : decode cX67_next 188 = .ok (.if_icmp .eq 15, 3) := by decide +kernel
theorem dX67_next_191 : decode cX67_next 191 = .ok (.iload_n 1, 1) := by decide +kernel
theorem dX67_next_192 : decode cX67_next 192 = .ok (.bipush 45, 2) := by decide +kernel
theorem dX67_next_194 : decode cX67_next 194 = .ok (.if_icmp .eq 9, 3) := by decide +kernel
theorem dX67_next_197 : decode cX67_next 197 = .ok (.iload_n 1, 1) := by decide +kernel
theorem dX67_next_198 : decode cX67_next 198 = .ok (.bipush 39, 2) := by decide +kernel
theorem dX67_next_200 : decode cX67_next 200 = .ok (.if_icmp .ne 7, 3) := by decide +kernel
theorem dX67_next_203 : decode cX67_next 203 = .ok (.iconst 1, 1) := by decide +kernel
theorem dX67_next_204 : decode cX67_next 204 = .ok (.goto 4, 3) := by decide +kernel
theorem dX67_next_207 : decode cX67_next 207 = .ok (.iconst 0, 1) := by decide +kernel
theorem dX67_next_208 : decode cX67_next 208 = .ok (.istore_n 2, 1) := by decide +kernel
theorem dX67_next_209 : decode cX67_next 209 = .ok (.aload_n 0, 1) := by decide +kernel
theorem dX67_next_210 : decode cX67_next 210 = .ok (.iload_n 2, 1) := by decide +kernel
theorem dX67_next_211 : decode cX67_next 211 = .ok (.ifCond .eq 7, 3) := by decide +kernel
theorem dX67_next_214 : decode cX67_next 214 = .ok (.iconst 2, 1) := by decide +kernel
theorem dX67_next_215 : decode cX67_next 215 = .ok (.goto 4, 3) := by decide +kernel
theorem dX67_next_218 : decode cX67_next 218 = .ok (.iconst 3, 1) := by decide +kernel
theorem dX67_next_219 : decode cX67_next 219 = .ok (.putfield 837, 3) := by decide +kernel
theorem dX67_next_222 : decode cX67_next 222 = .ok (.aload_n 0, 1) := by decide +kernel
theorem dX67_next_223 : decode cX67_next 223 = .ok (.dup, 1) := by decide +kernel
theorem dX67_next_224 : decode cX67_next 224 = .ok (.getfield 828, 3) := by decide +kernel
theorem dX67_next_227 : decode cX67_next 227 = .ok (.iconst 1, 1) := by decide +kernel
theorem dX67_next_228 : decode cX67_next 228 = .ok (.iadd, 1) := by decide +kernel
theorem dX67_next_229 : decode cX67_next 229 = .ok (.putfield 828, 3) := by decide +kernel
theorem dX67_next_232 : decode cX67_next 232 = .ok (.return_, 1) := by decide +kernel
theorem zy_X67_next : yX67_next.cls ≠ "java/lang/invoke/MethodHandle" ∧ yX67_next.cls ≠ "java/lang/invoke/VarHandle" ∧ (parseMethodDescriptor yX67_next.desc).map (fun d => d.parameters.length) = some 0 := by decide +kernel
theorem w_fX67_next_J219 {K : zK} (E : zE K cX67_next "RingHouseModel" none 3) (hN : zNl K = 3) (hT : zTr K = none) (s1 : Int) : zR K 219 [(0, 69, 0)] [(0, s1), (69, 0)] (fX67_next_J219 s1) := by
  refine r_put E zc_69 zt_6887 zo_6887 dX67_next_219 q3302 zr_69 zw_X67 zp_6887 (fun _ => rfl) (fun _ => rfl) (by decide) ?_
  refine r_aload_n E dX67_next_222 rfl 0 rfl ?_
  refine r_dup E (zn1 rfl) dX67_next_223 ?_
  refine r_get E zc_69 zt_6889 dX67_next_224 q3304 zr_69 (zg_6889 _) (by decide) (fun v10 => ?_)
  refine r_iconst E dX67_next_227 (zkI (by decide) (by decide)) ?_
  refine r_iadd E dX67_next_228 ?_
  refine r_put E zc_69 zt_6889 zo_6889 dX67_next_229 q3304 zr_69 zw_X67 zp_6889 (fun _ => rfl) (fun _ => rfl) (by decide) ?_
  exact r_return E rfl hT dX67_next_232
theorem w_fX67_next_J208 {K : zK} (E : zE K cX67_next "RingHouseModel" none 3) (hN : zNl K = 3) (hT : zTr K = none) (s0 : Int) : zR K 208 [(0, 69, 0)] [(0, s0)] (fX67_next_J208 s0) := by
  refine r_istore_n (ls' := [(2, 0, s0), (0, 69, 0)]) E dX67_next_208 rfl (by rw [hN]; decide) rfl ?_
  refine r_aload_n E dX67_next_209 rfl 1 rfl ?_
  refine r_iload_n E dX67_next_210 rfl 0 rfl ?_
  refine r_if_eq E 218 (by decide) dX67_next_211 (fun _ => ?_) (fun _ => ?_)
  · refine r_iconst E dX67_next_218 (zkI (by decide) (by decide)) ?_
    refine r_pick E [1] rfl ?_
    exact w_fX67_next_J219 E hN hT 3
  · refine r_iconst E dX67_next_214 (zkI (by decide) (by decide)) ?_
    refine r_goto E 219 (by decide) dX67_next_215 ?_
    refine r_pick E [1] rfl ?_
    exact w_fX67_next_J219 E hN hT 2
theorem w_fX67_next_J203 {K : zK} (E : zE K cX67_next "RingHouseModel" none 3) (hN : zNl K = 3) (hT : zTr K = none) : zR K 203 [(0, 69, 0)] [] (fX67_next_J203) := by
  refine r_iconst E dX67_next_203 (zkI (by decide) (by decide)) ?_
  refine r_goto E 208 (by decide) dX67_next_204 ?_
  exact w_fX67_next_J208 E hN hT 1
theorem w_fX67_next_B109 {K : zK} (E : zE K cX67_next "RingHouseModel" none 3) (hN : zNl K = 3) (hT : zTr K = none) : ∀ r109 : Int → zX, (∀ s : Int, zR K 109 [(0, 69, 0)] [] (r109 s)) → ∀ s : Int, zR K 109 [(0, 69, 0)] [] (fX67_next_B109 r109 s) := by
  intro r109 hr109 s
  refine r_aload_n E dX67_next_109 rfl 0 rfl ?_
  refine r_get E zc_69 zt_6889 dX67_next_110 q3304 zr_69 (zg_6889 _) (by decide) (fun v11 => ?_)
  refine r_aload_n E dX67_next_113 rfl 0 rfl ?_
  refine r_get E zc_69 zt_6890 dX67_next_114 q3305 zr_69 (zg_6890 _) (by decide) (fun v12 => ?_)
  refine r_icmp_ge E 148 (by decide) dX67_next_117 (fun _ => ?_) (fun _ => ?_)
  · exact r_return E rfl hT dX67_next_148
  · refine r_aload_n E dX67_next_120 rfl 0 rfl ?_
    refine r_gec (y := 0) E zc_69 dX67_next_121 q3283 zr_69 (zh_6868 (by decide)) (by decide) ?_
    refine r_aload_n E dX67_next_124 rfl 0 rfl ?_
    refine r_get E zc_69 zt_6889 dX67_next_125 q3304 zr_69 (zg_6889 _) (by decide) (fun v13 => ?_)
    refine r_iaload E zc_6868 za_6868 zt_6868 zx_6868 rfl rfl dX67_next_128 (by decide) (fun v14 => ?_)
    refine r_callS E [(0, v14)] [] rfl q4142 q4143 q294 q4144 dX67_next_129 zy_X67_isOfWord rfl (by omega) (by decide) (Nat.le_of_ble_eq_true rfl) (fun l G => k_fX67_isOfWord l G v14) (fun v15 => ?_)
    refine r_if_eq E 148 (by decide) dX67_next_132 (fun _ => ?_) (fun _ => ?_)
    · exact r_return E rfl hT dX67_next_148
    · refine r_aload_n E dX67_next_135 rfl 0 rfl ?_
      refine r_dup E (zn1 rfl) dX67_next_136 ?_
      refine r_get E zc_69 zt_6889 dX67_next_137 q3304 zr_69 (zg_6889 _) (by decide) (fun v16 => ?_)
      refine r_iconst E dX67_next_140 (zkI (by decide) (by decide)) ?_
      refine r_iadd E dX67_next_141 ?_
      refine r_put E zc_69 zt_6889 zo_6889 dX67_next_142 q3304 zr_69 zw_X67 zp_6889 (fun _ => rfl) (fun _ => rfl) (by decide) ?_
      refine r_goto E 109 (by decide) dX67_next_145 ?_
      exact hr109 0
theorem w_fX67_next_J46 {K : zK} (E : zE K cX67_next "RingHouseModel" none 3) (hN : zNl K = 3) (hT : zTr K = none) : zR K 46 [(0, 69, 0)] [] (fX67_next_J46) := by
  refine r_aload_n E dX67_next_46 rfl 0 rfl ?_
  refine r_aload_n E dX67_next_47 rfl 0 rfl ?_
  refine r_get E zc_69 zt_6888 dX67_next_48 q3303 zr_69 (zg_6888 _) (by decide) (fun v4 => ?_)
  refine r_put E zc_69 zt_6889 zo_6889 dX67_next_51 q3304 zr_69 zw_X67 zp_6889 (fun _ => rfl) (fun _ => rfl) (by decide) ?_
  refine r_aload_n E dX67_next_54 rfl 0 rfl ?_
  refine r_get E zc_69 zt_6888 dX67_next_55 q3303 zr_69 (zg_6888 _) (by decide) (fun v5 => ?_)
  refine r_aload_n E dX67_next_58 rfl 0 rfl ?_
  refine r_get E zc_69 zt_6890 dX67_next_59 q3305 zr_69 (zg_6890 _) (by decide) (fun v6 => ?_)
  refine r_icmp_lt E 87 (by decide) dX67_next_62 (fun _ => ?_) (fun _ => ?_)
  · refine r_aload_n E dX67_next_87 rfl 0 rfl ?_
    refine r_gec (y := 0) E zc_69 dX67_next_88 q3283 zr_69 (zh_6868 (by decide)) (by decide) ?_
    refine r_aload_n E dX67_next_91 rfl 0 rfl ?_
    refine r_get E zc_69 zt_6888 dX67_next_92 q3303 zr_69 (zg_6888 _) (by decide) (fun v7 => ?_)
    refine r_iaload E zc_6868 za_6868 zt_6868 zx_6868 rfl rfl dX67_next_95 (by decide) (fun v8 => ?_)
    refine r_istore_n (ls' := [(1, 0, v8), (0, 69, 0)]) E dX67_next_96 rfl (by rw [hN]; decide) rfl ?_
    refine r_iload_n E dX67_next_97 rfl 0 rfl ?_
    refine r_callS E [(0, v8)] [] rfl q4142 q4143 q294 q4144 dX67_next_98 zy_X67_isOfWord rfl (by omega) (by decide) (Nat.le_of_ble_eq_true rfl) (fun l G => k_fX67_isOfWord l G v8) (fun v9 => ?_)
    refine r_if_eq E 149 (by decide) dX67_next_101 (fun _ => ?_) (fun _ => ?_)
    · refine r_iload_n E dX67_next_149 rfl 0 rfl ?_
      refine r_bipush E dX67_next_150 (by decide) (zkI (by decide) (by decide)) ?_
      refine r_icmp_eq E 203 (by decide) dX67_next_152 (fun _ => ?_) (fun _ => ?_)
      · refine r_pick E [1] rfl ?_
        exact w_fX67_next_J203 E hN hT
      · refine r_iload_n E dX67_next_155 rfl 0 rfl ?_
        refine r_bipush E dX67_next_156 (by decide) (zkI (by decide) (by decide)) ?_
        refine r_icmp_eq E 203 (by decide) dX67_next_158 (fun _ => ?_) (fun _ => ?_)
        · refine r_pick E [1] rfl ?_
          exact w_fX67_next_J203 E hN hT
        · refine r_iload_n E dX67_next_161 rfl 0 rfl ?_
          refine r_bipush E dX67_next_162 (by decide) (zkI (by decide) (by decide)) ?_
          refine r_icmp_eq E 203 (by decide) dX67_next_164 (fun _ => ?_) (fun _ => ?_)
          · refine r_pick E [1] rfl ?_
            exact w_fX67_next_J203 E hN hT
          · refine r_iload_n E dX67_next_167 rfl 0 rfl ?_
            refine r_bipush E dX67_next_168 (by decide) (zkI (by decide) (by decide)) ?_
            refine r_icmp_eq E 203 (by decide) dX67_next_170 (fun _ => ?_) (fun _ => ?_)
            · refine r_pick E [1] rfl ?_
              exact w_fX67_next_J203 E hN hT
            · refine r_iload_n E dX67_next_173 rfl 0 rfl ?_
              refine r_bipush E dX67_next_174 (by decide) (zkI (by decide) (by decide)) ?_
              refine r_icmp_eq E 203 (by decide) dX67_next_176 (fun _ => ?_) (fun _ => ?_)
              · refine r_pick E [1] rfl ?_
                exact w_fX67_next_J203 E hN hT
              · refine r_iload_n E dX67_next_179 rfl 0 rfl ?_
                refine r_bipush E dX67_next_180 (by decide) (zkI (by decide) (by decide)) ?_
                refine r_icmp_eq E 203 (by decide) dX67_next_182 (fun _ => ?_) (fun _ => ?_)
                · refine r_pick E [1] rfl ?_
                  exact w_fX67_next_J203 E hN hT
                · refine r_iload_n E dX67_next_185 rfl 0 rfl ?_
                  refine r_bipush E dX67_next_186 (by decide) (zkI (by decide) (by decide)) ?_
                  refine r_icmp_eq E 203 (by decide) dX67_next_188 (fun _ => ?_) (fun _ => ?_)
                  · refine r_pick E [1] rfl ?_
                    exact w_fX67_next_J203 E hN hT
                  · refine r_iload_n E dX67_next_191 rfl 0 rfl ?_
                    refine r_bipush E dX67_next_192 (by decide) (zkI (by decide) (by decide)) ?_
                    refine r_icmp_eq E 203 (by decide) dX67_next_194 (fun _ => ?_) (fun _ => ?_)
                    · refine r_pick E [1] rfl ?_
                      exact w_fX67_next_J203 E hN hT
                    · refine r_iload_n E dX67_next_197 rfl 0 rfl ?_
                      refine r_bipush E dX67_next_198 (by decide) (zkI (by decide) (by decide)) ?_
                      refine r_icmp_ne E 207 (by decide) dX67_next_200 (fun _ => ?_) (fun _ => ?_)
                      · refine r_iconst E dX67_next_207 (zkI (by decide) (by decide)) ?_
                        refine r_pick E [1] rfl ?_
                        exact w_fX67_next_J208 E hN hT 0
                      · refine r_pick E [1] rfl ?_
                        exact w_fX67_next_J203 E hN hT
    · refine r_aload_n E dX67_next_104 rfl 1 rfl ?_
      refine r_iconst E dX67_next_105 (zkI (by decide) (by decide)) ?_
      refine r_put E zc_69 zt_6887 zo_6887 dX67_next_106 q3302 zr_69 zw_X67 zp_6887 (fun _ => rfl) (fun _ => rfl) (by decide) ?_
      refine r_pick E [1] rfl ?_
      exact r_loop (L := fun s => [(0, 69, 0)]) (w_fX67_next_B109 E hN hT) zBIG 0
  · refine r_aload_n E dX67_next_65 rfl 0 rfl ?_
    refine r_iconst E dX67_next_66 (zkI (by decide) (by decide)) ?_
    refine r_put E zc_69 zt_6887 zo_6887 dX67_next_67 q3302 zr_69 zw_X67 zp_6887 (fun _ => rfl) (fun _ => rfl) (by decide) ?_
    refine r_aload_n E dX67_next_70 rfl 0 rfl ?_
    refine r_aload_n E dX67_next_71 rfl 0 rfl ?_
    refine r_get E zc_69 zt_6890 dX67_next_72 q3305 zr_69 (zg_6890 _) (by decide) (fun v17 => ?_)
    refine r_put E zc_69 zt_6888 zo_6888 dX67_next_75 q3303 zr_69 zw_X67 zp_6888 (fun _ => rfl) (fun _ => rfl) (by decide) ?_
    refine r_aload_n E dX67_next_78 rfl 0 rfl ?_
    refine r_aload_n E dX67_next_79 rfl 0 rfl ?_
    refine r_get E zc_69 zt_6890 dX67_next_80 q3305 zr_69 (zg_6890 _) (by decide) (fun v18 => ?_)
    refine r_put E zc_69 zt_6889 zo_6889 dX67_next_83 q3304 zr_69 zw_X67 zp_6889 (fun _ => rfl) (fun _ => rfl) (by decide) ?_
    exact r_return E rfl hT dX67_next_86
theorem w_fX67_next_B8 {K : zK} (E : zE K cX67_next "RingHouseModel" none 3) (hN : zNl K = 3) (hT : zTr K = none) : ∀ r8 : Int → zX, (∀ s : Int, zR K 8 [(0, 69, 0)] [] (r8 s)) → ∀ s : Int, zR K 8 [(0, 69, 0)] [] (fX67_next_B8 r8 s) := by
  intro r8 hr8 s
  refine r_aload_n E dX67_next_8 rfl 0 rfl ?_
  refine r_get E zc_69 zt_6888 dX67_next_9 q3303 zr_69 (zg_6888 _) (by decide) (fun v2 => ?_)
  refine r_aload_n E dX67_next_12 rfl 0 rfl ?_
  refine r_get E zc_69 zt_6890 dX67_next_13 q3305 zr_69 (zg_6890 _) (by decide) (fun v3 => ?_)
  refine r_icmp_ge E 46 (by decide) dX67_next_16 (fun _ => ?_) (fun _ => ?_)
  · exact w_fX67_next_J46 E hN hT
  · refine r_aload_n E dX67_next_19 rfl 0 rfl ?_
    refine r_gec (y := 0) E zc_69 dX67_next_20 q3283 zr_69 (zh_6868 (by decide)) (by decide) ?_
    refine r_aload_n E dX67_next_23 rfl 0 rfl ?_
    refine r_get E zc_69 zt_6888 dX67_next_24 q3303 zr_69 (zg_6888 _) (by decide) (fun v19 => ?_)
    refine r_iaload E zc_6868 za_6868 zt_6868 zx_6868 rfl rfl dX67_next_27 (by decide) (fun v20 => ?_)
    refine r_bipush E dX67_next_28 (by decide) (zkI (by decide) (by decide)) ?_
    refine r_icmp_ne E 46 (by decide) dX67_next_30 (fun _ => ?_) (fun _ => ?_)
    · exact w_fX67_next_J46 E hN hT
    · refine r_aload_n E dX67_next_33 rfl 0 rfl ?_
      refine r_dup E (zn1 rfl) dX67_next_34 ?_
      refine r_get E zc_69 zt_6888 dX67_next_35 q3303 zr_69 (zg_6888 _) (by decide) (fun v21 => ?_)
      refine r_iconst E dX67_next_38 (zkI (by decide) (by decide)) ?_
      refine r_iadd E dX67_next_39 ?_
      refine r_put E zc_69 zt_6888 zo_6888 dX67_next_40 q3303 zr_69 zw_X67 zp_6888 (fun _ => rfl) (fun _ => rfl) (by decide) ?_
      refine r_goto E 8 (by decide) dX67_next_43 ?_
      exact hr8 0
theorem w_fX67_next {K : zK} (E : zE K cX67_next "RingHouseModel" none 3) (hN : zNl K = 3) (hT : zTr K = none) : zR K 0 [(0, 69, 0)] [] (fX67_next) := by
  refine r_aload_n E dX67_next_0 rfl 0 rfl ?_
  refine r_aload_n E dX67_next_1 rfl 0 rfl ?_
  refine r_get E zc_69 zt_6889 dX67_next_2 q3304 zr_69 (zg_6889 _) (by decide) (fun v1 => ?_)
  refine r_put E zc_69 zt_6888 zo_6888 dX67_next_5 q3303 zr_69 zw_X67 zp_6888 (fun _ => rfl) (fun _ => rfl) (by decide) ?_
  exact r_loop (L := fun s => [(0, 69, 0)]) (w_fX67_next_B8 E hN hT) zBIG 0
theorem k_fX67_next (l : Launch) (G : zG) : zCt l G yX67_next cX67_next 3 none 3 [(69, 0)] none (fX67_next) := zCt.of (by decide) (Nat.le_of_ble_eq_true rfl) (fun K E _ _ hN hT => w_fX67_next E hN hT)
theorem dX67_wrong_0 : decode cX67_wrong 0 = .ok (.aload_n 0, 1) := by decide +kernel
theorem dX67_wrong_1 : decode cX67_wrong 1 = .ok (.getfield 813, 3) := by decide +kernel
theorem dX67_wrong_4 : decode cX67_wrong 4 = .ok (.ifCond .ne 13, 3) := by decide +kernel
theorem dX67_wrong_7 : decode cX67_wrong 7 = .ok (.aload_n 0, 1) := by decide +kernel
theorem dX67_wrong_8 : decode cX67_wrong 8 = .ok (.iload_n 1, 1) := by decide +kernel
theorem dX67_wrong_9 : decode cX67_wrong 9 = .ok (.putfield 813, 3) := by decide +kernel
theorem dX67_wrong_12 : decode cX67_wrong 12 = .ok (.aload_n 0, 1) := by decide +kernel
theorem dX67_wrong_13 : decode cX67_wrong 13 = .ok (.iload_n 2, 1) := by decide +kernel
theorem dX67_wrong_14 : decode cX67_wrong 14 = .ok (.putfield 816, 3) := by decide +kernel
theorem dX67_wrong_17 : decode cX67_wrong 17 = .ok (.return_, 1) := by decide +kernel
theorem zy_X67_wrong : yX67_wrong.cls ≠ "java/lang/invoke/MethodHandle" ∧ yX67_wrong.cls ≠ "java/lang/invoke/VarHandle" ∧ (parseMethodDescriptor yX67_wrong.desc).map (fun d => d.parameters.length) = some 2 := by decide +kernel
theorem w_fX67_wrong {K : zK} (E : zE K cX67_wrong "RingHouseModel" none 0) (hN : zNl K = 3) (hT : zTr K = none) (x1 : Int) (x2 : Int) : zR K 0 [(0, 69, 0), (1, 0, x1), (2, 0, x2)] [] (fX67_wrong x1 x2) := by
  refine r_aload_n E dX67_wrong_0 rfl 0 rfl ?_
  refine r_get E zc_69 zt_6891 dX67_wrong_1 q3306 zr_69 (zg_6891 _) (by decide) (fun v1 => ?_)
  refine r_if_ne E 17 (by decide) dX67_wrong_4 (fun _ => ?_) (fun _ => ?_)
  · exact r_return E rfl hT dX67_wrong_17
  · refine r_aload_n E dX67_wrong_7 rfl 0 rfl ?_
    refine r_iload_n E dX67_wrong_8 rfl 1 rfl ?_
    refine r_put E zc_69 zt_6891 zo_6891 dX67_wrong_9 q3306 zr_69 zw_X67 zp_6891 (fun _ => rfl) (fun _ => rfl) (by decide) ?_
    refine r_aload_n E dX67_wrong_12 rfl 0 rfl ?_
    refine r_iload_n E dX67_wrong_13 rfl 2 rfl ?_
    refine r_put E zc_69 zt_6892 zo_6892 dX67_wrong_14 q3307 zr_69 zw_X67 zp_6892 (fun _ => rfl) (fun _ => rfl) (by decide) ?_
    exact r_return E rfl hT dX67_wrong_17
theorem k_fX67_wrong (l : Launch) (G : zG) (x1 : Int) (x2 : Int) : zCt l G yX67_wrong cX67_wrong 3 none 0 [(69, 0), (0, x1), (0, x2)] none (fX67_wrong x1 x2) := zCt.of (by decide) (Nat.le_of_ble_eq_true rfl) (fun K E _ _ hN hT => w_fX67_wrong E hN hT x1 x2)
theorem dX67_isShort_0 : decode cX67_isShort 0 = .ok (.aload_n 0, 1) := by decide +kernel
theorem dX67_isShort_1 : decode cX67_isShort 1 = .ok (.getfield 828, 3) := by decide +kernel
theorem dX67_isShort_4 : decode cX67_isShort 4 = .ok (.aload_n 0, 1) := by decide +kernel
theorem dX67_isShort_5 : decode cX67_isShort 5 = .ok (.getfield 831, 3) := by decide +kernel
theorem dX67_isShort_8 : decode cX67_isShort 8 = .ok (.isub, 1) := by decide +kernel
theorem dX67_isShort_9 : decode cX67_isShort 9 = .ok (.bipush 7, 2) := by decide +kernel
theorem dX67_isShort_11 : decode cX67_isShort 11 = .ok (.if_icmp .ge 7, 3) := by decide +kernel
theorem dX67_isShort_14 : decode cX67_isShort 14 = .ok (.iconst 1, 1) := by decide +kernel
theorem dX67_isShort_15 : decode cX67_isShort 15 = .ok (.goto 4, 3) := by decide +kernel
theorem dX67_isShort_18 : decode cX67_isShort 18 = .ok (.iconst 0, 1) := by decide +kernel
theorem dX67_isShort_19 : decode cX67_isShort 19 = .ok (.ireturn, 1) := by decide +kernel
theorem zy_X67_isShort : yX67_isShort.cls ≠ "java/lang/invoke/MethodHandle" ∧ yX67_isShort.cls ≠ "java/lang/invoke/VarHandle" ∧ (parseMethodDescriptor yX67_isShort.desc).map (fun d => d.parameters.length) = some 0 := by decide +kernel
theorem w_fX67_isShort {K : zK} (E : zE K cX67_isShort "RingHouseModel" (some .boolean) 0) (hN : zNl K = 1) (hT : zTr K = (some 0)) : zR K 0 [(0, 69, 0)] [] (fX67_isShort) := by
  refine r_aload_n E dX67_isShort_0 rfl 0 rfl ?_
  refine r_get E zc_69 zt_6889 dX67_isShort_1 q3304 zr_69 (zg_6889 _) (by decide) (fun v1 => ?_)
  refine r_aload_n E dX67_isShort_4 rfl 0 rfl ?_
  refine r_get E zc_69 zt_6888 dX67_isShort_5 q3303 zr_69 (zg_6888 _) (by decide) (fun v2 => ?_)
  refine r_isub E dX67_isShort_8 ?_
  refine r_bipush E dX67_isShort_9 (by decide) (zkI (by decide) (by decide)) ?_
  refine r_icmp_ge E 18 (by decide) dX67_isShort_11 (fun _ => ?_) (fun _ => ?_)
  · refine r_iconst E dX67_isShort_18 (zkI (by decide) (by decide)) ?_
    exact r_zreturn E rfl hT (by decide) dX67_isShort_19
  · refine r_iconst E dX67_isShort_14 (zkI (by decide) (by decide)) ?_
    refine r_goto E 19 (by decide) dX67_isShort_15 ?_
    exact r_zreturn E rfl hT (by decide) dX67_isShort_19
theorem k_fX67_isShort (l : Launch) (G : zG) : zCt l G yX67_isShort cX67_isShort 1 (some .boolean) 0 [(69, 0)] (some 0) (fX67_isShort) := zCt.of (by decide) (Nat.le_of_ble_eq_true rfl) (fun K E _ _ hN hT => w_fX67_isShort E hN hT)
theorem dX67_takesN_0 : decode cX67_takesN 0 = .ok (.iload_n 0, 1) := by decide +kernel
theorem dX67_takesN_1 : decode cX67_takesN 1 = .ok (.bipush 12, 2) := by decide +kernel
theorem dX67_takesN_3 : decode cX67_takesN 3 = .ok (.if_icmp .eq 39, 3) := by decide +kernel
theorem dX67_takesN_6 : decode cX67_takesN 6 = .ok (.iload_n 0, 1) := by decide +kernel
theorem dX67_takesN_7 : decode cX67_takesN 7 = .ok (.bipush 13, 2) := by decide +kernel
theorem dX67_takesN_9 : decode cX67_takesN 9 = .ok (.if_icmp .eq 33, 3) := by decide +kernel
theorem dX67_takesN_12 : decode cX67_takesN 12 = .ok (.iload_n 0, 1) := by decide +kernel
theorem dX67_takesN_13 : decode cX67_takesN 13 = .ok (.bipush 16, 2) := by decide +kernel
theorem dX67_takesN_15 : decode cX67_takesN 15 = .ok (.if_icmp .eq 27, 3) := by decide +kernel
theorem dX67_takesN_18 : decode cX67_takesN 18 = .ok (.iload_n 0, 1) := by decide +kernel
theorem dX67_takesN_19 : decode cX67_takesN 19 = .ok (.bipush 17, 2) := by decide +kernel
theorem dX67_takesN_21 : decode cX67_takesN 21 = .ok (.if_icmp .eq 21, 3) := by decide +kernel
theorem dX67_takesN_24 : decode cX67_takesN 24 = .ok (.iload_n 0, 1) := by decide +kernel
theorem dX67_takesN_25 : decode cX67_takesN 25 = .ok (.bipush 20, 2) := by decide +kernel
theorem dX67_takesN_27 : decode cX67_takesN 27 = .ok (.if_icmp .eq 15, 3) := by decide +kernel
theorem dX67_takesN_30 : decode cX67_takesN 30 = .ok (.iload_n 0, 1) := by decide +kernel
theorem dX67_takesN_31 : decode cX67_takesN 31 = .ok (.bipush 25, 2) := by decide +kernel
theorem dX67_takesN_33 : decode cX67_takesN 33 = .ok (.if_icmp .eq 9, 3) := by decide +kernel
theorem dX67_takesN_36 : decode cX67_takesN 36 = .ok (.iload_n 0, 1) := by decide +kernel
theorem dX67_takesN_37 : decode cX67_takesN 37 = .ok (.bipush 32, 2) := by decide +kernel
theorem dX67_takesN_39 : decode cX67_takesN 39 = .ok (.if_icmp .ne 7, 3) := by decide +kernel
theorem dX67_takesN_42 : decode cX67_takesN 42 = .ok (.iconst 1, 1) := by decide +kernel
theorem dX67_takesN_43 : decode cX67_takesN 43 = .ok (.goto 4, 3) := by decide +kernel
theorem dX67_takesN_46 : decode cX67_takesN 46 = .ok (.iconst 0, 1) := by decide +kernel
theorem dX67_takesN_47 : decode cX67_takesN 47 = .ok (.ireturn, 1) := by decide +kernel
theorem zy_X67_takesN : yX67_takesN.cls ≠ "java/lang/invoke/MethodHandle" ∧ yX67_takesN.cls ≠ "java/lang/invoke/VarHandle" ∧ (parseMethodDescriptor yX67_takesN.desc).map (fun d => d.parameters.length) = some 1 := by decide +kernel
theorem w_fX67_takesN {K : zK} (E : zE K cX67_takesN "RingHouseModel" (some .boolean) 0) (hN : zNl K = 1) (hT : zTr K = (some 0)) (x0 : Int) : zR K 0 [(0, 0, x0)] [] (fX67_takesN x0) := by
  refine r_iload_n E dX67_takesN_0 rfl 0 rfl ?_
  refine r_bipush E dX67_takesN_1 (by decide) (zkI (by decide) (by decide)) ?_
  refine r_icmp_eq E 42 (by decide) dX67_takesN_3 (fun _ => ?_) (fun _ => ?_)
  · refine r_iconst E dX67_takesN_42 (zkI (by decide) (by decide)) ?_
    refine r_goto E 47 (by decide) dX67_takesN_43 ?_
    exact r_zreturn E rfl hT (by decide) dX67_takesN_47
  · refine r_iload_n E dX67_takesN_6 rfl 0 rfl ?_
    refine r_bipush E dX67_takesN_7 (by decide) (zkI (by decide) (by decide)) ?_
    refine r_icmp_eq E 42 (by decide) dX67_takesN_9 (fun _ => ?_) (fun _ => ?_)
    · refine r_iconst E dX67_takesN_42 (zkI (by decide) (by decide)) ?_
      refine r_goto E 47 (by decide) dX67_takesN_43 ?_
      exact r_zreturn E rfl hT (by decide) dX67_takesN_47
    · refine r_iload_n E dX67_takesN_12 rfl 0 rfl ?_
      refine r_bipush E dX67_takesN_13 (by decide) (zkI (by decide) (by decide)) ?_
      refine r_icmp_eq E 42 (by decide) dX67_takesN_15 (fun _ => ?_) (fun _ => ?_)
      · refine r_iconst E dX67_takesN_42 (zkI (by decide) (by decide)) ?_
        refine r_goto E 47 (by decide) dX67_takesN_43 ?_
        exact r_zreturn E rfl hT (by decide) dX67_takesN_47
      · refine r_iload_n E dX67_takesN_18 rfl 0 rfl ?_
        refine r_bipush E dX67_takesN_19 (by decide) (zkI (by decide) (by decide)) ?_
        refine r_icmp_eq E 42 (by decide) dX67_takesN_21 (fun _ => ?_) (fun _ => ?_)
        · refine r_iconst E dX67_takesN_42 (zkI (by decide) (by decide)) ?_
          refine r_goto E 47 (by decide) dX67_takesN_43 ?_
          exact r_zreturn E rfl hT (by decide) dX67_takesN_47
        · refine r_iload_n E dX67_takesN_24 rfl 0 rfl ?_
          refine r_bipush E dX67_takesN_25 (by decide) (zkI (by decide) (by decide)) ?_
          refine r_icmp_eq E 42 (by decide) dX67_takesN_27 (fun _ => ?_) (fun _ => ?_)
          · refine r_iconst E dX67_takesN_42 (zkI (by decide) (by decide)) ?_
            refine r_goto E 47 (by decide) dX67_takesN_43 ?_
            exact r_zreturn E rfl hT (by decide) dX67_takesN_47
          · refine r_iload_n E dX67_takesN_30 rfl 0 rfl ?_
            refine r_bipush E dX67_takesN_31 (by decide) (zkI (by decide) (by decide)) ?_
            refine r_icmp_eq E 42 (by decide) dX67_takesN_33 (fun _ => ?_) (fun _ => ?_)
            · refine r_iconst E dX67_takesN_42 (zkI (by decide) (by decide)) ?_
              refine r_goto E 47 (by decide) dX67_takesN_43 ?_
              exact r_zreturn E rfl hT (by decide) dX67_takesN_47
            · refine r_iload_n E dX67_takesN_36 rfl 0 rfl ?_
              refine r_bipush E dX67_takesN_37 (by decide) (zkI (by decide) (by decide)) ?_
              refine r_icmp_ne E 46 (by decide) dX67_takesN_39 (fun _ => ?_) (fun _ => ?_)
              · refine r_iconst E dX67_takesN_46 (zkI (by decide) (by decide)) ?_
                exact r_zreturn E rfl hT (by decide) dX67_takesN_47
              · refine r_iconst E dX67_takesN_42 (zkI (by decide) (by decide)) ?_
                refine r_goto E 47 (by decide) dX67_takesN_43 ?_
                exact r_zreturn E rfl hT (by decide) dX67_takesN_47
theorem k_fX67_takesN (l : Launch) (G : zG) (x0 : Int) : zCt l G yX67_takesN cX67_takesN 1 (some .boolean) 0 [(0, x0)] (some 0) (fX67_takesN x0) := zCt.of (by decide) (Nat.le_of_ble_eq_true rfl) (fun K E _ _ hN hT => w_fX67_takesN E hN hT x0)
theorem dX67_mostN_0 : decode cX67_mostN 0 = .ok (.iload_n 0, 1) := by decide +kernel
theorem dX67_mostN_1 : decode cX67_mostN 1 = .ok (.bipush 17, 2) := by decide +kernel
theorem dX67_mostN_3 : decode cX67_mostN 3 = .ok (.if_icmp .eq 9, 3) := by decide +kernel
theorem dX67_mostN_6 : decode cX67_mostN 6 = .ok (.iload_n 0, 1) := by decide +kernel
theorem dX67_mostN_7 : decode cX67_mostN 7 = .ok (.bipush 25, 2) := by decide +kernel
theorem dX67_mostN_9 : decode cX67_mostN 9 = .ok (.if_icmp .ne 8, 3) := by decide +kernel
theorem dX67_mostN_12 : decode cX67_mostN 12 = .ok (.bipush 7, 2) := by decide +kernel
theorem dX67_mostN_14 : decode cX67_mostN 14 = .ok (.goto 4, 3) := by decide +kernel
theorem dX67_mostN_17 : decode cX67_mostN 17 = .ok (.iconst 3, 1) := by decide +kernel
theorem dX67_mostN_18 : decode cX67_mostN 18 = .ok (.ireturn, 1) := by decide +kernel
theorem zy_X67_mostN : yX67_mostN.cls ≠ "java/lang/invoke/MethodHandle" ∧ yX67_mostN.cls ≠ "java/lang/invoke/VarHandle" ∧ (parseMethodDescriptor yX67_mostN.desc).map (fun d => d.parameters.length) = some 1 := by decide +kernel
theorem w_fX67_mostN {K : zK} (E : zE K cX67_mostN "RingHouseModel" (some .int) 0) (hN : zNl K = 1) (hT : zTr K = (some 0)) (x0 : Int) : zR K 0 [(0, 0, x0)] [] (fX67_mostN x0) := by
  refine r_iload_n E dX67_mostN_0 rfl 0 rfl ?_
  refine r_bipush E dX67_mostN_1 (by decide) (zkI (by decide) (by decide)) ?_
  refine r_icmp_eq E 12 (by decide) dX67_mostN_3 (fun _ => ?_) (fun _ => ?_)
  · refine r_bipush E dX67_mostN_12 (by decide) (zkI (by decide) (by decide)) ?_
    refine r_goto E 18 (by decide) dX67_mostN_14 ?_
    exact r_ireturn E rfl hT dX67_mostN_18
  · refine r_iload_n E dX67_mostN_6 rfl 0 rfl ?_
    refine r_bipush E dX67_mostN_7 (by decide) (zkI (by decide) (by decide)) ?_
    refine r_icmp_ne E 17 (by decide) dX67_mostN_9 (fun _ => ?_) (fun _ => ?_)
    · refine r_iconst E dX67_mostN_17 (zkI (by decide) (by decide)) ?_
      exact r_ireturn E rfl hT dX67_mostN_18
    · refine r_bipush E dX67_mostN_12 (by decide) (zkI (by decide) (by decide)) ?_
      refine r_goto E 18 (by decide) dX67_mostN_14 ?_
      exact r_ireturn E rfl hT dX67_mostN_18
theorem k_fX67_mostN (l : Launch) (G : zG) (x0 : Int) : zCt l G yX67_mostN cX67_mostN 1 (some .int) 0 [(0, x0)] (some 0) (fX67_mostN x0) := zCt.of (by decide) (Nat.le_of_ble_eq_true rfl) (fun K E _ _ hN hT => w_fX67_mostN E hN hT x0)
theorem dX67_signOf_0 : decode cX67_signOf 0 = .ok (.iload_n 0, 1) := by decide +kernel
theorem dX67_signOf_1 : decode cX67_signOf 1 = .ok (.invokestatic 807, 3) := by decide +kernel
theorem dX67_signOf_4 : decode cX67_signOf 4 = .ok (.ifCond .eq 10, 3) := by decide +kernel
theorem dX67_signOf_7 : decode cX67_signOf 7 = .ok (.iload_n 0, 1) := by decide +kernel
theorem dX67_signOf_8 : decode cX67_signOf 8 = .ok (.bipush 96, 2) := by decide +kernel
theorem dX67_signOf_10 : decode cX67_signOf 10 = .ok (.isub, 1) := by decide +kernel
theorem dX67_signOf_11 : decode cX67_signOf 11 = .ok (.goto 30, 3) := by decide +kernel
theorem dX67_signOf_14 : decode cX67_signOf 14 = .ok (.iload_n 0, 1) := by decide +kernel
theorem dX67_signOf_15 : decode cX67_signOf 15 = .ok (.invokestatic 810, 3) := by decide +kernel
theorem dX67_signOf_18 : decode cX67_signOf 18 = .ok (.ifCond .eq 10, 3) := by decide +kernel
theorem dX67_signOf_21 : decode cX67_signOf 21 = .ok (.iload_n 0, 1) := by decide +kernel
theorem dX67_signOf_22 : decode cX67_signOf 22 = .ok (.bipush 21, 2) := by decide +kernel
theorem dX67_signOf_24 : decode cX67_signOf 24 = .ok (.isub, 1) := by decide +kernel
theorem dX67_signOf_25 : decode cX67_signOf 25 = .ok (.goto 16, 3) := by decide +kernel
theorem dX67_signOf_28 : decode cX67_signOf 28 = .ok (.iload_n 0, 1) := by decide +kernel
theorem dX67_signOf_29 : decode cX67_signOf 29 = .ok (.bipush 95, 2) := by decide +kernel
theorem dX67_signOf_31 : decode cX67_signOf 31 = .ok (.if_icmp .ne 8, 3) := by decide +kernel
theorem dX67_signOf_34 : decode cX67_signOf 34 = .ok (.bipush 37, 2) := by decide +kernel
theorem dX67_signOf_36 : decode cX67_signOf 36 = .ok (.goto 5, 3) := by decide +kernel
theorem dX67_signOf_39 : decode cX67_signOf 39 = .ok (.bipush 38, 2) := by decide +kernel
theorem dX67_signOf_41 : decode cX67_signOf 41 = .ok (.ireturn, 1) := by decide +kernel
theorem zy_X67_signOf : yX67_signOf.cls ≠ "java/lang/invoke/MethodHandle" ∧ yX67_signOf.cls ≠ "java/lang/invoke/VarHandle" ∧ (parseMethodDescriptor yX67_signOf.desc).map (fun d => d.parameters.length) = some 1 := by decide +kernel
theorem w_fX67_signOf {K : zK} (E : zE K cX67_signOf "RingHouseModel" (some .int) 2) (hN : zNl K = 1) (hT : zTr K = (some 0)) (x0 : Int) : zR K 0 [(0, 0, x0)] [] (fX67_signOf x0) := by
  refine r_iload_n E dX67_signOf_0 rfl 0 rfl ?_
  refine r_callS E [(0, x0)] [] rfl q4145 q4146 q294 q4147 dX67_signOf_1 zy_X67_isLetter rfl (by omega) (by decide) (Nat.le_of_ble_eq_true rfl) (fun l G => k_fX67_isLetter l G x0) (fun v1 => ?_)
  refine r_if_eq E 14 (by decide) dX67_signOf_4 (fun _ => ?_) (fun _ => ?_)
  · refine r_iload_n E dX67_signOf_14 rfl 0 rfl ?_
    refine r_callS E [(0, x0)] [] rfl q4150 q4151 q294 q4152 dX67_signOf_15 zy_X67_isDigit rfl (by omega) (by decide) (Nat.le_of_ble_eq_true rfl) (fun l G => k_fX67_isDigit l G x0) (fun v2 => ?_)
    refine r_if_eq E 28 (by decide) dX67_signOf_18 (fun _ => ?_) (fun _ => ?_)
    · refine r_iload_n E dX67_signOf_28 rfl 0 rfl ?_
      refine r_bipush E dX67_signOf_29 (by decide) (zkI (by decide) (by decide)) ?_
      refine r_icmp_ne E 39 (by decide) dX67_signOf_31 (fun _ => ?_) (fun _ => ?_)
      · refine r_bipush E dX67_signOf_39 (by decide) (zkI (by decide) (by decide)) ?_
        exact r_ireturn E rfl hT dX67_signOf_41
      · refine r_bipush E dX67_signOf_34 (by decide) (zkI (by decide) (by decide)) ?_
        refine r_goto E 41 (by decide) dX67_signOf_36 ?_
        exact r_ireturn E rfl hT dX67_signOf_41
    · refine r_iload_n E dX67_signOf_21 rfl 0 rfl ?_
      refine r_bipush E dX67_signOf_22 (by decide) (zkI (by decide) (by decide)) ?_
      refine r_isub E dX67_signOf_24 ?_
      refine r_goto E 41 (by decide) dX67_signOf_25 ?_
      exact r_ireturn E rfl hT dX67_signOf_41
  · refine r_iload_n E dX67_signOf_7 rfl 0 rfl ?_
    refine r_bipush E dX67_signOf_8 (by decide) (zkI (by decide) (by decide)) ?_
    refine r_isub E dX67_signOf_10 ?_
    refine r_goto E 41 (by decide) dX67_signOf_11 ?_
    exact r_ireturn E rfl hT dX67_signOf_41
theorem k_fX67_signOf (l : Launch) (G : zG) (x0 : Int) : zCt l G yX67_signOf cX67_signOf 1 (some .int) 2 [(0, x0)] (some 0) (fX67_signOf x0) := zCt.of (by decide) (Nat.le_of_ble_eq_true rfl) (fun K E _ _ hN hT => w_fX67_signOf E hN hT x0)
theorem dX67_nameOfToken_0 : decode cX67_nameOfToken 0 = .ok (.lconst 0, 1) := by decide +kernel
theorem dX67_nameOfToken_1 : decode cX67_nameOfToken 1 = .ok (.lstore_n 1, 1) := by decide +kernel
theorem dX67_nameOfToken_2 : decode cX67_nameOfToken 2 = .ok (.iconst 0, 1) := by decide +kernel
theorem dX67_nameOfToken_3 : decode cX67_nameOfToken 3 = .ok (.istore_n 3, 1) := by decide +kernel
theorem dX67_nameOfToken_4 : decode cX67_nameOfToken 4 = .ok (.iload_n 3, 1) := by decide +kernel
theorem dX67_nameOfToken_5 : decode cX67_nameOfToken 5 = .ok (.bipush 6, 2) := by decide +kernel
theorem dX67_nameOfToken_7 : decode cX67_nameOfToken 7 = .ok (.if_icmp .ge 48, 3) := by decide +kernel
theorem dX67_nameOfToken_10 : decode cX67_nameOfToken 10 = .ok (.lload_n 1, 1) := by decide +kernel
theorem dX67_nameOfToken_11 : decode cX67_nameOfToken 11 = .ok (.ldc2_w 849, 3) := by decide +kernel
theorem dX67_nameOfToken_14 : decode cX67_nameOfToken 14 = .ok (.lmul, 1) := by decide +kernel
theorem dX67_nameOfToken_15 : decode cX67_nameOfToken 15 = .ok (.aload_n 0, 1) := by decide +kernel
theorem dX67_nameOfToken_16 : decode cX67_nameOfToken 16 = .ok (.getfield 831, 3) := by decide +kernel
theorem dX67_nameOfToken_19 : decode cX67_nameOfToken 19 = .ok (.iload_n 3, 1) := by decide +kernel
theorem dX67_nameOfToken_20 : decode cX67_nameOfToken 20 = .ok (.iadd, 1) := by decide +kernel
theorem dX67_nameOfToken_21 : decode cX67_nameOfToken 21 = .ok (.aload_n 0, 1) := by decide +kernel
theorem dX67_nameOfToken_22 : decode cX67_nameOfToken 22 = .ok (.getfield 828, 3) := by decide +kernel
theorem dX67_nameOfToken_25 : decode cX67_nameOfToken 25 = .ok (.if_icmp .ge 20, 3) := by decide +kernel
theorem dX67_nameOfToken_28 : decode cX67_nameOfToken 28 = .ok (.aload_n 0, 1) := by decide +kernel
theorem dX67_nameOfToken_29 : decode cX67_nameOfToken 29 = .ok (.getfield 206, 3) := by decide +kernel
theorem dX67_nameOfToken_32 : decode cX67_nameOfToken 32 = .ok (.aload_n 0, 1) := by decide +kernel
theorem dX67_nameOfToken_33 : decode cX67_nameOfToken 33 = .ok (.getfield 831, 3) := by decide +kernel
theorem dX67_nameOfToken_36 : decode cX67_nameOfToken 36 = .ok (.iload_n 3, 1) := by decide +kernel
theorem dX67_nameOfToken_37 : decode cX67_nameOfToken 37 = .ok (.iadd, 1) := by decide +kernel
theorem dX67_nameOfToken_38 : decode cX67_nameOfToken 38 = .ok (.iaload, 1) := by decide +kernel
theorem dX67_nameOfToken_39 : decode cX67_nameOfToken 39 = .ok (.invokestatic 851, 3) := by decide +kernel
theorem dX67_nameOfToken_42 : decode cX67_nameOfToken 42 = .ok (.goto 4, 3) := by decide +kernel
theorem dX67_nameOfToken_45 : decode cX67_nameOfToken 45 = .ok (.iconst 0, 1) := by decide +kernel
theorem dX67_nameOfToken_46 : decode cX67_nameOfToken 46 = .ok (.i2l, 1) := by decide +kernel
theorem dX67_nameOfToken_47 : decode cX67_nameOfToken 47 = .ok (.ladd, 1) := by decide +kernel
theorem dX67_nameOfToken_48 : decode cX67_nameOfToken 48 = .ok (.lstore_n 1, 1) := by decide +kernel
theorem dX67_nameOfToken_49 : decode cX67_nameOfToken 49 = .ok (.iinc 3 1, 3) := by decide +kernel
theorem dX67_nameOfToken_52 : decode cX67_nameOfToken 52 = .ok (.goto (-48), 3) := by decide +kernel
theorem dX67_nameOfToken_55 : decode cX67_nameOfToken 55 = .ok (.lload_n 1, 1) := by decide +kernel
theorem dX67_nameOfToken_56 : decode cX67_nameOfToken 56 = .ok (.lreturn, 1) := by decide +kernel
theorem zy_X67_nameOfToken : yX67_nameOfToken.cls ≠ "java/lang/invoke/MethodHandle" ∧ yX67_nameOfToken.cls ≠ "java/lang/invoke/VarHandle" ∧ (parseMethodDescriptor yX67_nameOfToken.desc).map (fun d => d.parameters.length) = some 0 := by decide +kernel
theorem w_fX67_nameOfToken_J46 {K : zK} (E : zE K cX67_nameOfToken "RingHouseModel" (some .long) 3) (hN : zNl K = 4) (hT : zTr K = (some 1)) (x3 : Int) (s0 : Int) (s1 : Int) {r4 : Int × Int → zX} (hr4 : ∀ s : Int × Int, zR K 4 [(0, 69, 0), (1, 1, s.1), (3, 0, s.2)] [] (r4 s)) : zR K 46 [(0, 69, 0), (3, 0, x3)] [(0, s1), (1, s0)] (fX67_nameOfToken_J46 r4 x3 s0 s1) := by
  refine r_i2l E dX67_nameOfToken_46 ?_
  refine r_ladd E dX67_nameOfToken_47 ?_
  refine r_let E (fun v3 ev3 => ?_)
  refine r_lstore_n (ls' := [(1, 1, v3), (0, 69, 0), (3, 0, x3)]) E dX67_nameOfToken_48 rfl (by rw [hN]; decide) rfl ?_
  refine r_iinc (ls' := fun v4 => [(3, 0, v4), (1, 1, v3), (0, 69, 0)]) E 2 rfl (by rw [hN]; decide) (fun _ => rfl) dX67_nameOfToken_49 (fun v4 _ => ?_)
  refine r_goto E 4 (by decide) dX67_nameOfToken_52 ?_
  refine r_pick E [2, 1, 0] rfl ?_
  exact hr4 (v3, v4)
theorem w_fX67_nameOfToken_B4 {K : zK} (E : zE K cX67_nameOfToken "RingHouseModel" (some .long) 3) (hN : zNl K = 4) (hT : zTr K = (some 1)) : ∀ r4 : Int × Int → zX, (∀ s : Int × Int, zR K 4 [(0, 69, 0), (1, 1, s.1), (3, 0, s.2)] [] (r4 s)) → ∀ s : Int × Int, zR K 4 [(0, 69, 0), (1, 1, s.1), (3, 0, s.2)] [] (fX67_nameOfToken_B4 r4 s) := by
  intro r4 hr4 s
  obtain ⟨x1, x3⟩ := s
  refine r_iload_n E dX67_nameOfToken_4 rfl 2 rfl ?_
  refine r_bipush E dX67_nameOfToken_5 (by decide) (zkI (by decide) (by decide)) ?_
  refine r_icmp_ge E 55 (by decide) dX67_nameOfToken_7 (fun _ => ?_) (fun _ => ?_)
  · refine r_lload_n E dX67_nameOfToken_55 rfl 1 rfl ?_
    exact r_lreturn E rfl hT dX67_nameOfToken_56
  · refine r_lload_n E dX67_nameOfToken_10 rfl 1 rfl ?_
    refine r_ldc2 (v := 64) E dX67_nameOfToken_11 q4175 (by decide) (zkJ (by decide) (by decide)) ?_
    refine r_lmul E dX67_nameOfToken_14 ?_
    refine r_aload_n E dX67_nameOfToken_15 rfl 0 rfl ?_
    refine r_get E zc_69 zt_6888 dX67_nameOfToken_16 q3303 zr_69 (zg_6888 _) (by decide) (fun v1 => ?_)
    refine r_iload_n E dX67_nameOfToken_19 rfl 2 rfl ?_
    refine r_iadd E dX67_nameOfToken_20 ?_
    refine r_aload_n E dX67_nameOfToken_21 rfl 0 rfl ?_
    refine r_get E zc_69 zt_6889 dX67_nameOfToken_22 q3304 zr_69 (zg_6889 _) (by decide) (fun v2 => ?_)
    refine r_icmp_ge E 45 (by decide) dX67_nameOfToken_25 (fun _ => ?_) (fun _ => ?_)
    · refine r_iconst E dX67_nameOfToken_45 (zkI (by decide) (by decide)) ?_
      refine r_pick E [0, 2] rfl ?_
      exact w_fX67_nameOfToken_J46 E hN hT x3 (zl (x1 * 64)) 0 hr4
    · refine r_aload_n E dX67_nameOfToken_28 rfl 0 rfl ?_
      refine r_gec (y := 0) E zc_69 dX67_nameOfToken_29 q3283 zr_69 (zh_6868 (by decide)) (by decide) ?_
      refine r_aload_n E dX67_nameOfToken_32 rfl 0 rfl ?_
      refine r_get E zc_69 zt_6888 dX67_nameOfToken_33 q3303 zr_69 (zg_6888 _) (by decide) (fun v5 => ?_)
      refine r_iload_n E dX67_nameOfToken_36 rfl 2 rfl ?_
      refine r_iadd E dX67_nameOfToken_37 ?_
      refine r_iaload E zc_6868 za_6868 zt_6868 zx_6868 rfl rfl dX67_nameOfToken_38 (by decide) (fun v6 => ?_)
      refine r_callS E [(0, v6)] [(1, (zl (x1 * 64)))] rfl q4176 q4177 q294 q4178 dX67_nameOfToken_39 zy_X67_signOf rfl (by omega) (by decide) (Nat.le_of_ble_eq_true rfl) (fun l G => k_fX67_signOf l G v6) (fun v7 => ?_)
      refine r_goto E 46 (by decide) dX67_nameOfToken_42 ?_
      refine r_pick E [0, 2] rfl ?_
      exact w_fX67_nameOfToken_J46 E hN hT x3 (zl (x1 * 64)) v7 hr4
theorem w_fX67_nameOfToken {K : zK} (E : zE K cX67_nameOfToken "RingHouseModel" (some .long) 3) (hN : zNl K = 4) (hT : zTr K = (some 1)) : zR K 0 [(0, 69, 0)] [] (fX67_nameOfToken) := by
  refine r_lconst (v := 0) E dX67_nameOfToken_0 (by decide) (zkJ (by decide) (by decide)) ?_
  refine r_lstore_n (ls' := [(1, 1, 0), (0, 69, 0)]) E dX67_nameOfToken_1 rfl (by rw [hN]; decide) rfl ?_
  refine r_iconst E dX67_nameOfToken_2 (zkI (by decide) (by decide)) ?_
  refine r_istore_n (ls' := [(3, 0, 0), (1, 1, 0), (0, 69, 0)]) E dX67_nameOfToken_3 rfl (by rw [hN]; decide) rfl ?_
  refine r_pick E [2, 1, 0] rfl ?_
  exact r_loop (L := fun s => [(0, 69, 0), (1, 1, s.1), (3, 0, s.2)]) (w_fX67_nameOfToken_B4 E hN hT) zBIG (0, 0)
theorem k_fX67_nameOfToken (l : Launch) (G : zG) : zCt l G yX67_nameOfToken cX67_nameOfToken 4 (some .long) 3 [(69, 0)] (some 1) (fX67_nameOfToken) := zCt.of (by decide) (Nat.le_of_ble_eq_true rfl) (fun K E _ _ hN hT => w_fX67_nameOfToken E hN hT)
theorem dX67_isOperation_0 : decode cX67_isOperation 0 = .ok (.aload_n 0, 1) := by decide +kernel
theorem dX67_isOperation_1 : decode cX67_isOperation 1 = .ok (.invokevirtual 860, 3) := by decide +kernel
theorem dX67_isOperation_4 : decode cX67_isOperation 4 = .ok (.ifCond .eq 10, 3) := by decide +kernel
theorem dX67_isOperation_7 : decode cX67_isOperation 7 = .ok (.aload_n 0, 1) := by decide +kernel
theorem dX67_isOperation_8 : decode cX67_isOperation 8 = .ok (.invokevirtual 864, 3) := by decide +kernel
theorem dX67_isOperation_11 : decode cX67_isOperation 11 = .ok (.goto 4, 3) := by decide +kernel
theorem dX67_isOperation_14 : decode cX67_isOperation 14 = .ok (.lconst 0, 1) := by decide +kernel
theorem dX67_isOperation_15 : decode cX67_isOperation 15 = .ok (.lstore_n 1, 1) := by decide +kernel
theorem dX67_isOperation_16 : decode cX67_isOperation 16 = .ok (.lload_n 1, 1) := by decide +kernel
theorem dX67_isOperation_17 : decode cX67_isOperation 17 = .ok (.ldc2_w 868, 3) := by decide +kernel
theorem dX67_isOperation_20 : decode cX67_isOperation 20 = .ok (.land, 1) := by decide +kernel
theorem dX67_isOperation_21 : decode cX67_isOperation 21 = .ok (.lstore_n 3, 1) := by decide +kernel
theorem dX67_isOperation_22 : decode cX67_isOperation 22 = .ok (.lload_n 1, 1) := by decide +kernel
theorem dX67_isOperation_23 : decode cX67_isOperation 23 = .ok (.bipush 12, 2) := by decide +kernel
theorem dX67_isOperation_25 : decode cX67_isOperation 25 = .ok (.lshr, 1) := by decide +kernel
theorem dX67_isOperation_26 : decode cX67_isOperation 26 = .ok (.ldc2_w 371, 3) := by decide +kernel
theorem dX67_isOperation_29 : decode cX67_isOperation 29 = .ok (.land, 1) := by decide +kernel
theorem dX67_isOperation_30 : decode cX67_isOperation 30 = .ok (.l2i, 1) := by decide +kernel
theorem dX67_isOperation_31 : decode cX67_isOperation 31 = .ok (.bipush 27, 2) := by decide +kernel
theorem dX67_isOperation_33 : decode cX67_isOperation 33 = .ok (.isub, 1) := by decide +kernel
theorem dX67_isOperation_34 : decode cX67_isOperation 34 = .ok (.istore 5, 2) := by decide +kernel
theorem dX67_isOperation_36 : decode cX67_isOperation 36 = .ok (.iconst 0, 1) := by decide +kernel
theorem dX67_isOperation_37 : decode cX67_isOperation 37 = .ok (.istore 6, 2) := by decide +kernel
theorem dX67_isOperation_39 : decode cX67_isOperation 39 = .ok (.iload 6, 2) := by decide +kernel
theorem dX67_isOperation_41 : decode cX67_isOperation 41 = .ok (.bipush 38, 2) := by decide +kernel
theorem dX67_isOperation_43 : decode cX67_isOperation 43 = .ok (.if_icmp .ge 103, 3) := by decide +kernel
theorem dX67_isOperation_46 : decode cX67_isOperation 46 = .ok (.iload 6, 2) := by decide +kernel
theorem dX67_isOperation_48 : decode cX67_isOperation 48 = .ok (.invokestatic 870, 3) := by decide +kernel
theorem dX67_isOperation_51 : decode cX67_isOperation 51 = .ok (.ifCond .eq 39, 3) := by decide +kernel
theorem dX67_isOperation_54 : decode cX67_isOperation 54 = .ok (.lload_n 3, 1) := by decide +kernel
theorem dX67_isOperation_55 : decode cX67_isOperation 55 = .ok (.aload_n 0, 1) := by decide +kernel
theorem dX67_isOperation_56 : decode cX67_isOperation 56 = .ok (.getfield 317, 3) := by decide +kernel
theorem dX67_isOperation_59 : decode cX67_isOperation 59 = .ok (.iload 6, 2) := by decide +kernel
theorem dX67_isOperation_61 : decode cX67_isOperation 61 = .ok (.laload, 1) := by decide +kernel
theorem dX67_isOperation_62 : decode cX67_isOperation 62 = .ok (.lcmp, 1) := by decide +kernel
theorem dX67_isOperation_63 : decode cX67_isOperation 63 = .ok (.ifCond .ne 23, 3) := by decide +kernel
theorem dX67_isOperation_66 : decode cX67_isOperation 66 = .ok (.iload 5, 2) := by decide +kernel
theorem dX67_isOperation_68 : decode cX67_isOperation 68 = .ok (.i2l, 1) := by decide +kernel
theorem dX67_isOperation_69 : decode cX67_isOperation 69 = .ok (.lconst 0, 1) := by decide +kernel
theorem dX67_isOperation_70 : decode cX67_isOperation 70 = .ok (.iload 6, 2) := by decide +kernel
theorem dX67_isOperation_72 : decode cX67_isOperation 72 = .ok (.invokestatic 873, 3) := by decide +kernel
theorem dX67_isOperation_75 : decode cX67_isOperation 75 = .ok (.i2l, 1) := by decide +kernel
theorem dX67_isOperation_76 : decode cX67_isOperation 76 = .ok (.invokestatic 363, 3) := by decide +kernel
theorem dX67_isOperation_79 : decode cX67_isOperation 79 = .ok (.ifCond .eq 7, 3) := by decide +kernel
theorem dX67_isOperation_82 : decode cX67_isOperation 82 = .ok (.iconst 1, 1) := by decide +kernel
theorem dX67_isOperation_83 : decode cX67_isOperation 83 = .ok (.goto 24, 3) := by decide +kernel
theorem dX67_isOperation_86 : decode cX67_isOperation 86 = .ok (.iconst 0, 1) := by decide +kernel
theorem dX67_isOperation_87 : decode cX67_isOperation 87 = .ok (.goto 20, 3) := by decide +kernel
theorem dX67_isOperation_90 : decode cX67_isOperation 90 = .ok (.lload_n 1, 1) := by decide +kernel
theorem dX67_isOperation_91 : decode cX67_isOperation 91 = .ok (.aload_n 0, 1) := by decide +kernel
theorem dX67_isOperation_92 : decode cX67_isOperation 92 = .ok (.getfield 317, 3) := by decide +kernel
theorem dX67_isOperation_95 : decode cX67_isOperation 95 = .ok (.iload 6, 2) := by decide +kernel
theorem dX67_isOperation_97 : decode cX67_isOperation 97 = .ok (.laload, 1) := by decide +kernel
theorem dX67_isOperation_98 : decode cX67_isOperation 98 = .ok (.lcmp, 1) := by decide +kernel
theorem dX67_isOperation_99 : decode cX67_isOperation 99 = .ok (.ifCond .ne 7, 3) := by decide +kernel
theorem dX67_isOperation_102 : decode cX67_isOperation 102 = .ok (.iconst 1, 1) := by decide +kernel
theorem dX67_isOperation_103 : decode cX67_isOperation 103 = .ok (.goto 4, 3) := by decide +kernel
theorem dX67_isOperation_106 : decode cX67_isOperation 106 = .ok (.iconst 0, 1) := by decide +kernel
theorem dX67_isOperation_107 : decode cX67_isOperation 107 = .ok (.istore 7, 2) := by decide +kernel
theorem dX67_isOperation_109 : decode cX67_isOperation 109 = .ok (.iload 7, 2) := by decide +kernel
theorem dX67_isOperation_111 : decode cX67_isOperation 111 = .ok (.ifCond .eq 29, 3) := by decide +kernel
theorem dX67_isOperation_114 : decode cX67_isOperation 114 = .ok (.aload_n 0, 1) := by decide +kernel
theorem dX67_isOperation_115 : decode cX67_isOperation 115 = .ok (.iload 6, 2) := by decide +kernel
theorem dX67_isOperation_117 : decode cX67_isOperation 117 = .ok (.putfield 876, 3) := by decide +kernel
theorem dX67_isOperation_120 : decode cX67_isOperation 120 = .ok (.aload_n 0, 1) := by decide +kernel
theorem dX67_isOperation_121 : decode cX67_isOperation 121 = .ok (.iload 6, 2) := by decide +kernel
theorem dX67_isOperation_123 : decode cX67_isOperation 123 = .ok (.invokestatic 870, 3) := by decide +kernel
theorem dX67_isOperation_126 : decode cX67_isOperation 126 = .ok (.ifCond .eq 8, 3) := by decide +kernel
theorem dX67_isOperation_129 : decode cX67_isOperation 129 = .ok (.iload 5, 2) := by decide +kernel
theorem dX67_isOperation_131 : decode cX67_isOperation 131 = .ok (.goto 4, 3) := by decide +kernel
theorem dX67_isOperation_134 : decode cX67_isOperation 134 = .ok (.iconst 0, 1) := by decide +kernel
theorem dX67_isOperation_135 : decode cX67_isOperation 135 = .ok (.putfield 879, 3) := by decide +kernel
theorem dX67_isOperation_138 : decode cX67_isOperation 138 = .ok (.iconst 1, 1) := by decide +kernel
theorem dX67_isOperation_139 : decode cX67_isOperation 139 = .ok (.ireturn, 1) := by decide +kernel
theorem dX67_isOperation_140 : decode cX67_isOperation 140 = .ok (.iinc 6 1, 3) := by decide +kernel
theorem dX67_isOperation_143 : decode cX67_isOperation 143 = .ok (.goto (-104), 3) := by decide +kernel
theorem dX67_isOperation_146 : decode cX67_isOperation 146 = .ok (.iconst 0, 1) := by decide +kernel
theorem dX67_isOperation_147 : decode cX67_isOperation 147 = .ok (.ireturn, 1) := by decide +kernel
theorem zy_X67_isOperation : yX67_isOperation.cls ≠ "java/lang/invoke/MethodHandle" ∧ yX67_isOperation.cls ≠ "java/lang/invoke/VarHandle" ∧ (parseMethodDescriptor yX67_isOperation.desc).map (fun d => d.parameters.length) = some 0 := by decide +kernel
theorem w_fX67_isOperation_J135 {K : zK} (E : zE K cX67_isOperation "RingHouseModel" (some .boolean) 4) (hN : zNl K = 8) (hT : zTr K = (some 0)) (s1 : Int) : zR K 135 [] [(0, s1), (69, 0)] (fX67_isOperation_J135 s1) := by
  refine r_put E zc_69 zt_6911 zo_6911 dX67_isOperation_135 q3325 zr_69 zw_X67 zp_6911 (fun _ => rfl) (fun _ => rfl) (by decide) ?_
  refine r_iconst E dX67_isOperation_138 (zkI (by decide) (by decide)) ?_
  exact r_zreturn E rfl hT (by decide) dX67_isOperation_139
theorem w_fX67_isOperation_J114 {K : zK} (E : zE K cX67_isOperation "RingHouseModel" (some .boolean) 4) (hN : zNl K = 8) (hT : zTr K = (some 0)) (x5 : Int) (x6 : Int) : zR K 114 [(0, 69, 0), (5, 0, x5), (6, 0, x6)] [] (fX67_isOperation_J114 x5 x6) := by
  refine r_aload_n E dX67_isOperation_114 rfl 0 rfl ?_
  refine r_iload E dX67_isOperation_115 2 rfl ?_
  refine r_put E zc_69 zt_6910 zo_6910 dX67_isOperation_117 q3324 zr_69 zw_X67 zp_6910 (fun _ => rfl) (fun _ => rfl) (by decide) ?_
  refine r_aload_n E dX67_isOperation_120 rfl 0 rfl ?_
  refine r_iload E dX67_isOperation_121 2 rfl ?_
  refine r_callS E [(0, x6)] [(69, 0)] rfl q4192 q4193 q294 q4194 dX67_isOperation_123 zy_X67_takesN rfl (by omega) (by decide) (Nat.le_of_ble_eq_true rfl) (fun l G => k_fX67_takesN l G x6) (fun v7 => ?_)
  refine r_if_eq E 134 (by decide) dX67_isOperation_126 (fun _ => ?_) (fun _ => ?_)
  · refine r_iconst E dX67_isOperation_134 (zkI (by decide) (by decide)) ?_
    refine r_pick E [] rfl ?_
    exact w_fX67_isOperation_J135 E hN hT 0
  · refine r_iload E dX67_isOperation_129 1 rfl ?_
    refine r_goto E 135 (by decide) dX67_isOperation_131 ?_
    refine r_pick E [] rfl ?_
    exact w_fX67_isOperation_J135 E hN hT x5
theorem w_fX67_isOperation_J107 {K : zK} (E : zE K cX67_isOperation "RingHouseModel" (some .boolean) 4) (hN : zNl K = 8) (hT : zTr K = (some 0)) (x1 : Int) (x3 : Int) (x5 : Int) (x6 : Int) (s0 : Int) {r39 : Int → zX} (hr39 : ∀ s : Int, zR K 39 [(0, 69, 0), (1, 1, x1), (3, 1, x3), (5, 0, x5), (6, 0, s)] [] (r39 s)) : zR K 107 [(0, 69, 0), (1, 1, x1), (3, 1, x3), (5, 0, x5), (6, 0, x6)] [(0, s0)] (fX67_isOperation_J107 r39 x1 x3 x5 x6 s0) := by
  refine r_istore (ls' := [(7, 0, s0), (0, 69, 0), (1, 1, x1), (3, 1, x3), (5, 0, x5), (6, 0, x6)]) E dX67_isOperation_107 (by rw [hN]; decide) rfl ?_
  refine r_iload E dX67_isOperation_109 0 rfl ?_
  refine r_if_eq E 140 (by decide) dX67_isOperation_111 (fun _ => ?_) (fun _ => ?_)
  · refine r_iinc (ls' := fun v6 => [(6, 0, v6), (7, 0, s0), (0, 69, 0), (1, 1, x1), (3, 1, x3), (5, 0, x5)]) E 5 rfl (by rw [hN]; decide) (fun _ => rfl) dX67_isOperation_140 (fun v6 _ => ?_)
    refine r_goto E 39 (by decide) dX67_isOperation_143 ?_
    refine r_pick E [2, 3, 4, 5, 0] rfl ?_
    exact hr39 v6
  · refine r_pick E [1, 4, 5] rfl ?_
    exact w_fX67_isOperation_J114 E hN hT x5 x6
theorem w_fX67_isOperation_J86 {K : zK} (E : zE K cX67_isOperation "RingHouseModel" (some .boolean) 4) (hN : zNl K = 8) (hT : zTr K = (some 0)) (x1 : Int) (x3 : Int) (x5 : Int) (x6 : Int) {r39 : Int → zX} (hr39 : ∀ s : Int, zR K 39 [(0, 69, 0), (1, 1, x1), (3, 1, x3), (5, 0, x5), (6, 0, s)] [] (r39 s)) : zR K 86 [(0, 69, 0), (1, 1, x1), (3, 1, x3), (5, 0, x5), (6, 0, x6)] [] (fX67_isOperation_J86 r39 x1 x3 x5 x6) := by
  refine r_iconst E dX67_isOperation_86 (zkI (by decide) (by decide)) ?_
  refine r_goto E 107 (by decide) dX67_isOperation_87 ?_
  exact w_fX67_isOperation_J107 E hN hT x1 x3 x5 x6 0 hr39
theorem w_fX67_isOperation_B39 {K : zK} (E : zE K cX67_isOperation "RingHouseModel" (some .boolean) 4) (hN : zNl K = 8) (hT : zTr K = (some 0)) (x1 : Int) (x3 : Int) (x5 : Int) : ∀ r39 : Int → zX, (∀ s : Int, zR K 39 [(0, 69, 0), (1, 1, x1), (3, 1, x3), (5, 0, x5), (6, 0, s)] [] (r39 s)) → ∀ s : Int, zR K 39 [(0, 69, 0), (1, 1, x1), (3, 1, x3), (5, 0, x5), (6, 0, s)] [] (fX67_isOperation_B39 x1 x3 x5 r39 s) := by
  intro r39 hr39 x6
  refine r_iload E dX67_isOperation_39 4 rfl ?_
  refine r_bipush E dX67_isOperation_41 (by decide) (zkI (by decide) (by decide)) ?_
  refine r_icmp_ge E 146 (by decide) dX67_isOperation_43 (fun _ => ?_) (fun _ => ?_)
  · refine r_iconst E dX67_isOperation_146 (zkI (by decide) (by decide)) ?_
    exact r_zreturn E rfl hT (by decide) dX67_isOperation_147
  · refine r_iload E dX67_isOperation_46 4 rfl ?_
    refine r_callS E [(0, x6)] [] rfl q4192 q4193 q294 q4194 dX67_isOperation_48 zy_X67_takesN rfl (by omega) (by decide) (Nat.le_of_ble_eq_true rfl) (fun l G => k_fX67_takesN l G x6) (fun v4 => ?_)
    refine r_if_eq E 90 (by decide) dX67_isOperation_51 (fun _ => ?_) (fun _ => ?_)
    · refine r_lload_n E dX67_isOperation_90 rfl 1 rfl ?_
      refine r_aload_n E dX67_isOperation_91 rfl 0 rfl ?_
      refine r_gec (y := 0) E zc_69 dX67_isOperation_92 q3322 zr_69 (zh_6908 (by decide)) (by decide) ?_
      refine r_iload E dX67_isOperation_95 4 rfl ?_
      refine r_lact E zc_6908 za_6908 zt_6908 zx_6908 rfl rfl rfl dX67_isOperation_97 (by decide) (fun v5 => ?_)
      refine r_lcmp_ne E 106 (by decide) dX67_isOperation_98 dX67_isOperation_99 (fun _ => ?_) (fun _ => ?_)
      · refine r_iconst E dX67_isOperation_106 (zkI (by decide) (by decide)) ?_
        exact w_fX67_isOperation_J107 E hN hT x1 x3 x5 x6 0 hr39
      · refine r_iconst E dX67_isOperation_102 (zkI (by decide) (by decide)) ?_
        refine r_goto E 107 (by decide) dX67_isOperation_103 ?_
        exact w_fX67_isOperation_J107 E hN hT x1 x3 x5 x6 1 hr39
    · refine r_lload_n E dX67_isOperation_54 rfl 2 rfl ?_
      refine r_aload_n E dX67_isOperation_55 rfl 0 rfl ?_
      refine r_gec (y := 0) E zc_69 dX67_isOperation_56 q3322 zr_69 (zh_6908 (by decide)) (by decide) ?_
      refine r_iload E dX67_isOperation_59 4 rfl ?_
      refine r_lact E zc_6908 za_6908 zt_6908 zx_6908 rfl rfl rfl dX67_isOperation_61 (by decide) (fun v8 => ?_)
      refine r_lcmp_ne E 86 (by decide) dX67_isOperation_62 dX67_isOperation_63 (fun _ => ?_) (fun _ => ?_)
      · exact w_fX67_isOperation_J86 E hN hT x1 x3 x5 x6 hr39
      · refine r_iload E dX67_isOperation_66 3 rfl ?_
        refine r_i2l E dX67_isOperation_68 ?_
        refine r_lconst (v := 0) E dX67_isOperation_69 (by decide) (zkJ (by decide) (by decide)) ?_
        refine r_iload E dX67_isOperation_70 4 rfl ?_
        refine r_callS E [(0, x6)] [(1, 0), (1, x5)] rfl q4195 q4196 q294 q4197 dX67_isOperation_72 zy_X67_mostN rfl (by omega) (by decide) (Nat.le_of_ble_eq_true rfl) (fun l G => k_fX67_mostN l G x6) (fun v9 => ?_)
        refine r_i2l E dX67_isOperation_75 ?_
        refine r_callS E [(1, x5), (1, 0), (1, v9)] [] rfl q3619 q3620 q294 q3621 dX67_isOperation_76 zy_X67_in rfl (by omega) (by decide) (Nat.le_of_ble_eq_true rfl) (fun l G => k_fX67_in l G x5 0 v9) (fun v10 => ?_)
        refine r_if_eq E 86 (by decide) dX67_isOperation_79 (fun _ => ?_) (fun _ => ?_)
        · exact w_fX67_isOperation_J86 E hN hT x1 x3 x5 x6 hr39
        · refine r_iconst E dX67_isOperation_82 (zkI (by decide) (by decide)) ?_
          refine r_goto E 107 (by decide) dX67_isOperation_83 ?_
          exact w_fX67_isOperation_J107 E hN hT x1 x3 x5 x6 1 hr39
theorem w_fX67_isOperation_J15 {K : zK} (E : zE K cX67_isOperation "RingHouseModel" (some .boolean) 4) (hN : zNl K = 8) (hT : zTr K = (some 0)) (s0 : Int) : zR K 15 [(0, 69, 0)] [(1, s0)] (fX67_isOperation_J15 s0) := by
  refine r_lstore_n (ls' := [(1, 1, s0), (0, 69, 0)]) E dX67_isOperation_15 rfl (by rw [hN]; decide) rfl ?_
  refine r_lload_n E dX67_isOperation_16 rfl 0 rfl ?_
  refine r_ldc2 (v := (-258049)) E dX67_isOperation_17 q4191 (by decide) (zkJ (by decide) (by decide)) ?_
  refine r_land E dX67_isOperation_20 ?_
  refine r_let E (fun v2 ev2 => ?_)
  refine r_lstore_n (ls' := [(3, 1, v2), (1, 1, s0), (0, 69, 0)]) E dX67_isOperation_21 rfl (by rw [hN]; decide) rfl ?_
  refine r_lload_n E dX67_isOperation_22 rfl 1 rfl ?_
  refine r_bipush E dX67_isOperation_23 (by decide) (zkI (by decide) (by decide)) ?_
  refine r_lshr (P := 4096) E (by decide) dX67_isOperation_25 ?_
  refine r_ldc2 (v := 63) E dX67_isOperation_26 q3629 (by decide) (zkJ (by decide) (by decide)) ?_
  refine r_lmask (P := 64) E 6 (by decide) (by decide) (by decide) dX67_isOperation_29 ?_
  refine r_l2i E dX67_isOperation_30 ?_
  refine r_bipush E dX67_isOperation_31 (by decide) (zkI (by decide) (by decide)) ?_
  refine r_isub E dX67_isOperation_33 ?_
  refine r_let E (fun v3 ev3 => ?_)
  refine r_istore (ls' := [(5, 0, v3), (3, 1, v2), (1, 1, s0), (0, 69, 0)]) E dX67_isOperation_34 (by rw [hN]; decide) rfl ?_
  refine r_iconst E dX67_isOperation_36 (zkI (by decide) (by decide)) ?_
  refine r_istore (ls' := [(6, 0, 0), (5, 0, v3), (3, 1, v2), (1, 1, s0), (0, 69, 0)]) E dX67_isOperation_37 (by rw [hN]; decide) rfl ?_
  refine r_pick E [4, 3, 2, 1, 0] rfl ?_
  exact r_loop (L := fun s => [(0, 69, 0), (1, 1, s0), (3, 1, v2), (5, 0, v3), (6, 0, s)]) (w_fX67_isOperation_B39 E hN hT s0 v2 v3) zBIG 0
theorem w_fX67_isOperation {K : zK} (E : zE K cX67_isOperation "RingHouseModel" (some .boolean) 4) (hN : zNl K = 8) (hT : zTr K = (some 0)) : zR K 0 [(0, 69, 0)] [] (fX67_isOperation) := by
  refine r_aload_n E dX67_isOperation_0 rfl 0 rfl ?_
  refine r_callV E [] [] rfl zc_69 zr_69 (fun o _ => ⟨_, zw_X67.1 o, rfl⟩) (lw_V q4167 q4169 qs179 q294 q4170) dX67_isOperation_1 zy_X67_isShort rfl (by omega) (by decide) (Nat.le_of_ble_eq_true rfl) (by decide) (fun l G => k_fX67_isShort l G) (fun v1 => ?_)
  refine r_if_eq E 14 (by decide) dX67_isOperation_4 (fun _ => ?_) (fun _ => ?_)
  · refine r_lconst (v := 0) E dX67_isOperation_14 (by decide) (zkJ (by decide) (by decide)) ?_
    exact w_fX67_isOperation_J15 E hN hT 0
  · refine r_aload_n E dX67_isOperation_7 rfl 0 rfl ?_
    refine r_callV E [] [] rfl zc_69 zr_69 (fun o _ => ⟨_, zw_X67.1 o, rfl⟩) (lw_V q4171 q4173 qs180 q294 q4174) dX67_isOperation_8 zy_X67_nameOfToken rfl (by omega) (by decide) (Nat.le_of_ble_eq_true rfl) (by decide) (fun l G => k_fX67_nameOfToken l G) (fun v11 => ?_)
    refine r_goto E 15 (by decide) dX67_isOperation_11 ?_
    exact w_fX67_isOperation_J15 E hN hT v11
theorem k_fX67_isOperation (l : Launch) (G : zG) : zCt l G yX67_isOperation cX67_isOperation 8 (some .boolean) 4 [(69, 0)] (some 0) (fX67_isOperation) := zCt.of (by decide) (Nat.le_of_ble_eq_true rfl) (fun K E _ _ hN hT => w_fX67_isOperation E hN hT)
theorem dX67_labelWord_0 : decode cX67_labelWord 0 = .ok (.aload_n 0, 1) := by decide +kernel
theorem dX67_labelWord_1 : decode cX67_labelWord 1 = .ok (.getfield 837, 3) := by decide +kernel
theorem dX67_labelWord_4 : decode cX67_labelWord 4 = .ok (.iconst 1, 1) := by decide +kernel
theorem dX67_labelWord_5 : decode cX67_labelWord 5 = .ok (.if_icmp .eq 15, 3) := by decide +kernel
theorem dX67_labelWord_8 : decode cX67_labelWord 8 = .ok (.aload_n 0, 1) := by decide +kernel
theorem dX67_labelWord_9 : decode cX67_labelWord 9 = .ok (.iconst 1, 1) := by decide +kernel
theorem dX67_labelWord_10 : decode cX67_labelWord 10 = .ok (.aload_n 0, 1) := by decide +kernel
theorem dX67_labelWord_11 : decode cX67_labelWord 11 = .ok (.getfield 831, 3) := by decide +kernel
theorem dX67_labelWord_14 : decode cX67_labelWord 14 = .ok (.invokevirtual 854, 3) := by decide +kernel
theorem dX67_labelWord_17 : decode cX67_labelWord 17 = .ok (.goto 34, 3) := by decide +kernel
theorem dX67_labelWord_20 : decode cX67_labelWord 20 = .ok (.aload_n 0, 1) := by decide +kernel
theorem dX67_labelWord_21 : decode cX67_labelWord 21 = .ok (.getfield 206, 3) := by decide +kernel
theorem dX67_labelWord_24 : decode cX67_labelWord 24 = .ok (.aload_n 0, 1) := by decide +kernel
theorem dX67_labelWord_25 : decode cX67_labelWord 25 = .ok (.getfield 831, 3) := by decide +kernel
theorem dX67_labelWord_28 : decode cX67_labelWord 28 = .ok (.iaload, 1) := by decide +kernel
theorem dX67_labelWord_29 : decode cX67_labelWord 29 = .ok (.invokestatic 807, 3) := by decide +kernel
theorem dX67_labelWord_32 : decode cX67_labelWord 32 = .ok (.ifCond .eq 10, 3) := by decide +kernel
theorem dX67_labelWord_35 : decode cX67_labelWord 35 = .ok (.aload_n 0, 1) := by decide +kernel
theorem dX67_labelWord_36 : decode cX67_labelWord 36 = .ok (.invokevirtual 860, 3) := by decide +kernel
theorem dX67_labelWord_39 : decode cX67_labelWord 39 = .ok (.ifCond .ne 12, 3) := by decide +kernel
theorem dX67_labelWord_42 : decode cX67_labelWord 42 = .ok (.aload_n 0, 1) := by decide +kernel
theorem dX67_labelWord_43 : decode cX67_labelWord 43 = .ok (.iconst 2, 1) := by decide +kernel
theorem dX67_labelWord_44 : decode cX67_labelWord 44 = .ok (.aload_n 0, 1) := by decide +kernel
theorem dX67_labelWord_45 : decode cX67_labelWord 45 = .ok (.getfield 831, 3) := by decide +kernel
theorem dX67_labelWord_48 : decode cX67_labelWord 48 = .ok (.invokevirtual 854, 3) := by decide +kernel
theorem dX67_labelWord_51 : decode cX67_labelWord 51 = .ok (.aload_n 0, 1) := by decide +kernel
theorem dX67_labelWord_52 : decode cX67_labelWord 52 = .ok (.getfield 813, 3) := by decide +kernel
theorem dX67_labelWord_55 : decode cX67_labelWord 55 = .ok (.ifCond .le 5, 3) := by decide +kernel
theorem dX67_labelWord_58 : decode cX67_labelWord 58 = .ok (.lconst 0, 1) := by decide +kernel
theorem dX67_labelWord_59 : decode cX67_labelWord 59 = .ok (.lreturn, 1) := by decide +kernel
theorem dX67_labelWord_60 : decode cX67_labelWord 60 = .ok (.aload_n 0, 1) := by decide +kernel
theorem dX67_labelWord_61 : decode cX67_labelWord 61 = .ok (.invokevirtual 864, 3) := by decide +kernel
theorem dX67_labelWord_64 : decode cX67_labelWord 64 = .ok (.lstore_n 1, 1) := by decide +kernel
theorem dX67_labelWord_65 : decode cX67_labelWord 65 = .ok (.aload_n 0, 1) := by decide +kernel
theorem dX67_labelWord_66 : decode cX67_labelWord 66 = .ok (.invokevirtual 846, 3) := by decide +kernel
theorem dX67_labelWord_69 : decode cX67_labelWord 69 = .ok (.lload_n 1, 1) := by decide +kernel
theorem dX67_labelWord_70 : decode cX67_labelWord 70 = .ok (.lreturn, 1) := by decide +kernel
theorem zy_X67_labelWord : yX67_labelWord.cls ≠ "java/lang/invoke/MethodHandle" ∧ yX67_labelWord.cls ≠ "java/lang/invoke/VarHandle" ∧ (parseMethodDescriptor yX67_labelWord.desc).map (fun d => d.parameters.length) = some 0 := by decide +kernel
theorem w_fX67_labelWord_J51 {K : zK} (E : zE K cX67_labelWord "RingHouseModel" (some .long) 4) (hN : zNl K = 3) (hT : zTr K = (some 1)) : zR K 51 [(0, 69, 0)] [] (fX67_labelWord_J51) := by
  refine r_aload_n E dX67_labelWord_51 rfl 0 rfl ?_
  refine r_get E zc_69 zt_6891 dX67_labelWord_52 q3306 zr_69 (zg_6891 _) (by decide) (fun v7 => ?_)
  refine r_if_le E 60 (by decide) dX67_labelWord_55 (fun _ => ?_) (fun _ => ?_)
  · refine r_aload_n E dX67_labelWord_60 rfl 0 rfl ?_
    refine r_callV E [] [] rfl zc_69 zr_69 (fun o _ => ⟨_, zw_X67.1 o, rfl⟩) (lw_V q4171 q4173 qs180 q294 q4174) dX67_labelWord_61 zy_X67_nameOfToken rfl (by omega) (by decide) (Nat.le_of_ble_eq_true rfl) (by decide) (fun l G => k_fX67_nameOfToken l G) (fun v8 => ?_)
    refine r_lstore_n (ls' := [(1, 1, v8), (0, 69, 0)]) E dX67_labelWord_64 rfl (by rw [hN]; decide) rfl ?_
    refine r_aload_n E dX67_labelWord_65 rfl 1 rfl ?_
    refine r_callV E [] [] rfl zc_69 zr_69 (fun o _ => ⟨_, zw_X67.1 o, rfl⟩) (lw_V q4138 q4140 qs175 q294 q4141) dX67_labelWord_66 zy_X67_next rfl (by omega) (by decide) (Nat.le_of_ble_eq_true rfl) (by decide) (fun l G => k_fX67_next l G) (fun _ => ?_)
    refine r_lload_n E dX67_labelWord_69 rfl 0 rfl ?_
    exact r_lreturn E rfl hT dX67_labelWord_70
  · refine r_lconst (v := 0) E dX67_labelWord_58 (by decide) (zkJ (by decide) (by decide)) ?_
    exact r_lreturn E rfl hT dX67_labelWord_59
theorem w_fX67_labelWord_J42 {K : zK} (E : zE K cX67_labelWord "RingHouseModel" (some .long) 4) (hN : zNl K = 3) (hT : zTr K = (some 1)) : zR K 42 [(0, 69, 0)] [] (fX67_labelWord_J42) := by
  refine r_aload_n E dX67_labelWord_42 rfl 0 rfl ?_
  refine r_iconst E dX67_labelWord_43 (zkI (by decide) (by decide)) ?_
  refine r_aload_n E dX67_labelWord_44 rfl 0 rfl ?_
  refine r_get E zc_69 zt_6888 dX67_labelWord_45 q3303 zr_69 (zg_6888 _) (by decide) (fun v5 => ?_)
  refine r_callV E [(0, 2), (0, v5)] [] rfl zc_69 zr_69 (fun o _ => ⟨_, zw_X67.1 o, rfl⟩) (lw_V q4163 q4165 qs178 q294 q4166) dX67_labelWord_48 zy_X67_wrong rfl (by omega) (by decide) (Nat.le_of_ble_eq_true rfl) (by decide) (fun l G => k_fX67_wrong l G 2 v5) (fun _ => ?_)
  exact w_fX67_labelWord_J51 E hN hT
theorem w_fX67_labelWord {K : zK} (E : zE K cX67_labelWord "RingHouseModel" (some .long) 4) (hN : zNl K = 3) (hT : zTr K = (some 1)) : zR K 0 [(0, 69, 0)] [] (fX67_labelWord) := by
  refine r_aload_n E dX67_labelWord_0 rfl 0 rfl ?_
  refine r_get E zc_69 zt_6887 dX67_labelWord_1 q3302 zr_69 (zg_6887 _) (by decide) (fun v1 => ?_)
  refine r_iconst E dX67_labelWord_4 (zkI (by decide) (by decide)) ?_
  refine r_icmp_eq E 20 (by decide) dX67_labelWord_5 (fun _ => ?_) (fun _ => ?_)
  · refine r_aload_n E dX67_labelWord_20 rfl 0 rfl ?_
    refine r_gec (y := 0) E zc_69 dX67_labelWord_21 q3283 zr_69 (zh_6868 (by decide)) (by decide) ?_
    refine r_aload_n E dX67_labelWord_24 rfl 0 rfl ?_
    refine r_get E zc_69 zt_6888 dX67_labelWord_25 q3303 zr_69 (zg_6888 _) (by decide) (fun v2 => ?_)
    refine r_iaload E zc_6868 za_6868 zt_6868 zx_6868 rfl rfl dX67_labelWord_28 (by decide) (fun v3 => ?_)
    refine r_callS E [(0, v3)] [] rfl q4145 q4146 q294 q4147 dX67_labelWord_29 zy_X67_isLetter rfl (by omega) (by decide) (Nat.le_of_ble_eq_true rfl) (fun l G => k_fX67_isLetter l G v3) (fun v4 => ?_)
    refine r_if_eq E 42 (by decide) dX67_labelWord_32 (fun _ => ?_) (fun _ => ?_)
    · exact w_fX67_labelWord_J42 E hN hT
    · refine r_aload_n E dX67_labelWord_35 rfl 0 rfl ?_
      refine r_callV E [] [] rfl zc_69 zr_69 (fun o _ => ⟨_, zw_X67.1 o, rfl⟩) (lw_V q4167 q4169 qs179 q294 q4170) dX67_labelWord_36 zy_X67_isShort rfl (by omega) (by decide) (Nat.le_of_ble_eq_true rfl) (by decide) (fun l G => k_fX67_isShort l G) (fun v10 => ?_)
      refine r_if_ne E 51 (by decide) dX67_labelWord_39 (fun _ => ?_) (fun _ => ?_)
      · exact w_fX67_labelWord_J51 E hN hT
      · exact w_fX67_labelWord_J42 E hN hT
  · refine r_aload_n E dX67_labelWord_8 rfl 0 rfl ?_
    refine r_iconst E dX67_labelWord_9 (zkI (by decide) (by decide)) ?_
    refine r_aload_n E dX67_labelWord_10 rfl 0 rfl ?_
    refine r_get E zc_69 zt_6888 dX67_labelWord_11 q3303 zr_69 (zg_6888 _) (by decide) (fun v11 => ?_)
    refine r_callV E [(0, 1), (0, v11)] [] rfl zc_69 zr_69 (fun o _ => ⟨_, zw_X67.1 o, rfl⟩) (lw_V q4163 q4165 qs178 q294 q4166) dX67_labelWord_14 zy_X67_wrong rfl (by omega) (by decide) (Nat.le_of_ble_eq_true rfl) (by decide) (fun l G => k_fX67_wrong l G 1 v11) (fun _ => ?_)
    refine r_goto E 51 (by decide) dX67_labelWord_17 ?_
    exact w_fX67_labelWord_J51 E hN hT
theorem k_fX67_labelWord (l : Launch) (G : zG) : zCt l G yX67_labelWord cX67_labelWord 3 (some .long) 4 [(69, 0)] (some 1) (fX67_labelWord) := zCt.of (by decide) (Nat.le_of_ble_eq_true rfl) (fun K E _ _ hN hT => w_fX67_labelWord E hN hT)
theorem dX67_late_0 : decode cX67_late 0 = .ok (.aload_n 0, 1) := by decide +kernel
theorem dX67_late_1 : decode cX67_late 1 = .ok (.getfield 819, 3) := by decide +kernel
theorem dX67_late_4 : decode cX67_late 4 = .ok (.ifCond .ne 13, 3) := by decide +kernel
theorem dX67_late_7 : decode cX67_late 7 = .ok (.aload_n 0, 1) := by decide +kernel
theorem dX67_late_8 : decode cX67_late 8 = .ok (.iload_n 1, 1) := by decide +kernel
theorem dX67_late_9 : decode cX67_late 9 = .ok (.putfield 819, 3) := by decide +kernel
theorem dX67_late_12 : decode cX67_late 12 = .ok (.aload_n 0, 1) := by decide +kernel
theorem dX67_late_13 : decode cX67_late 13 = .ok (.iload_n 2, 1) := by decide +kernel
theorem dX67_late_14 : decode cX67_late 14 = .ok (.putfield 822, 3) := by decide +kernel
theorem dX67_late_17 : decode cX67_late 17 = .ok (.return_, 1) := by decide +kernel
theorem zy_X67_late : yX67_late.cls ≠ "java/lang/invoke/MethodHandle" ∧ yX67_late.cls ≠ "java/lang/invoke/VarHandle" ∧ (parseMethodDescriptor yX67_late.desc).map (fun d => d.parameters.length) = some 2 := by decide +kernel
theorem w_fX67_late {K : zK} (E : zE K cX67_late "RingHouseModel" none 0) (hN : zNl K = 3) (hT : zTr K = none) (x1 : Int) (x2 : Int) : zR K 0 [(0, 69, 0), (1, 0, x1), (2, 0, x2)] [] (fX67_late x1 x2) := by
  refine r_aload_n E dX67_late_0 rfl 0 rfl ?_
  refine r_get E zc_69 zt_6905 dX67_late_1 q3319 zr_69 (zg_6905 _) (by decide) (fun v1 => ?_)
  refine r_if_ne E 17 (by decide) dX67_late_4 (fun _ => ?_) (fun _ => ?_)
  · exact r_return E rfl hT dX67_late_17
  · refine r_aload_n E dX67_late_7 rfl 0 rfl ?_
    refine r_iload_n E dX67_late_8 rfl 1 rfl ?_
    refine r_put E zc_69 zt_6905 zo_6905 dX67_late_9 q3319 zr_69 zw_X67 zp_6905 (fun _ => rfl) (fun _ => rfl) (by decide) ?_
    refine r_aload_n E dX67_late_12 rfl 0 rfl ?_
    refine r_iload_n E dX67_late_13 rfl 2 rfl ?_
    refine r_put E zc_69 zt_6906 zo_6906 dX67_late_14 q3320 zr_69 zw_X67 zp_6906 (fun _ => rfl) (fun _ => rfl) (by decide) ?_
    exact r_return E rfl hT dX67_late_17
theorem k_fX67_late (l : Launch) (G : zG) (x1 : Int) (x2 : Int) : zCt l G yX67_late cX67_late 3 none 0 [(69, 0), (0, x1), (0, x2)] none (fX67_late x1 x2) := zCt.of (by decide) (Nat.le_of_ble_eq_true rfl) (fun K E _ _ hN hT => w_fX67_late E hN hT x1 x2)
theorem dX67_labelNamed_0 : decode cX67_labelNamed 0 = .ok (.iconst 0, 1) := by decide +kernel
theorem dX67_labelNamed_1 : decode cX67_labelNamed 1 = .ok (.istore_n 3, 1) := by decide +kernel
theorem dX67_labelNamed_2 : decode cX67_labelNamed 2 = .ok (.iload_n 3, 1) := by decide +kernel
theorem dX67_labelNamed_3 : decode cX67_labelNamed 3 = .ok (.aload_n 0, 1) := by decide +kernel
theorem dX67_labelNamed_4 : decode cX67_labelNamed 4 = .ok (.getfield 857, 3) := by decide +kernel
theorem dX67_labelNamed_7 : decode cX67_labelNamed 7 = .ok (.if_icmp .ge 20, 3) := by decide +kernel
theorem dX67_labelNamed_10 : decode cX67_labelNamed 10 = .ok (.aload_n 0, 1) := by decide +kernel
theorem dX67_labelNamed_11 : decode cX67_labelNamed 11 = .ok (.getfield 220, 3) := by decide +kernel
theorem dX67_labelNamed_14 : decode cX67_labelNamed 14 = .ok (.iload_n 3, 1) := by decide +kernel
theorem dX67_labelNamed_15 : decode cX67_labelNamed 15 = .ok (.laload, 1) := by decide +kernel
theorem dX67_labelNamed_16 : decode cX67_labelNamed 16 = .ok (.lload_n 1, 1) := by decide +kernel
theorem dX67_labelNamed_17 : decode cX67_labelNamed 17 = .ok (.lcmp, 1) := by decide +kernel
theorem dX67_labelNamed_18 : decode cX67_labelNamed 18 = .ok (.ifCond .eq 9, 3) := by decide +kernel
theorem dX67_labelNamed_21 : decode cX67_labelNamed 21 = .ok (.iinc 3 1, 3) := by decide +kernel
theorem dX67_labelNamed_24 : decode cX67_labelNamed 24 = .ok (.goto (-22), 3) := by decide +kernel
theorem dX67_labelNamed_27 : decode cX67_labelNamed 27 = .ok (.iload_n 3, 1) := by decide +kernel
theorem dX67_labelNamed_28 : decode cX67_labelNamed 28 = .ok (.aload_n 0, 1) := by decide +kernel
theorem dX67_labelNamed_29 : decode cX67_labelNamed 29 = .ok (.getfield 857, 3) := by decide +kernel
theorem dX67_labelNamed_32 : decode cX67_labelNamed 32 = .ok (.if_icmp .ge 7, 3) := by decide +kernel
theorem dX67_labelNamed_35 : decode cX67_labelNamed 35 = .ok (.iload_n 3, 1) := by decide +kernel
theorem dX67_labelNamed_36 : decode cX67_labelNamed 36 = .ok (.goto 4, 3) := by decide +kernel
theorem dX67_labelNamed_39 : decode cX67_labelNamed 39 = .ok (.iconst (-1), 1) := by decide +kernel
theorem dX67_labelNamed_40 : decode cX67_labelNamed 40 = .ok (.ireturn, 1) := by decide +kernel
theorem zy_X67_labelNamed : yX67_labelNamed.cls ≠ "java/lang/invoke/MethodHandle" ∧ yX67_labelNamed.cls ≠ "java/lang/invoke/VarHandle" ∧ (parseMethodDescriptor yX67_labelNamed.desc).map (fun d => d.parameters.length) = some 1 := by decide +kernel
theorem w_fX67_labelNamed_J27 {K : zK} (E : zE K cX67_labelNamed "RingHouseModel" (some .int) 0) (hN : zNl K = 4) (hT : zTr K = (some 0)) (x3 : Int) : zR K 27 [(0, 69, 0), (3, 0, x3)] [] (fX67_labelNamed_J27 x3) := by
  refine r_iload_n E dX67_labelNamed_27 rfl 1 rfl ?_
  refine r_aload_n E dX67_labelNamed_28 rfl 0 rfl ?_
  refine r_get E zc_69 zt_6893 dX67_labelNamed_29 q3308 zr_69 (zg_6893 _) (by decide) (fun v2 => ?_)
  refine r_icmp_ge E 39 (by decide) dX67_labelNamed_32 (fun _ => ?_) (fun _ => ?_)
  · refine r_iconst E dX67_labelNamed_39 (zkI (by decide) (by decide)) ?_
    exact r_ireturn E rfl hT dX67_labelNamed_40
  · refine r_iload_n E dX67_labelNamed_35 rfl 1 rfl ?_
    refine r_goto E 40 (by decide) dX67_labelNamed_36 ?_
    exact r_ireturn E rfl hT dX67_labelNamed_40
theorem w_fX67_labelNamed_B2 {K : zK} (E : zE K cX67_labelNamed "RingHouseModel" (some .int) 0) (hN : zNl K = 4) (hT : zTr K = (some 0)) (x1 : Int) : ∀ r2 : Int → zX, (∀ s : Int, zR K 2 [(0, 69, 0), (1, 1, x1), (3, 0, s)] [] (r2 s)) → ∀ s : Int, zR K 2 [(0, 69, 0), (1, 1, x1), (3, 0, s)] [] (fX67_labelNamed_B2 x1 r2 s) := by
  intro r2 hr2 x3
  refine r_iload_n E dX67_labelNamed_2 rfl 2 rfl ?_
  refine r_aload_n E dX67_labelNamed_3 rfl 0 rfl ?_
  refine r_get E zc_69 zt_6893 dX67_labelNamed_4 q3308 zr_69 (zg_6893 _) (by decide) (fun v1 => ?_)
  refine r_icmp_ge E 27 (by decide) dX67_labelNamed_7 (fun _ => ?_) (fun _ => ?_)
  · refine r_pick E [0, 2] rfl ?_
    exact w_fX67_labelNamed_J27 E hN hT x3
  · refine r_aload_n E dX67_labelNamed_10 rfl 0 rfl ?_
    refine r_gec (y := 0) E zc_69 dX67_labelNamed_11 q3309 zr_69 (zh_6894 (by decide)) (by decide) ?_
    refine r_iload_n E dX67_labelNamed_14 rfl 2 rfl ?_
    refine r_laload E zc_6894 za_6894 zt_6894 zx_6894 rfl rfl dX67_labelNamed_15 (by decide) (fun v3 => ?_)
    refine r_lload_n E dX67_labelNamed_16 rfl 1 rfl ?_
    refine r_lcmp_eq E 27 (by decide) dX67_labelNamed_17 dX67_labelNamed_18 (fun _ => ?_) (fun _ => ?_)
    · refine r_pick E [0, 2] rfl ?_
      exact w_fX67_labelNamed_J27 E hN hT x3
    · refine r_iinc (ls' := fun v4 => [(3, 0, v4), (0, 69, 0), (1, 1, x1)]) E 2 rfl (by rw [hN]; decide) (fun _ => rfl) dX67_labelNamed_21 (fun v4 _ => ?_)
      refine r_goto E 2 (by decide) dX67_labelNamed_24 ?_
      refine r_pick E [1, 2, 0] rfl ?_
      exact hr2 v4
theorem w_fX67_labelNamed {K : zK} (E : zE K cX67_labelNamed "RingHouseModel" (some .int) 0) (hN : zNl K = 4) (hT : zTr K = (some 0)) (x1 : Int) : zR K 0 [(0, 69, 0), (1, 1, x1)] [] (fX67_labelNamed x1) := by
  refine r_iconst E dX67_labelNamed_0 (zkI (by decide) (by decide)) ?_
  refine r_istore_n (ls' := [(3, 0, 0), (0, 69, 0), (1, 1, x1)]) E dX67_labelNamed_1 rfl (by rw [hN]; decide) rfl ?_
  refine r_pick E [1, 2, 0] rfl ?_
  exact r_loop (L := fun s => [(0, 69, 0), (1, 1, x1), (3, 0, s)]) (w_fX67_labelNamed_B2 E hN hT x1) zBIG 0
theorem k_fX67_labelNamed (l : Launch) (G : zG) (x1 : Int) : zCt l G yX67_labelNamed cX67_labelNamed 4 (some .int) 0 [(69, 0), (1, x1)] (some 0) (fX67_labelNamed x1) := zCt.of (by decide) (Nat.le_of_ble_eq_true rfl) (fun K E _ _ hN hT => w_fX67_labelNamed E hN hT x1)
theorem dX67_labelAt_0 : decode cX67_labelAt 0 = .ok (.aload_n 0, 1) := by decide +kernel
theorem dX67_labelAt_1 : decode cX67_labelAt 1 = .ok (.getfield 882, 3) := by decide +kernel
theorem dX67_labelAt_4 : decode cX67_labelAt 4 = .ok (.ifCond .eq 11, 3) := by decide +kernel
theorem dX67_labelAt_7 : decode cX67_labelAt 7 = .ok (.aload_n 0, 1) := by decide +kernel
theorem dX67_labelAt_8 : decode cX67_labelAt 8 = .ok (.lload_n 1, 1) := by decide +kernel
theorem dX67_labelAt_9 : decode cX67_labelAt 9 = .ok (.invokevirtual 886, 3) := by decide +kernel
theorem dX67_labelAt_12 : decode cX67_labelAt 12 = .ok (.goto 4, 3) := by decide +kernel
theorem dX67_labelAt_15 : decode cX67_labelAt 15 = .ok (.iconst (-1), 1) := by decide +kernel
theorem dX67_labelAt_16 : decode cX67_labelAt 16 = .ok (.istore 4, 2) := by decide +kernel
theorem dX67_labelAt_18 : decode cX67_labelAt 18 = .ok (.aload_n 0, 1) := by decide +kernel
theorem dX67_labelAt_19 : decode cX67_labelAt 19 = .ok (.getfield 882, 3) := by decide +kernel
theorem dX67_labelAt_22 : decode cX67_labelAt 22 = .ok (.ifCond .eq 14, 3) := by decide +kernel
theorem dX67_labelAt_25 : decode cX67_labelAt 25 = .ok (.iload 4, 2) := by decide +kernel
theorem dX67_labelAt_27 : decode cX67_labelAt 27 = .ok (.ifCond .ge 9, 3) := by decide +kernel
theorem dX67_labelAt_30 : decode cX67_labelAt 30 = .ok (.aload_n 0, 1) := by decide +kernel
theorem dX67_labelAt_31 : decode cX67_labelAt 31 = .ok (.iconst 5, 1) := by decide +kernel
theorem dX67_labelAt_32 : decode cX67_labelAt 32 = .ok (.iload_n 3, 1) := by decide +kernel
theorem dX67_labelAt_33 : decode cX67_labelAt 33 = .ok (.invokevirtual 890, 3) := by decide +kernel
theorem dX67_labelAt_36 : decode cX67_labelAt 36 = .ok (.iload 4, 2) := by decide +kernel
theorem dX67_labelAt_38 : decode cX67_labelAt 38 = .ok (.ifCond .ge 7, 3) := by decide +kernel
theorem dX67_labelAt_41 : decode cX67_labelAt 41 = .ok (.iconst 0, 1) := by decide +kernel
theorem dX67_labelAt_42 : decode cX67_labelAt 42 = .ok (.goto 10, 3) := by decide +kernel
theorem dX67_labelAt_45 : decode cX67_labelAt 45 = .ok (.aload_n 0, 1) := by decide +kernel
theorem dX67_labelAt_46 : decode cX67_labelAt 46 = .ok (.getfield 223, 3) := by decide +kernel
theorem dX67_labelAt_49 : decode cX67_labelAt 49 = .ok (.iload 4, 2) := by decide +kernel
theorem dX67_labelAt_51 : decode cX67_labelAt 51 = .ok (.iaload, 1) := by decide +kernel
theorem dX67_labelAt_52 : decode cX67_labelAt 52 = .ok (.ireturn, 1) := by decide +kernel
theorem zy_X67_labelAt : yX67_labelAt.cls ≠ "java/lang/invoke/MethodHandle" ∧ yX67_labelAt.cls ≠ "java/lang/invoke/VarHandle" ∧ (parseMethodDescriptor yX67_labelAt.desc).map (fun d => d.parameters.length) = some 2 := by decide +kernel
theorem w_fX67_labelAt_J36 {K : zK} (E : zE K cX67_labelAt "RingHouseModel" (some .int) 1) (hN : zNl K = 5) (hT : zTr K = (some 0)) (x4 : Int) : zR K 36 [(0, 69, 0), (4, 0, x4)] [] (fX67_labelAt_J36 x4) := by
  refine r_iload E dX67_labelAt_36 1 rfl ?_
  refine r_if_ge E 45 (by decide) dX67_labelAt_38 (fun _ => ?_) (fun _ => ?_)
  · refine r_aload_n E dX67_labelAt_45 rfl 0 rfl ?_
    refine r_gec (y := 0) E zc_69 dX67_labelAt_46 q3310 zr_69 (zh_6895 (by decide)) (by decide) ?_
    refine r_iload E dX67_labelAt_49 1 rfl ?_
    refine r_iaload E zc_6895 za_6895 zt_6895 zx_6895 rfl rfl dX67_labelAt_51 (by decide) (fun v3 => ?_)
    exact r_ireturn E rfl hT dX67_labelAt_52
  · refine r_iconst E dX67_labelAt_41 (zkI (by decide) (by decide)) ?_
    refine r_goto E 52 (by decide) dX67_labelAt_42 ?_
    exact r_ireturn E rfl hT dX67_labelAt_52
theorem w_fX67_labelAt_J16 {K : zK} (E : zE K cX67_labelAt "RingHouseModel" (some .int) 1) (hN : zNl K = 5) (hT : zTr K = (some 0)) (x3 : Int) (s0 : Int) : zR K 16 [(0, 69, 0), (3, 0, x3)] [(0, s0)] (fX67_labelAt_J16 x3 s0) := by
  refine r_istore (ls' := [(4, 0, s0), (0, 69, 0), (3, 0, x3)]) E dX67_labelAt_16 (by rw [hN]; decide) rfl ?_
  refine r_aload_n E dX67_labelAt_18 rfl 1 rfl ?_
  refine r_get E zc_69 zt_6903 dX67_labelAt_19 q3318 zr_69 (zg_6903 _) (by decide) (fun v2 => ?_)
  refine r_if_eq E 36 (by decide) dX67_labelAt_22 (fun _ => ?_) (fun _ => ?_)
  · refine r_pick E [1, 0] rfl ?_
    exact w_fX67_labelAt_J36 E hN hT s0
  · refine r_iload E dX67_labelAt_25 0 rfl ?_
    refine r_if_ge E 36 (by decide) dX67_labelAt_27 (fun _ => ?_) (fun _ => ?_)
    · refine r_pick E [1, 0] rfl ?_
      exact w_fX67_labelAt_J36 E hN hT s0
    · refine r_aload_n E dX67_labelAt_30 rfl 1 rfl ?_
      refine r_iconst E dX67_labelAt_31 (zkI (by decide) (by decide)) ?_
      refine r_iload_n E dX67_labelAt_32 rfl 2 rfl ?_
      refine r_callV E [(0, 5), (0, x3)] [] rfl zc_69 zr_69 (fun o _ => ⟨_, zw_X67.1 o, rfl⟩) (lw_V q4239 q4241 qs194 q294 q4242) dX67_labelAt_33 zy_X67_late rfl (by omega) (by decide) (Nat.le_of_ble_eq_true rfl) (by decide) (fun l G => k_fX67_late l G 5 x3) (fun _ => ?_)
      refine r_pick E [1, 0] rfl ?_
      exact w_fX67_labelAt_J36 E hN hT s0
theorem w_fX67_labelAt {K : zK} (E : zE K cX67_labelAt "RingHouseModel" (some .int) 1) (hN : zNl K = 5) (hT : zTr K = (some 0)) (x1 : Int) (x3 : Int) : zR K 0 [(0, 69, 0), (1, 1, x1), (3, 0, x3)] [] (fX67_labelAt x1 x3) := by
  refine r_aload_n E dX67_labelAt_0 rfl 0 rfl ?_
  refine r_get E zc_69 zt_6903 dX67_labelAt_1 q3318 zr_69 (zg_6903 _) (by decide) (fun v1 => ?_)
  refine r_if_eq E 15 (by decide) dX67_labelAt_4 (fun _ => ?_) (fun _ => ?_)
  · refine r_iconst E dX67_labelAt_15 (zkI (by decide) (by decide)) ?_
    refine r_pick E [0, 2] rfl ?_
    exact w_fX67_labelAt_J16 E hN hT x3 (-1)
  · refine r_aload_n E dX67_labelAt_7 rfl 0 rfl ?_
    refine r_lload_n E dX67_labelAt_8 rfl 1 rfl ?_
    refine r_callV E [(1, x1)] [] rfl zc_69 zr_69 (fun o _ => ⟨_, zw_X67.1 o, rfl⟩) (lw_V q4179 q4181 qs181 q294 q4182) dX67_labelAt_9 zy_X67_labelNamed rfl (by omega) (by decide) (Nat.le_of_ble_eq_true rfl) (by decide) (fun l G => k_fX67_labelNamed l G x1) (fun v5 => ?_)
    refine r_goto E 16 (by decide) dX67_labelAt_12 ?_
    refine r_pick E [0, 2] rfl ?_
    exact w_fX67_labelAt_J16 E hN hT x3 v5
theorem k_fX67_labelAt (l : Launch) (G : zG) (x1 : Int) (x3 : Int) : zCt l G yX67_labelAt cX67_labelAt 5 (some .int) 1 [(69, 0), (1, x1), (0, x3)] (some 0) (fX67_labelAt x1 x3) := zCt.of (by decide) (Nat.le_of_ble_eq_true rfl) (fun K E _ _ hN hT => w_fX67_labelAt E hN hT x1 x3)
theorem dX67_definitionOfText_0 : decode cX67_definitionOfText 0 = .ok (.aload_n 0, 1) := by decide +kernel
theorem dX67_definitionOfText_1 : decode cX67_definitionOfText 1 = .ok (.getfield 831, 3) := by decide +kernel
theorem dX67_definitionOfText_4 : decode cX67_definitionOfText 4 = .ok (.istore_n 1, 1) := by decide +kernel
theorem dX67_definitionOfText_5 : decode cX67_definitionOfText 5 = .ok (.aload_n 0, 1) := by decide +kernel
theorem dX67_definitionOfText_6 : decode cX67_definitionOfText 6 = .ok (.invokevirtual 899, 3) := by decide +kernel
theorem dX67_definitionOfText_9 : decode cX67_definitionOfText 9 = .ok (.lstore_n 2, 1) := by decide +kernel
theorem dX67_definitionOfText_10 : decode cX67_definitionOfText 10 = .ok (.aload_n 0, 1) := by decide +kernel
theorem dX67_definitionOfText_11 : decode cX67_definitionOfText 11 = .ok (.getfield 813, 3) := by decide +kernel
theorem dX67_definitionOfText_14 : decode cX67_definitionOfText 14 = .ok (.ifCond .le 4, 3) := by decide +kernel
theorem dX67_definitionOfText_17 : decode cX67_definitionOfText 17 = .ok (.return_, 1) := by decide +kernel
theorem dX67_definitionOfText_18 : decode cX67_definitionOfText 18 = .ok (.aload_n 0, 1) := by decide +kernel
theorem dX67_definitionOfText_19 : decode cX67_definitionOfText 19 = .ok (.getfield 957, 3) := by decide +kernel
theorem dX67_definitionOfText_22 : decode cX67_definitionOfText 22 = .ok (.bipush 32, 2) := by decide +kernel
theorem dX67_definitionOfText_24 : decode cX67_definitionOfText 24 = .ok (.if_icmp .ne 11, 3) := by decide +kernel
theorem dX67_definitionOfText_27 : decode cX67_definitionOfText 27 = .ok (.aload_n 0, 1) := by decide +kernel
theorem dX67_definitionOfText_28 : decode cX67_definitionOfText 28 = .ok (.bipush 6, 2) := by decide +kernel
theorem dX67_definitionOfText_30 : decode cX67_definitionOfText 30 = .ok (.iload_n 1, 1) := by decide +kernel
theorem dX67_definitionOfText_31 : decode cX67_definitionOfText 31 = .ok (.invokevirtual 854, 3) := by decide +kernel
theorem dX67_definitionOfText_34 : decode cX67_definitionOfText 34 = .ok (.return_, 1) := by decide +kernel
theorem dX67_definitionOfText_35 : decode cX67_definitionOfText 35 = .ok (.aload_n 0, 1) := by decide +kernel
theorem dX67_definitionOfText_36 : decode cX67_definitionOfText 36 = .ok (.getfield 232, 3) := by decide +kernel
theorem dX67_definitionOfText_39 : decode cX67_definitionOfText 39 = .ok (.aload_n 0, 1) := by decide +kernel
theorem dX67_definitionOfText_40 : decode cX67_definitionOfText 40 = .ok (.getfield 957, 3) := by decide +kernel
theorem dX67_definitionOfText_43 : decode cX67_definitionOfText 43 = .ok (.lload_n 2, 1) := by decide +kernel
theorem dX67_definitionOfText_44 : decode cX67_definitionOfText 44 = .ok (.lastore, 1) := by decide +kernel
theorem dX67_definitionOfText_45 : decode cX67_definitionOfText 45 = .ok (.aload_n 0, 1) := by decide +kernel
theorem dX67_definitionOfText_46 : decode cX67_definitionOfText 46 = .ok (.getfield 235, 3) := by decide +kernel
theorem dX67_definitionOfText_49 : decode cX67_definitionOfText 49 = .ok (.aload_n 0, 1) := by decide +kernel
theorem dX67_definitionOfText_50 : decode cX67_definitionOfText 50 = .ok (.getfield 957, 3) := by decide +kernel
theorem dX67_definitionOfText_53 : decode cX67_definitionOfText 53 = .ok (.aload_n 0, 1) := by decide +kernel
theorem dX67_definitionOfText_54 : decode cX67_definitionOfText 54 = .ok (.lload_n 2, 1) := by decide +kernel
theorem dX67_definitionOfText_55 : decode cX67_definitionOfText 55 = .ok (.iload_n 1, 1) := by decide +kernel
theorem dX67_definitionOfText_56 : decode cX67_definitionOfText 56 = .ok (.invokevirtual 902, 3) := by decide +kernel
theorem dX67_definitionOfText_59 : decode cX67_definitionOfText 59 = .ok (.iastore, 1) := by decide +kernel
theorem dX67_definitionOfText_60 : decode cX67_definitionOfText 60 = .ok (.aload_n 0, 1) := by decide +kernel
theorem dX67_definitionOfText_61 : decode cX67_definitionOfText 61 = .ok (.dup, 1) := by decide +kernel
theorem dX67_definitionOfText_62 : decode cX67_definitionOfText 62 = .ok (.getfield 957, 3) := by decide +kernel
theorem dX67_definitionOfText_65 : decode cX67_definitionOfText 65 = .ok (.iconst 1, 1) := by decide +kernel
theorem dX67_definitionOfText_66 : decode cX67_definitionOfText 66 = .ok (.iadd, 1) := by decide +kernel
theorem dX67_definitionOfText_67 : decode cX67_definitionOfText 67 = .ok (.putfield 957, 3) := by decide +kernel
theorem dX67_definitionOfText_70 : decode cX67_definitionOfText 70 = .ok (.return_, 1) := by decide +kernel
theorem zy_X67_definitionOfText : yX67_definitionOfText.cls ≠ "java/lang/invoke/MethodHandle" ∧ yX67_definitionOfText.cls ≠ "java/lang/invoke/VarHandle" ∧ (parseMethodDescriptor yX67_definitionOfText.desc).map (fun d => d.parameters.length) = some 0 := by decide +kernel
theorem w_fX67_definitionOfText {K : zK} (E : zE K cX67_definitionOfText "RingHouseModel" none 5) (hN : zNl K = 4) (hT : zTr K = none) : zR K 0 [(0, 69, 0)] [] (fX67_definitionOfText) := by
  refine r_aload_n E dX67_definitionOfText_0 rfl 0 rfl ?_
  refine r_get E zc_69 zt_6888 dX67_definitionOfText_1 q3303 zr_69 (zg_6888 _) (by decide) (fun v1 => ?_)
  refine r_istore_n (ls' := [(1, 0, v1), (0, 69, 0)]) E dX67_definitionOfText_4 rfl (by rw [hN]; decide) rfl ?_
  refine r_aload_n E dX67_definitionOfText_5 rfl 1 rfl ?_
  refine r_callV E [] [] rfl zc_69 zr_69 (fun o _ => ⟨_, zw_X67.1 o, rfl⟩) (lw_V q4159 q4161 qs177 q294 q4162) dX67_definitionOfText_6 zy_X67_labelWord rfl (by omega) (by decide) (Nat.le_of_ble_eq_true rfl) (by decide) (fun l G => k_fX67_labelWord l G) (fun v2 => ?_)
  refine r_lstore_n (ls' := [(2, 1, v2), (1, 0, v1), (0, 69, 0)]) E dX67_definitionOfText_9 rfl (by rw [hN]; decide) rfl ?_
  refine r_aload_n E dX67_definitionOfText_10 rfl 2 rfl ?_
  refine r_get E zc_69 zt_6891 dX67_definitionOfText_11 q3306 zr_69 (zg_6891 _) (by decide) (fun v3 => ?_)
  refine r_if_le E 18 (by decide) dX67_definitionOfText_14 (fun _ => ?_) (fun _ => ?_)
  · refine r_aload_n E dX67_definitionOfText_18 rfl 2 rfl ?_
    refine r_get E zc_69 zt_6899 dX67_definitionOfText_19 q3314 zr_69 (zg_6899 _) (by decide) (fun v4 => ?_)
    refine r_bipush E dX67_definitionOfText_22 (by decide) (zkI (by decide) (by decide)) ?_
    refine r_icmp_ne E 35 (by decide) dX67_definitionOfText_24 (fun _ => ?_) (fun _ => ?_)
    · refine r_aload_n E dX67_definitionOfText_35 rfl 2 rfl ?_
      refine r_gec (y := 0) E zc_69 dX67_definitionOfText_36 q3315 zr_69 (zh_6900 (by decide)) (by decide) ?_
      refine r_aload_n E dX67_definitionOfText_39 rfl 2 rfl ?_
      refine r_get E zc_69 zt_6899 dX67_definitionOfText_40 q3314 zr_69 (zg_6899 _) (by decide) (fun v5 => ?_)
      refine r_lload_n E dX67_definitionOfText_43 rfl 0 rfl ?_
      refine r_lastore E zc_6900 za_6900 zt_6900 zo_6900 zx_6900 rfl rfl dX67_definitionOfText_44 (by decide) ?_
      refine r_aload_n E dX67_definitionOfText_45 rfl 2 rfl ?_
      refine r_gec (y := 0) E zc_69 dX67_definitionOfText_46 q3316 zr_69 (zh_6901 (by decide)) (by decide) ?_
      refine r_aload_n E dX67_definitionOfText_49 rfl 2 rfl ?_
      refine r_get E zc_69 zt_6899 dX67_definitionOfText_50 q3314 zr_69 (zg_6899 _) (by decide) (fun v6 => ?_)
      refine r_aload_n E dX67_definitionOfText_53 rfl 2 rfl ?_
      refine r_lload_n E dX67_definitionOfText_54 rfl 0 rfl ?_
      refine r_iload_n E dX67_definitionOfText_55 rfl 1 rfl ?_
      refine r_callV E [(1, v2), (0, v1)] [(0, v6), (6901, 0)] rfl zc_69 zr_69 (fun o _ => ⟨_, zw_X67.1 o, rfl⟩) (lw_V q4235 q4237 qs193 q294 q4238) dX67_definitionOfText_56 zy_X67_labelAt rfl (by omega) (by decide) (Nat.le_of_ble_eq_true rfl) (by decide) (fun l G => k_fX67_labelAt l G v2 v1) (fun v7 => ?_)
      refine r_iastore E zc_6901 za_6901 zt_6901 zo_6901 zx_6901 rfl rfl dX67_definitionOfText_59 (by decide) ?_
      refine r_aload_n E dX67_definitionOfText_60 rfl 2 rfl ?_
      refine r_dup E (zn1 rfl) dX67_definitionOfText_61 ?_
      refine r_get E zc_69 zt_6899 dX67_definitionOfText_62 q3314 zr_69 (zg_6899 _) (by decide) (fun v8 => ?_)
      refine r_iconst E dX67_definitionOfText_65 (zkI (by decide) (by decide)) ?_
      refine r_iadd E dX67_definitionOfText_66 ?_
      refine r_put E zc_69 zt_6899 zo_6899 dX67_definitionOfText_67 q3314 zr_69 zw_X67 zp_6899 (fun _ => rfl) (fun _ => rfl) (by decide) ?_
      exact r_return E rfl hT dX67_definitionOfText_70
    · refine r_aload_n E dX67_definitionOfText_27 rfl 2 rfl ?_
      refine r_bipush E dX67_definitionOfText_28 (by decide) (zkI (by decide) (by decide)) ?_
      refine r_iload_n E dX67_definitionOfText_30 rfl 1 rfl ?_
      refine r_callV E [(0, 6), (0, v1)] [] rfl zc_69 zr_69 (fun o _ => ⟨_, zw_X67.1 o, rfl⟩) (lw_V q4163 q4165 qs178 q294 q4166) dX67_definitionOfText_31 zy_X67_wrong rfl (by omega) (by decide) (Nat.le_of_ble_eq_true rfl) (by decide) (fun l G => k_fX67_wrong l G 6 v1) (fun _ => ?_)
      exact r_return E rfl hT dX67_definitionOfText_34
  · exact r_return E rfl hT dX67_definitionOfText_17
theorem k_fX67_definitionOfText (l : Launch) (G : zG) : zCt l G yX67_definitionOfText cX67_definitionOfText 4 none 5 [(69, 0)] none (fX67_definitionOfText) := zCt.of (by decide) (Nat.le_of_ble_eq_true rfl) (fun K E _ _ hN hT => w_fX67_definitionOfText E hN hT)
theorem dX67_isNumber_0 : decode cX67_isNumber 0 = .ok (.aload_n 0, 1) := by decide +kernel
theorem dX67_isNumber_1 : decode cX67_isNumber 1 = .ok (.getfield 837, 3) := by decide +kernel
theorem dX67_isNumber_4 : decode cX67_isNumber 4 = .ok (.iconst 1, 1) := by decide +kernel
theorem dX67_isNumber_5 : decode cX67_isNumber 5 = .ok (.if_icmp .ne 7, 3) := by decide +kernel
theorem dX67_isNumber_8 : decode cX67_isNumber 8 = .ok (.iconst 1, 1) := by decide +kernel
theorem dX67_isNumber_9 : decode cX67_isNumber 9 = .ok (.goto 4, 3) := by decide +kernel
theorem dX67_isNumber_12 : decode cX67_isNumber 12 = .ok (.iconst 0, 1) := by decide +kernel
theorem dX67_isNumber_13 : decode cX67_isNumber 13 = .ok (.istore_n 1, 1) := by decide +kernel
theorem dX67_isNumber_14 : decode cX67_isNumber 14 = .ok (.aload_n 0, 1) := by decide +kernel
theorem dX67_isNumber_15 : decode cX67_isNumber 15 = .ok (.getfield 831, 3) := by decide +kernel
theorem dX67_isNumber_18 : decode cX67_isNumber 18 = .ok (.istore_n 2, 1) := by decide +kernel
theorem dX67_isNumber_19 : decode cX67_isNumber 19 = .ok (.iload_n 2, 1) := by decide +kernel
theorem dX67_isNumber_20 : decode cX67_isNumber 20 = .ok (.aload_n 0, 1) := by decide +kernel
theorem dX67_isNumber_21 : decode cX67_isNumber 21 = .ok (.getfield 828, 3) := by decide +kernel
theorem dX67_isNumber_24 : decode cX67_isNumber 24 = .ok (.if_icmp .ge 31, 3) := by decide +kernel
theorem dX67_isNumber_27 : decode cX67_isNumber 27 = .ok (.iload_n 1, 1) := by decide +kernel
theorem dX67_isNumber_28 : decode cX67_isNumber 28 = .ok (.ifCond .eq 19, 3) := by decide +kernel
theorem dX67_isNumber_31 : decode cX67_isNumber 31 = .ok (.aload_n 0, 1) := by decide +kernel
theorem dX67_isNumber_32 : decode cX67_isNumber 32 = .ok (.getfield 206, 3) := by decide +kernel
theorem dX67_isNumber_35 : decode cX67_isNumber 35 = .ok (.iload_n 2, 1) := by decide +kernel
theorem dX67_isNumber_36 : decode cX67_isNumber 36 = .ok (.iaload, 1) := by decide +kernel
theorem dX67_isNumber_37 : decode cX67_isNumber 37 = .ok (.invokestatic 810, 3) := by decide +kernel
theorem dX67_isNumber_40 : decode cX67_isNumber 40 = .ok (.ifCond .eq 7, 3) := by decide +kernel
theorem dX67_isNumber_43 : decode cX67_isNumber 43 = .ok (.iconst 1, 1) := by decide +kernel
theorem dX67_isNumber_44 : decode cX67_isNumber 44 = .ok (.goto 4, 3) := by decide +kernel
theorem dX67_isNumber_47 : decode cX67_isNumber 47 = .ok (.iconst 0, 1) := by decide +kernel
theorem dX67_isNumber_48 : decode cX67_isNumber 48 = .ok (.istore_n 1, 1) := by decide +kernel
theorem dX67_isNumber_49 : decode cX67_isNumber 49 = .ok (.iinc 2 1, 3) := by decide +kernel
theorem dX67_isNumber_52 : decode cX67_isNumber 52 = .ok (.goto (-33), 3) := by decide +kernel
theorem dX67_isNumber_55 : decode cX67_isNumber 55 = .ok (.iload_n 1, 1) := by decide +kernel
theorem dX67_isNumber_56 : decode cX67_isNumber 56 = .ok (.ireturn, 1) := by decide +kernel
theorem zy_X67_isNumber : yX67_isNumber.cls ≠ "java/lang/invoke/MethodHandle" ∧ yX67_isNumber.cls ≠ "java/lang/invoke/VarHandle" ∧ (parseMethodDescriptor yX67_isNumber.desc).map (fun d => d.parameters.length) = some 0 := by decide +kernel
theorem w_fX67_isNumber_J48 {K : zK} (E : zE K cX67_isNumber "RingHouseModel" (some .boolean) 2) (hN : zNl K = 3) (hT : zTr K = (some 0)) (x2 : Int) (s0 : Int) {r19 : Int × Int → zX} (hr19 : ∀ s : Int × Int, zR K 19 [(0, 69, 0), (1, 0, s.1), (2, 0, s.2)] [] (r19 s)) : zR K 48 [(0, 69, 0), (2, 0, x2)] [(0, s0)] (fX67_isNumber_J48 r19 x2 s0) := by
  refine r_istore_n (ls' := [(1, 0, s0), (0, 69, 0), (2, 0, x2)]) E dX67_isNumber_48 rfl (by rw [hN]; decide) rfl ?_
  refine r_iinc (ls' := fun v4 => [(2, 0, v4), (1, 0, s0), (0, 69, 0)]) E 2 rfl (by rw [hN]; decide) (fun _ => rfl) dX67_isNumber_49 (fun v4 _ => ?_)
  refine r_goto E 19 (by decide) dX67_isNumber_52 ?_
  refine r_pick E [2, 1, 0] rfl ?_
  exact hr19 (s0, v4)
theorem w_fX67_isNumber_J47 {K : zK} (E : zE K cX67_isNumber "RingHouseModel" (some .boolean) 2) (hN : zNl K = 3) (hT : zTr K = (some 0)) (x2 : Int) {r19 : Int × Int → zX} (hr19 : ∀ s : Int × Int, zR K 19 [(0, 69, 0), (1, 0, s.1), (2, 0, s.2)] [] (r19 s)) : zR K 47 [(0, 69, 0), (2, 0, x2)] [] (fX67_isNumber_J47 r19 x2) := by
  refine r_iconst E dX67_isNumber_47 (zkI (by decide) (by decide)) ?_
  exact w_fX67_isNumber_J48 E hN hT x2 0 hr19
theorem w_fX67_isNumber_B19 {K : zK} (E : zE K cX67_isNumber "RingHouseModel" (some .boolean) 2) (hN : zNl K = 3) (hT : zTr K = (some 0)) : ∀ r19 : Int × Int → zX, (∀ s : Int × Int, zR K 19 [(0, 69, 0), (1, 0, s.1), (2, 0, s.2)] [] (r19 s)) → ∀ s : Int × Int, zR K 19 [(0, 69, 0), (1, 0, s.1), (2, 0, s.2)] [] (fX67_isNumber_B19 r19 s) := by
  intro r19 hr19 s
  obtain ⟨x1, x2⟩ := s
  unfold fX67_isNumber_B19
  refine r_iload_n E dX67_isNumber_19 rfl 2 rfl ?_
  refine r_aload_n E dX67_isNumber_20 rfl 0 rfl ?_
  refine r_get E zc_69 zt_6889 dX67_isNumber_21 q3304 zr_69 (zg_6889 _) (by decide) (fun v3 => ?_)
  refine r_icmp_ge E 55 (by decide) dX67_isNumber_24 (fun _ => ?_) (fun _ => ?_)
  · refine r_iload_n E dX67_isNumber_55 rfl 1 rfl ?_
    exact r_zreturnb E rfl hT dX67_isNumber_56
  · refine r_iload_n E dX67_isNumber_27 rfl 1 rfl ?_
    refine r_if_eq E 47 (by decide) dX67_isNumber_28 (fun _ => ?_) (fun _ => ?_)
    · refine r_pick E [0, 2] rfl ?_
      exact w_fX67_isNumber_J47 E hN hT x2 hr19
    · refine r_aload_n E dX67_isNumber_31 rfl 0 rfl ?_
      refine r_gec (y := 0) E zc_69 dX67_isNumber_32 q3283 zr_69 (zh_6868 (by decide)) (by decide) ?_
      refine r_iload_n E dX67_isNumber_35 rfl 2 rfl ?_
      refine r_iaload E zc_6868 za_6868 zt_6868 zx_6868 rfl rfl dX67_isNumber_36 (by decide) (fun v5 => ?_)
      refine r_callS E [(0, v5)] [] rfl q4150 q4151 q294 q4152 dX67_isNumber_37 zy_X67_isDigit rfl (by omega) (by decide) (Nat.le_of_ble_eq_true rfl) (fun l G => k_fX67_isDigit l G v5) (fun v6 => ?_)
      refine r_if_eq E 47 (by decide) dX67_isNumber_40 (fun _ => ?_) (fun _ => ?_)
      · refine r_pick E [0, 2] rfl ?_
        exact w_fX67_isNumber_J47 E hN hT x2 hr19
      · refine r_iconst E dX67_isNumber_43 (zkI (by decide) (by decide)) ?_
        refine r_goto E 48 (by decide) dX67_isNumber_44 ?_
        refine r_pick E [0, 2] rfl ?_
        exact w_fX67_isNumber_J48 E hN hT x2 1 hr19
theorem w_fX67_isNumber_J13 {K : zK} (E : zE K cX67_isNumber "RingHouseModel" (some .boolean) 2) (hN : zNl K = 3) (hT : zTr K = (some 0)) (s0 : Int) : zR K 13 [(0, 69, 0)] [(0, s0)] (fX67_isNumber_J13 s0) := by
  refine r_istore_n (ls' := [(1, 0, s0), (0, 69, 0)]) E dX67_isNumber_13 rfl (by rw [hN]; decide) rfl ?_
  refine r_aload_n E dX67_isNumber_14 rfl 1 rfl ?_
  refine r_get E zc_69 zt_6888 dX67_isNumber_15 q3303 zr_69 (zg_6888 _) (by decide) (fun v2 => ?_)
  refine r_istore_n (ls' := [(2, 0, v2), (1, 0, s0), (0, 69, 0)]) E dX67_isNumber_18 rfl (by rw [hN]; decide) rfl ?_
  refine r_pick E [2, 1, 0] rfl ?_
  exact r_loop (L := fun s => [(0, 69, 0), (1, 0, s.1), (2, 0, s.2)]) (w_fX67_isNumber_B19 E hN hT) zBIG (s0, v2)
theorem w_fX67_isNumber {K : zK} (E : zE K cX67_isNumber "RingHouseModel" (some .boolean) 2) (hN : zNl K = 3) (hT : zTr K = (some 0)) : zR K 0 [(0, 69, 0)] [] (fX67_isNumber) := by
  refine r_aload_n E dX67_isNumber_0 rfl 0 rfl ?_
  refine r_get E zc_69 zt_6887 dX67_isNumber_1 q3302 zr_69 (zg_6887 _) (by decide) (fun v1 => ?_)
  refine r_iconst E dX67_isNumber_4 (zkI (by decide) (by decide)) ?_
  refine r_icmp_ne E 12 (by decide) dX67_isNumber_5 (fun _ => ?_) (fun _ => ?_)
  · refine r_iconst E dX67_isNumber_12 (zkI (by decide) (by decide)) ?_
    exact w_fX67_isNumber_J13 E hN hT 0
  · refine r_iconst E dX67_isNumber_8 (zkI (by decide) (by decide)) ?_
    refine r_goto E 13 (by decide) dX67_isNumber_9 ?_
    exact w_fX67_isNumber_J13 E hN hT 1
theorem k_fX67_isNumber (l : Launch) (G : zG) : zCt l G yX67_isNumber cX67_isNumber 3 (some .boolean) 2 [(69, 0)] (some 0) (fX67_isNumber) := zCt.of (by decide) (Nat.le_of_ble_eq_true rfl) (fun K E _ _ hN hT => w_fX67_isNumber E hN hT)
theorem dX67_numeral_0 : decode cX67_numeral 0 = .ok (.aload_n 0, 1) := by decide +kernel
theorem dX67_numeral_1 : decode cX67_numeral 1 = .ok (.getfield 828, 3) := by decide +kernel
theorem dX67_numeral_4 : decode cX67_numeral 4 = .ok (.aload_n 0, 1) := by decide +kernel
theorem dX67_numeral_5 : decode cX67_numeral 5 = .ok (.getfield 831, 3) := by decide +kernel
theorem dX67_numeral_8 : decode cX67_numeral 8 = .ok (.isub, 1) := by decide +kernel
theorem dX67_numeral_9 : decode cX67_numeral 9 = .ok (.bipush 11, 2) := by decide +kernel
theorem dX67_numeral_11 : decode cX67_numeral 11 = .ok (.if_icmp .le 14, 3) := by decide +kernel
theorem dX67_numeral_14 : decode cX67_numeral 14 = .ok (.aload_n 0, 1) := by decide +kernel
theorem dX67_numeral_15 : decode cX67_numeral 15 = .ok (.iconst 3, 1) := by decide +kernel
theorem dX67_numeral_16 : decode cX67_numeral 16 = .ok (.aload_n 0, 1) := by decide +kernel
theorem dX67_numeral_17 : decode cX67_numeral 17 = .ok (.getfield 831, 3) := by decide +kernel
theorem dX67_numeral_20 : decode cX67_numeral 20 = .ok (.invokevirtual 854, 3) := by decide +kernel
theorem dX67_numeral_23 : decode cX67_numeral 23 = .ok (.lconst 0, 1) := by decide +kernel
theorem dX67_numeral_24 : decode cX67_numeral 24 = .ok (.lreturn, 1) := by decide +kernel
theorem dX67_numeral_25 : decode cX67_numeral 25 = .ok (.lconst 0, 1) := by decide +kernel
theorem dX67_numeral_26 : decode cX67_numeral 26 = .ok (.lstore_n 1, 1) := by decide +kernel
theorem dX67_numeral_27 : decode cX67_numeral 27 = .ok (.aload_n 0, 1) := by decide +kernel
theorem dX67_numeral_28 : decode cX67_numeral 28 = .ok (.getfield 831, 3) := by decide +kernel
theorem dX67_numeral_31 : decode cX67_numeral 31 = .ok (.istore_n 3, 1) := by decide +kernel
theorem dX67_numeral_32 : decode cX67_numeral 32 = .ok (.iload_n 3, 1) := by decide +kernel
theorem dX67_numeral_33 : decode cX67_numeral 33 = .ok (.aload_n 0, 1) := by decide +kernel
theorem dX67_numeral_34 : decode cX67_numeral 34 = .ok (.getfield 828, 3) := by decide +kernel
theorem dX67_numeral_37 : decode cX67_numeral 37 = .ok (.if_icmp .ge 27, 3) := by decide +kernel
theorem dX67_numeral_40 : decode cX67_numeral 40 = .ok (.ldc2_w 704, 3) := by decide +kernel
theorem dX67_numeral_43 : decode cX67_numeral 43 = .ok (.lload_n 1, 1) := by decide +kernel
theorem dX67_numeral_44 : decode cX67_numeral 44 = .ok (.lmul, 1) := by decide +kernel
theorem dX67_numeral_45 : decode cX67_numeral 45 = .ok (.aload_n 0, 1) := by decide +kernel
theorem dX67_numeral_46 : decode cX67_numeral 46 = .ok (.getfield 206, 3) := by decide +kernel
theorem dX67_numeral_49 : decode cX67_numeral 49 = .ok (.iload_n 3, 1) := by decide +kernel
theorem dX67_numeral_50 : decode cX67_numeral 50 = .ok (.iaload, 1) := by decide +kernel
theorem dX67_numeral_51 : decode cX67_numeral 51 = .ok (.i2l, 1) := by decide +kernel
theorem dX67_numeral_52 : decode cX67_numeral 52 = .ok (.ladd, 1) := by decide +kernel
theorem dX67_numeral_53 : decode cX67_numeral 53 = .ok (.ldc2_w 799, 3) := by decide +kernel
theorem dX67_numeral_56 : decode cX67_numeral 56 = .ok (.lsub, 1) := by decide +kernel
theorem dX67_numeral_57 : decode cX67_numeral 57 = .ok (.lstore_n 1, 1) := by decide +kernel
theorem dX67_numeral_58 : decode cX67_numeral 58 = .ok (.iinc 3 1, 3) := by decide +kernel
theorem dX67_numeral_61 : decode cX67_numeral 61 = .ok (.goto (-29), 3) := by decide +kernel
theorem dX67_numeral_64 : decode cX67_numeral 64 = .ok (.aload_n 0, 1) := by decide +kernel
theorem dX67_numeral_65 : decode cX67_numeral 65 = .ok (.invokevirtual 846, 3) := by decide +kernel
theorem dX67_numeral_68 : decode cX67_numeral 68 = .ok (.lload_n 1, 1) := by decide +kernel
theorem dX67_numeral_69 : decode cX67_numeral 69 = .ok (.lreturn, 1) := by decide +kernel
theorem zy_X67_numeral : yX67_numeral.cls ≠ "java/lang/invoke/MethodHandle" ∧ yX67_numeral.cls ≠ "java/lang/invoke/VarHandle" ∧ (parseMethodDescriptor yX67_numeral.desc).map (fun d => d.parameters.length) = some 0 := by decide +kernel
theorem w_fX67_numeral_J64 {K : zK} (E : zE K cX67_numeral "RingHouseModel" (some .long) 4) (hN : zNl K = 4) (hT : zTr K = (some 1)) (x1 : Int) : zR K 64 [(0, 69, 0), (1, 1, x1)] [] (fX67_numeral_J64 x1) := by
  refine r_aload_n E dX67_numeral_64 rfl 0 rfl ?_
  refine r_callV E [] [] rfl zc_69 zr_69 (fun o _ => ⟨_, zw_X67.1 o, rfl⟩) (lw_V q4138 q4140 qs175 q294 q4141) dX67_numeral_65 zy_X67_next rfl (by omega) (by decide) (Nat.le_of_ble_eq_true rfl) (by decide) (fun l G => k_fX67_next l G) (fun _ => ?_)
  refine r_lload_n E dX67_numeral_68 rfl 1 rfl ?_
  exact r_lreturn E rfl hT dX67_numeral_69
theorem w_fX67_numeral_B32 {K : zK} (E : zE K cX67_numeral "RingHouseModel" (some .long) 4) (hN : zNl K = 4) (hT : zTr K = (some 1)) : ∀ r32 : Int × Int → zX, (∀ s : Int × Int, zR K 32 [(0, 69, 0), (1, 1, s.1), (3, 0, s.2)] [] (r32 s)) → ∀ s : Int × Int, zR K 32 [(0, 69, 0), (1, 1, s.1), (3, 0, s.2)] [] (fX67_numeral_B32 r32 s) := by
  intro r32 hr32 s
  obtain ⟨x1, x3⟩ := s
  unfold fX67_numeral_B32
  refine r_iload_n E dX67_numeral_32 rfl 2 rfl ?_
  refine r_aload_n E dX67_numeral_33 rfl 0 rfl ?_
  refine r_get E zc_69 zt_6889 dX67_numeral_34 q3304 zr_69 (zg_6889 _) (by decide) (fun v4 => ?_)
  refine r_icmp_ge E 64 (by decide) dX67_numeral_37 (fun _ => ?_) (fun _ => ?_)
  · refine r_pick E [0, 1] rfl ?_
    exact w_fX67_numeral_J64 E hN hT x1
  · refine r_ldc2 (v := 10) E dX67_numeral_40 q3940 (by decide) (zkJ (by decide) (by decide)) ?_
    refine r_lload_n E dX67_numeral_43 rfl 1 rfl ?_
    refine r_lmul E dX67_numeral_44 ?_
    refine r_aload_n E dX67_numeral_45 rfl 0 rfl ?_
    refine r_gec (y := 0) E zc_69 dX67_numeral_46 q3283 zr_69 (zh_6868 (by decide)) (by decide) ?_
    refine r_iload_n E dX67_numeral_49 rfl 2 rfl ?_
    refine r_iaload E zc_6868 za_6868 zt_6868 zx_6868 rfl rfl dX67_numeral_50 (by decide) (fun v6 => ?_)
    refine r_i2l E dX67_numeral_51 ?_
    refine r_ladd E dX67_numeral_52 ?_
    refine r_ldc2 (v := 48) E dX67_numeral_53 q4153 (by decide) (zkJ (by decide) (by decide)) ?_
    refine r_lsub E dX67_numeral_56 ?_
    refine r_let E (fun v7 ev7 => ?_)
    refine r_lstore_n (ls' := [(1, 1, v7), (0, 69, 0), (3, 0, x3)]) E dX67_numeral_57 rfl (by rw [hN]; decide) rfl ?_
    refine r_iinc (ls' := fun v8 => [(3, 0, v8), (1, 1, v7), (0, 69, 0)]) E 2 rfl (by rw [hN]; decide) (fun _ => rfl) dX67_numeral_58 (fun v8 _ => ?_)
    refine r_goto E 32 (by decide) dX67_numeral_61 ?_
    refine r_pick E [2, 1, 0] rfl ?_
    exact hr32 (v7, v8)
theorem w_fX67_numeral {K : zK} (E : zE K cX67_numeral "RingHouseModel" (some .long) 4) (hN : zNl K = 4) (hT : zTr K = (some 1)) : zR K 0 [(0, 69, 0)] [] (fX67_numeral) := by
  refine r_aload_n E dX67_numeral_0 rfl 0 rfl ?_
  refine r_get E zc_69 zt_6889 dX67_numeral_1 q3304 zr_69 (zg_6889 _) (by decide) (fun v1 => ?_)
  refine r_aload_n E dX67_numeral_4 rfl 0 rfl ?_
  refine r_get E zc_69 zt_6888 dX67_numeral_5 q3303 zr_69 (zg_6888 _) (by decide) (fun v2 => ?_)
  refine r_isub E dX67_numeral_8 ?_
  refine r_bipush E dX67_numeral_9 (by decide) (zkI (by decide) (by decide)) ?_
  refine r_icmp_le E 25 (by decide) dX67_numeral_11 (fun _ => ?_) (fun _ => ?_)
  · refine r_lconst (v := 0) E dX67_numeral_25 (by decide) (zkJ (by decide) (by decide)) ?_
    refine r_lstore_n (ls' := [(1, 1, 0), (0, 69, 0)]) E dX67_numeral_26 rfl (by rw [hN]; decide) rfl ?_
    refine r_aload_n E dX67_numeral_27 rfl 1 rfl ?_
    refine r_get E zc_69 zt_6888 dX67_numeral_28 q3303 zr_69 (zg_6888 _) (by decide) (fun v3 => ?_)
    refine r_istore_n (ls' := [(3, 0, v3), (1, 1, 0), (0, 69, 0)]) E dX67_numeral_31 rfl (by rw [hN]; decide) rfl ?_
    refine r_pick E [2, 1, 0] rfl ?_
    exact r_loop (L := fun s => [(0, 69, 0), (1, 1, s.1), (3, 0, s.2)]) (w_fX67_numeral_B32 E hN hT) zBIG (0, v3)
  · refine r_aload_n E dX67_numeral_14 rfl 0 rfl ?_
    refine r_iconst E dX67_numeral_15 (zkI (by decide) (by decide)) ?_
    refine r_aload_n E dX67_numeral_16 rfl 0 rfl ?_
    refine r_get E zc_69 zt_6888 dX67_numeral_17 q3303 zr_69 (zg_6888 _) (by decide) (fun v9 => ?_)
    refine r_callV E [(0, 3), (0, v9)] [] rfl zc_69 zr_69 (fun o _ => ⟨_, zw_X67.1 o, rfl⟩) (lw_V q4163 q4165 qs178 q294 q4166) dX67_numeral_20 zy_X67_wrong rfl (by omega) (by decide) (Nat.le_of_ble_eq_true rfl) (by decide) (fun l G => k_fX67_wrong l G 3 v9) (fun _ => ?_)
    refine r_lconst (v := 0) E dX67_numeral_23 (by decide) (zkJ (by decide) (by decide)) ?_
    exact r_lreturn E rfl hT dX67_numeral_24
theorem k_fX67_numeral (l : Launch) (G : zG) : zCt l G yX67_numeral cX67_numeral 4 (some .long) 4 [(69, 0)] (some 1) (fX67_numeral) := zCt.of (by decide) (Nat.le_of_ble_eq_true rfl) (fun K E _ _ hN hT => w_fX67_numeral E hN hT)
theorem dX67_bounded_0 : decode cX67_bounded 0 = .ok (.aload_n 0, 1) := by decide +kernel
theorem dX67_bounded_1 : decode cX67_bounded 1 = .ok (.getfield 831, 3) := by decide +kernel
theorem dX67_bounded_4 : decode cX67_bounded 4 = .ok (.istore_n 3, 1) := by decide +kernel
theorem dX67_bounded_5 : decode cX67_bounded 5 = .ok (.aload_n 0, 1) := by decide +kernel
theorem dX67_bounded_6 : decode cX67_bounded 6 = .ok (.getfield 837, 3) := by decide +kernel
theorem dX67_bounded_9 : decode cX67_bounded 9 = .ok (.iconst 1, 1) := by decide +kernel
theorem dX67_bounded_10 : decode cX67_bounded 10 = .ok (.if_icmp .ne 10, 3) := by decide +kernel
theorem dX67_bounded_13 : decode cX67_bounded 13 = .ok (.aload_n 0, 1) := by decide +kernel
theorem dX67_bounded_14 : decode cX67_bounded 14 = .ok (.invokevirtual 893, 3) := by decide +kernel
theorem dX67_bounded_17 : decode cX67_bounded 17 = .ok (.ifCond .ne 14, 3) := by decide +kernel
theorem dX67_bounded_20 : decode cX67_bounded 20 = .ok (.aload_n 0, 1) := by decide +kernel
theorem dX67_bounded_21 : decode cX67_bounded 21 = .ok (.iconst 1, 1) := by decide +kernel
theorem dX67_bounded_22 : decode cX67_bounded 22 = .ok (.aload_n 0, 1) := by decide +kernel
theorem dX67_bounded_23 : decode cX67_bounded 23 = .ok (.getfield 831, 3) := by decide +kernel
theorem dX67_bounded_26 : decode cX67_bounded 26 = .ok (.invokevirtual 854, 3) := by decide +kernel
theorem dX67_bounded_29 : decode cX67_bounded 29 = .ok (.lconst 0, 1) := by decide +kernel
theorem dX67_bounded_30 : decode cX67_bounded 30 = .ok (.lreturn, 1) := by decide +kernel
theorem dX67_bounded_31 : decode cX67_bounded 31 = .ok (.aload_n 0, 1) := by decide +kernel
theorem dX67_bounded_32 : decode cX67_bounded 32 = .ok (.invokevirtual 896, 3) := by decide +kernel
theorem dX67_bounded_35 : decode cX67_bounded 35 = .ok (.lstore 4, 2) := by decide +kernel
theorem dX67_bounded_37 : decode cX67_bounded 37 = .ok (.aload_n 0, 1) := by decide +kernel
theorem dX67_bounded_38 : decode cX67_bounded 38 = .ok (.getfield 813, 3) := by decide +kernel
theorem dX67_bounded_41 : decode cX67_bounded 41 = .ok (.ifCond .ne 16, 3) := by decide +kernel
theorem dX67_bounded_44 : decode cX67_bounded 44 = .ok (.lload 4, 2) := by decide +kernel
theorem dX67_bounded_46 : decode cX67_bounded 46 = .ok (.lload_n 1, 1) := by decide +kernel
theorem dX67_bounded_47 : decode cX67_bounded 47 = .ok (.lcmp, 1) := by decide +kernel
theorem dX67_bounded_48 : decode cX67_bounded 48 = .ok (.ifCond .le 9, 3) := by decide +kernel
theorem dX67_bounded_51 : decode cX67_bounded 51 = .ok (.aload_n 0, 1) := by decide +kernel
theorem dX67_bounded_52 : decode cX67_bounded 52 = .ok (.iconst 3, 1) := by decide +kernel
theorem dX67_bounded_53 : decode cX67_bounded 53 = .ok (.iload_n 3, 1) := by decide +kernel
theorem dX67_bounded_54 : decode cX67_bounded 54 = .ok (.invokevirtual 854, 3) := by decide +kernel
theorem dX67_bounded_57 : decode cX67_bounded 57 = .ok (.lload 4, 2) := by decide +kernel
theorem dX67_bounded_59 : decode cX67_bounded 59 = .ok (.lreturn, 1) := by decide +kernel
theorem zy_X67_bounded : yX67_bounded.cls ≠ "java/lang/invoke/MethodHandle" ∧ yX67_bounded.cls ≠ "java/lang/invoke/VarHandle" ∧ (parseMethodDescriptor yX67_bounded.desc).map (fun d => d.parameters.length) = some 1 := by decide +kernel
theorem w_fX67_bounded_J20 {K : zK} (E : zE K cX67_bounded "RingHouseModel" (some .long) 5) (hN : zNl K = 6) (hT : zTr K = (some 1)) : zR K 20 [(0, 69, 0)] [] (fX67_bounded_J20) := by
  refine r_aload_n E dX67_bounded_20 rfl 0 rfl ?_
  refine r_iconst E dX67_bounded_21 (zkI (by decide) (by decide)) ?_
  refine r_aload_n E dX67_bounded_22 rfl 0 rfl ?_
  refine r_get E zc_69 zt_6888 dX67_bounded_23 q3303 zr_69 (zg_6888 _) (by decide) (fun v3 => ?_)
  refine r_callV E [(0, 1), (0, v3)] [] rfl zc_69 zr_69 (fun o _ => ⟨_, zw_X67.1 o, rfl⟩) (lw_V q4163 q4165 qs178 q294 q4166) dX67_bounded_26 zy_X67_wrong rfl (by omega) (by decide) (Nat.le_of_ble_eq_true rfl) (by decide) (fun l G => k_fX67_wrong l G 1 v3) (fun _ => ?_)
  refine r_lconst (v := 0) E dX67_bounded_29 (by decide) (zkJ (by decide) (by decide)) ?_
  exact r_lreturn E rfl hT dX67_bounded_30
theorem w_fX67_bounded {K : zK} (E : zE K cX67_bounded "RingHouseModel" (some .long) 5) (hN : zNl K = 6) (hT : zTr K = (some 1)) (x1 : Int) : zR K 0 [(0, 69, 0), (1, 1, x1)] [] (fX67_bounded x1) := by
  refine r_aload_n E dX67_bounded_0 rfl 0 rfl ?_
  refine r_get E zc_69 zt_6888 dX67_bounded_1 q3303 zr_69 (zg_6888 _) (by decide) (fun v1 => ?_)
  refine r_istore_n (ls' := [(3, 0, v1), (0, 69, 0), (1, 1, x1)]) E dX67_bounded_4 rfl (by rw [hN]; decide) rfl ?_
  refine r_aload_n E dX67_bounded_5 rfl 1 rfl ?_
  refine r_get E zc_69 zt_6887 dX67_bounded_6 q3302 zr_69 (zg_6887 _) (by decide) (fun v2 => ?_)
  refine r_iconst E dX67_bounded_9 (zkI (by decide) (by decide)) ?_
  refine r_icmp_ne E 20 (by decide) dX67_bounded_10 (fun _ => ?_) (fun _ => ?_)
  · refine r_pick E [1] rfl ?_
    exact w_fX67_bounded_J20 E hN hT
  · refine r_aload_n E dX67_bounded_13 rfl 1 rfl ?_
    refine r_callV E [] [] rfl zc_69 zr_69 (fun o _ => ⟨_, zw_X67.1 o, rfl⟩) (lw_V q4227 q4229 qs191 q294 q4230) dX67_bounded_14 zy_X67_isNumber rfl (by omega) (by decide) (Nat.le_of_ble_eq_true rfl) (by decide) (fun l G => k_fX67_isNumber l G) (fun v5 => ?_)
    refine r_if_ne E 31 (by decide) dX67_bounded_17 (fun _ => ?_) (fun _ => ?_)
    · refine r_aload_n E dX67_bounded_31 rfl 1 rfl ?_
      refine r_callV E [] [] rfl zc_69 zr_69 (fun o _ => ⟨_, zw_X67.1 o, rfl⟩) (lw_V q4231 q4233 qs192 q294 q4234) dX67_bounded_32 zy_X67_numeral rfl (by omega) (by decide) (Nat.le_of_ble_eq_true rfl) (by decide) (fun l G => k_fX67_numeral l G) (fun v6 => ?_)
      refine r_lstore (ls' := [(4, 1, v6), (3, 0, v1), (0, 69, 0), (1, 1, x1)]) E dX67_bounded_35 (by rw [hN]; decide) rfl ?_
      refine r_aload_n E dX67_bounded_37 rfl 2 rfl ?_
      refine r_get E zc_69 zt_6891 dX67_bounded_38 q3306 zr_69 (zg_6891 _) (by decide) (fun v7 => ?_)
      refine r_if_ne E 57 (by decide) dX67_bounded_41 (fun _ => ?_) (fun _ => ?_)
      · refine r_lload E dX67_bounded_57 0 rfl ?_
        exact r_lreturn E rfl hT dX67_bounded_59
      · refine r_lload E dX67_bounded_44 0 rfl ?_
        refine r_lload_n E dX67_bounded_46 rfl 3 rfl ?_
        refine r_lcmp_le E 57 (by decide) dX67_bounded_47 dX67_bounded_48 (fun _ => ?_) (fun _ => ?_)
        · refine r_lload E dX67_bounded_57 0 rfl ?_
          exact r_lreturn E rfl hT dX67_bounded_59
        · refine r_aload_n E dX67_bounded_51 rfl 2 rfl ?_
          refine r_iconst E dX67_bounded_52 (zkI (by decide) (by decide)) ?_
          refine r_iload_n E dX67_bounded_53 rfl 1 rfl ?_
          refine r_callV E [(0, 3), (0, v1)] [] rfl zc_69 zr_69 (fun o _ => ⟨_, zw_X67.1 o, rfl⟩) (lw_V q4163 q4165 qs178 q294 q4166) dX67_bounded_54 zy_X67_wrong rfl (by omega) (by decide) (Nat.le_of_ble_eq_true rfl) (by decide) (fun l G => k_fX67_wrong l G 3 v1) (fun _ => ?_)
          refine r_lload E dX67_bounded_57 0 rfl ?_
          exact r_lreturn E rfl hT dX67_bounded_59
    · refine r_pick E [1] rfl ?_
      exact w_fX67_bounded_J20 E hN hT
theorem k_fX67_bounded (l : Launch) (G : zG) (x1 : Int) : zCt l G yX67_bounded cX67_bounded 6 (some .long) 5 [(69, 0), (1, x1)] (some 1) (fX67_bounded x1) := zCt.of (by decide) (Nat.le_of_ble_eq_true rfl) (fun K E _ _ hN hT => w_fX67_bounded E hN hT x1)
theorem dX67_emit_0 : decode cX67_emit 0 = .ok (.aload_n 0, 1) := by decide +kernel
theorem dX67_emit_1 : decode cX67_emit 1 = .ok (.getfield 882, 3) := by decide +kernel
theorem dX67_emit_4 : decode cX67_emit 4 = .ok (.ifCond .eq 23, 3) := by decide +kernel
theorem dX67_emit_7 : decode cX67_emit 7 = .ok (.aload_n 0, 1) := by decide +kernel
theorem dX67_emit_8 : decode cX67_emit 8 = .ok (.getfield 918, 3) := by decide +kernel
theorem dX67_emit_11 : decode cX67_emit 11 = .ok (.sipush 1024, 3) := by decide +kernel
theorem dX67_emit_14 : decode cX67_emit 14 = .ok (.if_icmp .ge 13, 3) := by decide +kernel
theorem dX67_emit_17 : decode cX67_emit 17 = .ok (.aload_n 0, 1) := by decide +kernel
theorem dX67_emit_18 : decode cX67_emit 18 = .ok (.getfield 238, 3) := by decide +kernel
theorem dX67_emit_21 : decode cX67_emit 21 = .ok (.aload_n 0, 1) := by decide +kernel
theorem dX67_emit_22 : decode cX67_emit 22 = .ok (.getfield 918, 3) := by decide +kernel
theorem dX67_emit_25 : decode cX67_emit 25 = .ok (.lload_n 1, 1) := by decide +kernel
theorem dX67_emit_26 : decode cX67_emit 26 = .ok (.lastore, 1) := by decide +kernel
theorem dX67_emit_27 : decode cX67_emit 27 = .ok (.aload_n 0, 1) := by decide +kernel
theorem dX67_emit_28 : decode cX67_emit 28 = .ok (.dup, 1) := by decide +kernel
theorem dX67_emit_29 : decode cX67_emit 29 = .ok (.getfield 918, 3) := by decide +kernel
theorem dX67_emit_32 : decode cX67_emit 32 = .ok (.iconst 1, 1) := by decide +kernel
theorem dX67_emit_33 : decode cX67_emit 33 = .ok (.iadd, 1) := by decide +kernel
theorem dX67_emit_34 : decode cX67_emit 34 = .ok (.putfield 918, 3) := by decide +kernel
theorem dX67_emit_37 : decode cX67_emit 37 = .ok (.return_, 1) := by decide +kernel
theorem zy_X67_emit : yX67_emit.cls ≠ "java/lang/invoke/MethodHandle" ∧ yX67_emit.cls ≠ "java/lang/invoke/VarHandle" ∧ (parseMethodDescriptor yX67_emit.desc).map (fun d => d.parameters.length) = some 1 := by decide +kernel
theorem w_fX67_emit_J27 {K : zK} (E : zE K cX67_emit "RingHouseModel" none 0) (hN : zNl K = 3) (hT : zTr K = none) : zR K 27 [(0, 69, 0)] [] (fX67_emit_J27) := by
  refine r_aload_n E dX67_emit_27 rfl 0 rfl ?_
  refine r_dup E (zn1 rfl) dX67_emit_28 ?_
  refine r_get E zc_69 zt_6902 dX67_emit_29 q3317 zr_69 (zg_6902 _) (by decide) (fun v2 => ?_)
  refine r_iconst E dX67_emit_32 (zkI (by decide) (by decide)) ?_
  refine r_iadd E dX67_emit_33 ?_
  refine r_put E zc_69 zt_6902 zo_6902 dX67_emit_34 q3317 zr_69 zw_X67 zp_6902 (fun _ => rfl) (fun _ => rfl) (by decide) ?_
  exact r_return E rfl hT dX67_emit_37
theorem w_fX67_emit {K : zK} (E : zE K cX67_emit "RingHouseModel" none 0) (hN : zNl K = 3) (hT : zTr K = none) (x1 : Int) : zR K 0 [(0, 69, 0), (1, 1, x1)] [] (fX67_emit x1) := by
  refine r_aload_n E dX67_emit_0 rfl 0 rfl ?_
  refine r_get E zc_69 zt_6903 dX67_emit_1 q3318 zr_69 (zg_6903 _) (by decide) (fun v1 => ?_)
  refine r_if_eq E 27 (by decide) dX67_emit_4 (fun _ => ?_) (fun _ => ?_)
  · refine r_pick E [0] rfl ?_
    exact w_fX67_emit_J27 E hN hT
  · refine r_aload_n E dX67_emit_7 rfl 0 rfl ?_
    refine r_get E zc_69 zt_6902 dX67_emit_8 q3317 zr_69 (zg_6902 _) (by decide) (fun v3 => ?_)
    refine r_sipush E dX67_emit_11 (by decide) (zkI (by decide) (by decide)) ?_
    refine r_icmp_ge E 27 (by decide) dX67_emit_14 (fun _ => ?_) (fun _ => ?_)
    · refine r_pick E [0] rfl ?_
      exact w_fX67_emit_J27 E hN hT
    · refine r_aload_n E dX67_emit_17 rfl 0 rfl ?_
      refine r_gec (y := 0) E zc_69 dX67_emit_18 q3321 zr_69 (zh_6907 (by decide)) (by decide) ?_
      refine r_aload_n E dX67_emit_21 rfl 0 rfl ?_
      refine r_get E zc_69 zt_6902 dX67_emit_22 q3317 zr_69 (zg_6902 _) (by decide) (fun v4 => ?_)
      refine r_lload_n E dX67_emit_25 rfl 1 rfl ?_
      refine r_lastore E zc_6907 za_6907 zt_6907 zo_6907 zx_6907 rfl rfl dX67_emit_26 (by decide) ?_
      refine r_pick E [0] rfl ?_
      exact w_fX67_emit_J27 E hN hT
theorem k_fX67_emit (l : Launch) (G : zG) (x1 : Int) : zCt l G yX67_emit cX67_emit 3 none 0 [(69, 0), (1, x1)] none (fX67_emit x1) := zCt.of (by decide) (Nat.le_of_ble_eq_true rfl) (fun K E _ _ hN hT => w_fX67_emit E hN hT x1)
theorem dX67_isSign_0 : decode cX67_isSign 0 = .ok (.aload_n 0, 1) := by decide +kernel
theorem dX67_isSign_1 : decode cX67_isSign 1 = .ok (.getfield 837, 3) := by decide +kernel
theorem dX67_isSign_4 : decode cX67_isSign 4 = .ok (.iconst 2, 1) := by decide +kernel
theorem dX67_isSign_5 : decode cX67_isSign 5 = .ok (.if_icmp .ne 20, 3) := by decide +kernel
theorem dX67_isSign_8 : decode cX67_isSign 8 = .ok (.aload_n 0, 1) := by decide +kernel
theorem dX67_isSign_9 : decode cX67_isSign 9 = .ok (.getfield 206, 3) := by decide +kernel
theorem dX67_isSign_12 : decode cX67_isSign 12 = .ok (.aload_n 0, 1) := by decide +kernel
theorem dX67_isSign_13 : decode cX67_isSign 13 = .ok (.getfield 831, 3) := by decide +kernel
theorem dX67_isSign_16 : decode cX67_isSign 16 = .ok (.iaload, 1) := by decide +kernel
theorem dX67_isSign_17 : decode cX67_isSign 17 = .ok (.iload_n 1, 1) := by decide +kernel
theorem dX67_isSign_18 : decode cX67_isSign 18 = .ok (.if_icmp .ne 7, 3) := by decide +kernel
theorem dX67_isSign_21 : decode cX67_isSign 21 = .ok (.iconst 1, 1) := by decide +kernel
theorem dX67_isSign_22 : decode cX67_isSign 22 = .ok (.goto 4, 3) := by decide +kernel
theorem dX67_isSign_25 : decode cX67_isSign 25 = .ok (.iconst 0, 1) := by decide +kernel
theorem dX67_isSign_26 : decode cX67_isSign 26 = .ok (.ireturn, 1) := by decide +kernel
theorem zy_X67_isSign : yX67_isSign.cls ≠ "java/lang/invoke/MethodHandle" ∧ yX67_isSign.cls ≠ "java/lang/invoke/VarHandle" ∧ (parseMethodDescriptor yX67_isSign.desc).map (fun d => d.parameters.length) = some 1 := by decide +kernel
theorem w_fX67_isSign {K : zK} (E : zE K cX67_isSign "RingHouseModel" (some .boolean) 0) (hN : zNl K = 2) (hT : zTr K = (some 0)) (x1 : Int) : zR K 0 [(0, 69, 0), (1, 0, x1)] [] (fX67_isSign x1) := by
  refine r_aload_n E dX67_isSign_0 rfl 0 rfl ?_
  refine r_get E zc_69 zt_6887 dX67_isSign_1 q3302 zr_69 (zg_6887 _) (by decide) (fun v1 => ?_)
  refine r_iconst E dX67_isSign_4 (zkI (by decide) (by decide)) ?_
  refine r_icmp_ne E 25 (by decide) dX67_isSign_5 (fun _ => ?_) (fun _ => ?_)
  · refine r_iconst E dX67_isSign_25 (zkI (by decide) (by decide)) ?_
    exact r_zreturn E rfl hT (by decide) dX67_isSign_26
  · refine r_aload_n E dX67_isSign_8 rfl 0 rfl ?_
    refine r_gec (y := 0) E zc_69 dX67_isSign_9 q3283 zr_69 (zh_6868 (by decide)) (by decide) ?_
    refine r_aload_n E dX67_isSign_12 rfl 0 rfl ?_
    refine r_get E zc_69 zt_6888 dX67_isSign_13 q3303 zr_69 (zg_6888 _) (by decide) (fun v2 => ?_)
    refine r_iaload E zc_6868 za_6868 zt_6868 zx_6868 rfl rfl dX67_isSign_16 (by decide) (fun v3 => ?_)
    refine r_iload_n E dX67_isSign_17 rfl 1 rfl ?_
    refine r_icmp_ne E 25 (by decide) dX67_isSign_18 (fun _ => ?_) (fun _ => ?_)
    · refine r_iconst E dX67_isSign_25 (zkI (by decide) (by decide)) ?_
      exact r_zreturn E rfl hT (by decide) dX67_isSign_26
    · refine r_iconst E dX67_isSign_21 (zkI (by decide) (by decide)) ?_
      refine r_goto E 26 (by decide) dX67_isSign_22 ?_
      exact r_zreturn E rfl hT (by decide) dX67_isSign_26
theorem k_fX67_isSign (l : Launch) (G : zG) (x1 : Int) : zCt l G yX67_isSign cX67_isSign 2 (some .boolean) 0 [(69, 0), (0, x1)] (some 0) (fX67_isSign x1) := zCt.of (by decide) (Nat.le_of_ble_eq_true rfl) (fun K E _ _ hN hT => w_fX67_isSign E hN hT x1)
theorem dX67_passes_0 : decode cX67_passes 0 = .ok (.aload_n 0, 1) := by decide +kernel
theorem dX67_passes_1 : decode cX67_passes 1 = .ok (.iload_n 1, 1) := by decide +kernel
theorem dX67_passes_2 : decode cX67_passes 2 = .ok (.invokevirtual 843, 3) := by decide +kernel
theorem dX67_passes_5 : decode cX67_passes 5 = .ok (.istore_n 2, 1) := by decide +kernel
theorem dX67_passes_6 : decode cX67_passes 6 = .ok (.iload_n 2, 1) := by decide +kernel
theorem dX67_passes_7 : decode cX67_passes 7 = .ok (.ifCond .eq 7, 3) := by decide +kernel
theorem dX67_passes_10 : decode cX67_passes 10 = .ok (.aload_n 0, 1) := by decide +kernel
theorem dX67_passes_11 : decode cX67_passes 11 = .ok (.invokevirtual 846, 3) := by decide +kernel
theorem dX67_passes_14 : decode cX67_passes 14 = .ok (.iload_n 2, 1) := by decide +kernel
theorem dX67_passes_15 : decode cX67_passes 15 = .ok (.ireturn, 1) := by decide +kernel
theorem zy_X67_passes : yX67_passes.cls ≠ "java/lang/invoke/MethodHandle" ∧ yX67_passes.cls ≠ "java/lang/invoke/VarHandle" ∧ (parseMethodDescriptor yX67_passes.desc).map (fun d => d.parameters.length) = some 1 := by decide +kernel
theorem w_fX67_passes {K : zK} (E : zE K cX67_passes "RingHouseModel" (some .boolean) 4) (hN : zNl K = 3) (hT : zTr K = (some 0)) (x1 : Int) : zR K 0 [(0, 69, 0), (1, 0, x1)] [] (fX67_passes x1) := by
  refine r_aload_n E dX67_passes_0 rfl 0 rfl ?_
  refine r_iload_n E dX67_passes_1 rfl 1 rfl ?_
  refine r_callV E [(0, x1)] [] rfl zc_69 zr_69 (fun o _ => ⟨_, zw_X67.1 o, rfl⟩) (lw_V q4210 q4212 qs187 q294 q4213) dX67_passes_2 zy_X67_isSign rfl (by omega) (by decide) (Nat.le_of_ble_eq_true rfl) (by decide) (fun l G => k_fX67_isSign l G x1) (fun v1 => ?_)
  refine r_istore_n (ls' := [(2, 0, v1), (0, 69, 0), (1, 0, x1)]) E dX67_passes_5 rfl (by rw [hN]; decide) rfl ?_
  refine r_iload_n E dX67_passes_6 rfl 0 rfl ?_
  refine r_if_eq E 14 (by decide) dX67_passes_7 (fun _ => ?_) (fun _ => ?_)
  · refine r_iload_n E dX67_passes_14 rfl 0 rfl ?_
    exact r_zreturnb E rfl hT dX67_passes_15
  · refine r_aload_n E dX67_passes_10 rfl 1 rfl ?_
    refine r_callV E [] [] rfl zc_69 zr_69 (fun o _ => ⟨_, zw_X67.1 o, rfl⟩) (lw_V q4138 q4140 qs175 q294 q4141) dX67_passes_11 zy_X67_next rfl (by omega) (by decide) (Nat.le_of_ble_eq_true rfl) (by decide) (fun l G => k_fX67_next l G) (fun _ => ?_)
    refine r_iload_n E dX67_passes_14 rfl 0 rfl ?_
    exact r_zreturnb E rfl hT dX67_passes_15
theorem k_fX67_passes (l : Launch) (G : zG) (x1 : Int) : zCt l G yX67_passes cX67_passes 3 (some .boolean) 4 [(69, 0), (0, x1)] (some 0) (fX67_passes x1) := zCt.of (by decide) (Nat.le_of_ble_eq_true rfl) (fun K E _ _ hN hT => w_fX67_passes E hN hT x1)
theorem dX67_comma_0 : decode cX67_comma 0 = .ok (.aload_n 0, 1) := by decide +kernel
theorem dX67_comma_1 : decode cX67_comma 1 = .ok (.getfield 813, 3) := by decide +kernel
theorem dX67_comma_4 : decode cX67_comma 4 = .ok (.ifCond .ne 21, 3) := by decide +kernel
theorem dX67_comma_7 : decode cX67_comma 7 = .ok (.aload_n 0, 1) := by decide +kernel
theorem dX67_comma_8 : decode cX67_comma 8 = .ok (.bipush 44, 2) := by decide +kernel
theorem dX67_comma_10 : decode cX67_comma 10 = .ok (.invokevirtual 906, 3) := by decide +kernel
theorem dX67_comma_13 : decode cX67_comma 13 = .ok (.ifCond .ne 12, 3) := by decide +kernel
theorem dX67_comma_16 : decode cX67_comma 16 = .ok (.aload_n 0, 1) := by decide +kernel
theorem dX67_comma_17 : decode cX67_comma 17 = .ok (.iconst 1, 1) := by decide +kernel
theorem dX67_comma_18 : decode cX67_comma 18 = .ok (.aload_n 0, 1) := by decide +kernel
theorem dX67_comma_19 : decode cX67_comma 19 = .ok (.getfield 831, 3) := by decide +kernel
theorem dX67_comma_22 : decode cX67_comma 22 = .ok (.invokevirtual 854, 3) := by decide +kernel
theorem dX67_comma_25 : decode cX67_comma 25 = .ok (.return_, 1) := by decide +kernel
theorem zy_X67_comma : yX67_comma.cls ≠ "java/lang/invoke/MethodHandle" ∧ yX67_comma.cls ≠ "java/lang/invoke/VarHandle" ∧ (parseMethodDescriptor yX67_comma.desc).map (fun d => d.parameters.length) = some 0 := by decide +kernel
theorem w_fX67_comma {K : zK} (E : zE K cX67_comma "RingHouseModel" none 5) (hN : zNl K = 1) (hT : zTr K = none) : zR K 0 [(0, 69, 0)] [] (fX67_comma) := by
  refine r_aload_n E dX67_comma_0 rfl 0 rfl ?_
  refine r_get E zc_69 zt_6891 dX67_comma_1 q3306 zr_69 (zg_6891 _) (by decide) (fun v1 => ?_)
  refine r_if_ne E 25 (by decide) dX67_comma_4 (fun _ => ?_) (fun _ => ?_)
  · exact r_return E rfl hT dX67_comma_25
  · refine r_aload_n E dX67_comma_7 rfl 0 rfl ?_
    refine r_bipush E dX67_comma_8 (by decide) (zkI (by decide) (by decide)) ?_
    refine r_callV E [(0, 44)] [] rfl zc_69 zr_69 (fun o _ => ⟨_, zw_X67.1 o, rfl⟩) (lw_V q4206 q4208 qs186 q294 q4209) dX67_comma_10 zy_X67_passes rfl (by omega) (by decide) (Nat.le_of_ble_eq_true rfl) (by decide) (fun l G => k_fX67_passes l G 44) (fun v2 => ?_)
    refine r_if_ne E 25 (by decide) dX67_comma_13 (fun _ => ?_) (fun _ => ?_)
    · exact r_return E rfl hT dX67_comma_25
    · refine r_aload_n E dX67_comma_16 rfl 0 rfl ?_
      refine r_iconst E dX67_comma_17 (zkI (by decide) (by decide)) ?_
      refine r_aload_n E dX67_comma_18 rfl 0 rfl ?_
      refine r_get E zc_69 zt_6888 dX67_comma_19 q3303 zr_69 (zg_6888 _) (by decide) (fun v3 => ?_)
      refine r_callV E [(0, 1), (0, v3)] [] rfl zc_69 zr_69 (fun o _ => ⟨_, zw_X67.1 o, rfl⟩) (lw_V q4163 q4165 qs178 q294 q4166) dX67_comma_22 zy_X67_wrong rfl (by omega) (by decide) (Nat.le_of_ble_eq_true rfl) (by decide) (fun l G => k_fX67_wrong l G 1 v3) (fun _ => ?_)
      exact r_return E rfl hT dX67_comma_25
theorem k_fX67_comma (l : Launch) (G : zG) : zCt l G yX67_comma cX67_comma 1 none 5 [(69, 0)] none (fX67_comma) := zCt.of (by decide) (Nat.le_of_ble_eq_true rfl) (fun K E _ _ hN hT => w_fX67_comma E hN hT)
theorem dX67_term_0 : decode cX67_term 0 = .ok (.aload_n 0, 1) := by decide +kernel
theorem dX67_term_1 : decode cX67_term 1 = .ok (.getfield 837, 3) := by decide +kernel
theorem dX67_term_4 : decode cX67_term 4 = .ok (.iconst 1, 1) := by decide +kernel
theorem dX67_term_5 : decode cX67_term 5 = .ok (.if_icmp .ne 15, 3) := by decide +kernel
theorem dX67_term_8 : decode cX67_term 8 = .ok (.aload_n 0, 1) := by decide +kernel
theorem dX67_term_9 : decode cX67_term 9 = .ok (.invokevirtual 893, 3) := by decide +kernel
theorem dX67_term_12 : decode cX67_term 12 = .ok (.ifCond .eq 8, 3) := by decide +kernel
theorem dX67_term_15 : decode cX67_term 15 = .ok (.aload_n 0, 1) := by decide +kernel
theorem dX67_term_16 : decode cX67_term 16 = .ok (.invokevirtual 896, 3) := by decide +kernel
theorem dX67_term_19 : decode cX67_term 19 = .ok (.lreturn, 1) := by decide +kernel
theorem dX67_term_20 : decode cX67_term 20 = .ok (.aload_n 0, 1) := by decide +kernel
theorem dX67_term_21 : decode cX67_term 21 = .ok (.getfield 831, 3) := by decide +kernel
theorem dX67_term_24 : decode cX67_term 24 = .ok (.istore_n 1, 1) := by decide +kernel
theorem dX67_term_25 : decode cX67_term 25 = .ok (.aload_n 0, 1) := by decide +kernel
theorem dX67_term_26 : decode cX67_term 26 = .ok (.invokevirtual 899, 3) := by decide +kernel
theorem dX67_term_29 : decode cX67_term 29 = .ok (.lstore_n 2, 1) := by decide +kernel
theorem dX67_term_30 : decode cX67_term 30 = .ok (.aload_n 0, 1) := by decide +kernel
theorem dX67_term_31 : decode cX67_term 31 = .ok (.getfield 813, 3) := by decide +kernel
theorem dX67_term_34 : decode cX67_term 34 = .ok (.ifCond .le 7, 3) := by decide +kernel
theorem dX67_term_37 : decode cX67_term 37 = .ok (.lconst 0, 1) := by decide +kernel
theorem dX67_term_38 : decode cX67_term 38 = .ok (.goto 10, 3) := by decide +kernel
theorem dX67_term_41 : decode cX67_term 41 = .ok (.aload_n 0, 1) := by decide +kernel
theorem dX67_term_42 : decode cX67_term 42 = .ok (.lload_n 2, 1) := by decide +kernel
theorem dX67_term_43 : decode cX67_term 43 = .ok (.iload_n 1, 1) := by decide +kernel
theorem dX67_term_44 : decode cX67_term 44 = .ok (.invokevirtual 902, 3) := by decide +kernel
theorem dX67_term_47 : decode cX67_term 47 = .ok (.i2l, 1) := by decide +kernel
theorem dX67_term_48 : decode cX67_term 48 = .ok (.lreturn, 1) := by decide +kernel
theorem zy_X67_term : yX67_term.cls ≠ "java/lang/invoke/MethodHandle" ∧ yX67_term.cls ≠ "java/lang/invoke/VarHandle" ∧ (parseMethodDescriptor yX67_term.desc).map (fun d => d.parameters.length) = some 0 := by decide +kernel
theorem w_fX67_term_J20 {K : zK} (E : zE K cX67_term "RingHouseModel" (some .long) 5) (hN : zNl K = 4) (hT : zTr K = (some 1)) : zR K 20 [(0, 69, 0)] [] (fX67_term_J20) := by
  refine r_aload_n E dX67_term_20 rfl 0 rfl ?_
  refine r_get E zc_69 zt_6888 dX67_term_21 q3303 zr_69 (zg_6888 _) (by decide) (fun v2 => ?_)
  refine r_istore_n (ls' := [(1, 0, v2), (0, 69, 0)]) E dX67_term_24 rfl (by rw [hN]; decide) rfl ?_
  refine r_aload_n E dX67_term_25 rfl 1 rfl ?_
  refine r_callV E [] [] rfl zc_69 zr_69 (fun o _ => ⟨_, zw_X67.1 o, rfl⟩) (lw_V q4159 q4161 qs177 q294 q4162) dX67_term_26 zy_X67_labelWord rfl (by omega) (by decide) (Nat.le_of_ble_eq_true rfl) (by decide) (fun l G => k_fX67_labelWord l G) (fun v3 => ?_)
  refine r_lstore_n (ls' := [(2, 1, v3), (1, 0, v2), (0, 69, 0)]) E dX67_term_29 rfl (by rw [hN]; decide) rfl ?_
  refine r_aload_n E dX67_term_30 rfl 2 rfl ?_
  refine r_get E zc_69 zt_6891 dX67_term_31 q3306 zr_69 (zg_6891 _) (by decide) (fun v4 => ?_)
  refine r_if_le E 41 (by decide) dX67_term_34 (fun _ => ?_) (fun _ => ?_)
  · refine r_aload_n E dX67_term_41 rfl 2 rfl ?_
    refine r_lload_n E dX67_term_42 rfl 0 rfl ?_
    refine r_iload_n E dX67_term_43 rfl 1 rfl ?_
    refine r_callV E [(1, v3), (0, v2)] [] rfl zc_69 zr_69 (fun o _ => ⟨_, zw_X67.1 o, rfl⟩) (lw_V q4235 q4237 qs193 q294 q4238) dX67_term_44 zy_X67_labelAt rfl (by omega) (by decide) (Nat.le_of_ble_eq_true rfl) (by decide) (fun l G => k_fX67_labelAt l G v3 v2) (fun v5 => ?_)
    refine r_i2l E dX67_term_47 ?_
    exact r_lreturn E rfl hT dX67_term_48
  · refine r_lconst (v := 0) E dX67_term_37 (by decide) (zkJ (by decide) (by decide)) ?_
    refine r_goto E 48 (by decide) dX67_term_38 ?_
    exact r_lreturn E rfl hT dX67_term_48
theorem w_fX67_term {K : zK} (E : zE K cX67_term "RingHouseModel" (some .long) 5) (hN : zNl K = 4) (hT : zTr K = (some 1)) : zR K 0 [(0, 69, 0)] [] (fX67_term) := by
  refine r_aload_n E dX67_term_0 rfl 0 rfl ?_
  refine r_get E zc_69 zt_6887 dX67_term_1 q3302 zr_69 (zg_6887 _) (by decide) (fun v1 => ?_)
  refine r_iconst E dX67_term_4 (zkI (by decide) (by decide)) ?_
  refine r_icmp_ne E 20 (by decide) dX67_term_5 (fun _ => ?_) (fun _ => ?_)
  · exact w_fX67_term_J20 E hN hT
  · refine r_aload_n E dX67_term_8 rfl 0 rfl ?_
    refine r_callV E [] [] rfl zc_69 zr_69 (fun o _ => ⟨_, zw_X67.1 o, rfl⟩) (lw_V q4227 q4229 qs191 q294 q4230) dX67_term_9 zy_X67_isNumber rfl (by omega) (by decide) (Nat.le_of_ble_eq_true rfl) (by decide) (fun l G => k_fX67_isNumber l G) (fun v6 => ?_)
    refine r_if_eq E 20 (by decide) dX67_term_12 (fun _ => ?_) (fun _ => ?_)
    · exact w_fX67_term_J20 E hN hT
    · refine r_aload_n E dX67_term_15 rfl 0 rfl ?_
      refine r_callV E [] [] rfl zc_69 zr_69 (fun o _ => ⟨_, zw_X67.1 o, rfl⟩) (lw_V q4231 q4233 qs192 q294 q4234) dX67_term_16 zy_X67_numeral rfl (by omega) (by decide) (Nat.le_of_ble_eq_true rfl) (by decide) (fun l G => k_fX67_numeral l G) (fun v7 => ?_)
      exact r_lreturn E rfl hT dX67_term_19
theorem k_fX67_term (l : Launch) (G : zG) : zCt l G yX67_term cX67_term 4 (some .long) 5 [(69, 0)] (some 1) (fX67_term) := zCt.of (by decide) (Nat.le_of_ble_eq_true rfl) (fun K E _ _ hN hT => w_fX67_term E hN hT)
theorem dX67_expression_0 : decode cX67_expression 0 = .ok (.aload_n 0, 1) := by decide +kernel
theorem dX67_expression_1 : decode cX67_expression 1 = .ok (.getfield 831, 3) := by decide +kernel
theorem dX67_expression_4 : decode cX67_expression 4 = .ok (.istore 5, 2) := by decide +kernel
theorem dX67_expression_6 : decode cX67_expression 6 = .ok (.aload_n 0, 1) := by decide +kernel
theorem dX67_expression_7 : decode cX67_expression 7 = .ok (.getfield 819, 3) := by decide +kernel
theorem dX67_expression_10 : decode cX67_expression 10 = .ok (.istore 6, 2) := by decide +kernel
theorem dX67_expression_12 : decode cX67_expression 12 = .ok (.aload_n 0, 1) := by decide +kernel
theorem dX67_expression_13 : decode cX67_expression 13 = .ok (.bipush 45, 2) := by decide +kernel
theorem dX67_expression_15 : decode cX67_expression 15 = .ok (.invokevirtual 906, 3) := by decide +kernel
theorem dX67_expression_18 : decode cX67_expression 18 = .ok (.istore 7, 2) := by decide +kernel
theorem dX67_expression_20 : decode cX67_expression 20 = .ok (.aload_n 0, 1) := by decide +kernel
theorem dX67_expression_21 : decode cX67_expression 21 = .ok (.invokevirtual 909, 3) := by decide +kernel
theorem dX67_expression_24 : decode cX67_expression 24 = .ok (.lstore 8, 2) := by decide +kernel
theorem dX67_expression_26 : decode cX67_expression 26 = .ok (.iload 7, 2) := by decide +kernel
theorem dX67_expression_28 : decode cX67_expression 28 = .ok (.ifCond .eq 9, 3) := by decide +kernel
theorem dX67_expression_31 : decode cX67_expression 31 = .ok (.lload 8, 2) := by decide +kernel
theorem dX67_expression_33 : decode cX67_expression 33 = .ok (.lneg, 1) := by decide +kernel
theorem dX67_expression_34 : decode cX67_expression 34 = .ok (.goto 5, 3) := by decide +kernel
theorem dX67_expression_37 : decode cX67_expression 37 = .ok (.lload 8, 2) := by decide +kernel
theorem dX67_expression_39 : decode cX67_expression 39 = .ok (.lstore 8, 2) := by decide +kernel
theorem dX67_expression_41 : decode cX67_expression 41 = .ok (.aload_n 0, 1) := by decide +kernel
theorem dX67_expression_42 : decode cX67_expression 42 = .ok (.getfield 813, 3) := by decide +kernel
theorem dX67_expression_45 : decode cX67_expression 45 = .ok (.ifCond .ne 62, 3) := by decide +kernel
theorem dX67_expression_48 : decode cX67_expression 48 = .ok (.aload_n 0, 1) := by decide +kernel
theorem dX67_expression_49 : decode cX67_expression 49 = .ok (.bipush 43, 2) := by decide +kernel
theorem dX67_expression_51 : decode cX67_expression 51 = .ok (.invokevirtual 843, 3) := by decide +kernel
theorem dX67_expression_54 : decode cX67_expression 54 = .ok (.ifCond .ne 12, 3) := by decide +kernel
theorem dX67_expression_57 : decode cX67_expression 57 = .ok (.aload_n 0, 1) := by decide +kernel
theorem dX67_expression_58 : decode cX67_expression 58 = .ok (.bipush 45, 2) := by decide +kernel
theorem dX67_expression_60 : decode cX67_expression 60 = .ok (.invokevirtual 843, 3) := by decide +kernel
theorem dX67_expression_63 : decode cX67_expression 63 = .ok (.ifCond .eq 44, 3) := by decide +kernel
theorem dX67_expression_66 : decode cX67_expression 66 = .ok (.aload_n 0, 1) := by decide +kernel
theorem dX67_expression_67 : decode cX67_expression 67 = .ok (.bipush 45, 2) := by decide +kernel
theorem dX67_expression_69 : decode cX67_expression 69 = .ok (.invokevirtual 843, 3) := by decide +kernel
theorem dX67_expression_72 : decode cX67_expression 72 = .ok (.istore 7, 2) := by decide +kernel
theorem dX67_expression_74 : decode cX67_expression 74 = .ok (.aload_n 0, 1) := by decide +kernel
theorem dX67_expression_75 : decode cX67_expression 75 = .ok (.invokevirtual 846, 3) := by decide +kernel
theorem dX67_expression_78 : decode cX67_expression 78 = .ok (.aload_n 0, 1) := by decide +kernel
theorem dX67_expression_79 : decode cX67_expression 79 = .ok (.invokevirtual 909, 3) := by decide +kernel
theorem dX67_expression_82 : decode cX67_expression 82 = .ok (.lstore 10, 2) := by decide +kernel
theorem dX67_expression_84 : decode cX67_expression 84 = .ok (.iload 7, 2) := by decide +kernel
theorem dX67_expression_86 : decode cX67_expression 86 = .ok (.ifCond .eq 11, 3) := by decide +kernel
theorem dX67_expression_89 : decode cX67_expression 89 = .ok (.lload 8, 2) := by decide +kernel
theorem dX67_expression_91 : decode cX67_expression 91 = .ok (.lload 10, 2) := by decide +kernel
theorem dX67_expression_93 : decode cX67_expression 93 = .ok (.lsub, 1) := by decide +kernel
theorem dX67_expression_94 : decode cX67_expression 94 = .ok (.goto 8, 3) := by decide +kernel
theorem dX67_expression_97 : decode cX67_expression 97 = .ok (.lload 8, 2) := by decide +kernel
theorem dX67_expression_99 : decode cX67_expression 99 = .ok (.lload 10, 2) := by decide +kernel
theorem dX67_expression_101 : decode cX67_expression 101 = .ok (.ladd, 1) := by decide +kernel
theorem dX67_expression_102 : decode cX67_expression 102 = .ok (.lstore 8, 2) := by decide +kernel
theorem dX67_expression_104 : decode cX67_expression 104 = .ok (.goto (-63), 3) := by decide +kernel
theorem dX67_expression_107 : decode cX67_expression 107 = .ok (.aload_n 0, 1) := by decide +kernel
theorem dX67_expression_108 : decode cX67_expression 108 = .ok (.getfield 882, 3) := by decide +kernel
theorem dX67_expression_111 : decode cX67_expression 111 = .ok (.ifCond .eq 29, 3) := by decide +kernel
theorem dX67_expression_114 : decode cX67_expression 114 = .ok (.aload_n 0, 1) := by decide +kernel
theorem dX67_expression_115 : decode cX67_expression 115 = .ok (.getfield 819, 3) := by decide +kernel
theorem dX67_expression_118 : decode cX67_expression 118 = .ok (.iload 6, 2) := by decide +kernel
theorem dX67_expression_120 : decode cX67_expression 120 = .ok (.if_icmp .ne 20, 3) := by decide +kernel
theorem dX67_expression_123 : decode cX67_expression 123 = .ok (.lload 8, 2) := by decide +kernel
theorem dX67_expression_125 : decode cX67_expression 125 = .ok (.lload_n 1, 1) := by decide +kernel
theorem dX67_expression_126 : decode cX67_expression 126 = .ok (.lload_n 3, 1) := by decide +kernel
theorem dX67_expression_127 : decode cX67_expression 127 = .ok (.invokestatic 363, 3) := by decide +kernel
theorem dX67_expression_130 : decode cX67_expression 130 = .ok (.ifCond .ne 10, 3) := by decide +kernel
theorem dX67_expression_133 : decode cX67_expression 133 = .ok (.aload_n 0, 1) := by decide +kernel
theorem dX67_expression_134 : decode cX67_expression 134 = .ok (.iconst 3, 1) := by decide +kernel
theorem dX67_expression_135 : decode cX67_expression 135 = .ok (.iload 5, 2) := by decide +kernel
theorem dX67_expression_137 : decode cX67_expression 137 = .ok (.invokevirtual 890, 3) := by decide +kernel
theorem dX67_expression_140 : decode cX67_expression 140 = .ok (.lload 8, 2) := by decide +kernel
theorem dX67_expression_142 : decode cX67_expression 142 = .ok (.lreturn, 1) := by decide +kernel
theorem zy_X67_expression : yX67_expression.cls ≠ "java/lang/invoke/MethodHandle" ∧ yX67_expression.cls ≠ "java/lang/invoke/VarHandle" ∧ (parseMethodDescriptor yX67_expression.desc).map (fun d => d.parameters.length) = some 2 := by decide +kernel
theorem w_fX67_expression_J107 {K : zK} (E : zE K cX67_expression "RingHouseModel" (some .long) 6) (hN : zNl K = 12) (hT : zTr K = (some 1)) (x1 : Int) (x3 : Int) (x5 : Int) (x6 : Int) (x8 : Int) : zR K 107 [(0, 69, 0), (1, 1, x1), (3, 1, x3), (5, 0, x5), (6, 0, x6), (8, 1, x8)] [] (fX67_expression_J107 x1 x3 x5 x6 x8) := by
  refine r_aload_n E dX67_expression_107 rfl 0 rfl ?_
  refine r_get E zc_69 zt_6903 dX67_expression_108 q3318 zr_69 (zg_6903 _) (by decide) (fun v6 => ?_)
  refine r_if_eq E 140 (by decide) dX67_expression_111 (fun _ => ?_) (fun _ => ?_)
  · refine r_lload E dX67_expression_140 5 rfl ?_
    exact r_lreturn E rfl hT dX67_expression_142
  · refine r_aload_n E dX67_expression_114 rfl 0 rfl ?_
    refine r_get E zc_69 zt_6905 dX67_expression_115 q3319 zr_69 (zg_6905 _) (by decide) (fun v7 => ?_)
    refine r_iload E dX67_expression_118 4 rfl ?_
    refine r_icmp_ne E 140 (by decide) dX67_expression_120 (fun _ => ?_) (fun _ => ?_)
    · refine r_lload E dX67_expression_140 5 rfl ?_
      exact r_lreturn E rfl hT dX67_expression_142
    · refine r_lload E dX67_expression_123 5 rfl ?_
      refine r_lload_n E dX67_expression_125 rfl 1 rfl ?_
      refine r_lload_n E dX67_expression_126 rfl 2 rfl ?_
      refine r_callS E [(1, x8), (1, x1), (1, x3)] [] rfl q3619 q3620 q294 q3621 dX67_expression_127 zy_X67_in rfl (by omega) (by decide) (Nat.le_of_ble_eq_true rfl) (fun l G => k_fX67_in l G x8 x1 x3) (fun v8 => ?_)
      refine r_if_ne E 140 (by decide) dX67_expression_130 (fun _ => ?_) (fun _ => ?_)
      · refine r_lload E dX67_expression_140 5 rfl ?_
        exact r_lreturn E rfl hT dX67_expression_142
      · refine r_aload_n E dX67_expression_133 rfl 0 rfl ?_
        refine r_iconst E dX67_expression_134 (zkI (by decide) (by decide)) ?_
        refine r_iload E dX67_expression_135 3 rfl ?_
        refine r_callV E [(0, 3), (0, x5)] [] rfl zc_69 zr_69 (fun o _ => ⟨_, zw_X67.1 o, rfl⟩) (lw_V q4239 q4241 qs194 q294 q4242) dX67_expression_137 zy_X67_late rfl (by omega) (by decide) (Nat.le_of_ble_eq_true rfl) (by decide) (fun l G => k_fX67_late l G 3 x5) (fun _ => ?_)
        refine r_lload E dX67_expression_140 5 rfl ?_
        exact r_lreturn E rfl hT dX67_expression_142
theorem w_fX67_expression_J102 {K : zK} (E : zE K cX67_expression "RingHouseModel" (some .long) 6) (hN : zNl K = 12) (hT : zTr K = (some 1)) (x1 : Int) (x3 : Int) (x5 : Int) (x6 : Int) (s0 : Int) {r41 : Int → zX} (hr41 : ∀ s : Int, zR K 41 [(0, 69, 0), (1, 1, x1), (3, 1, x3), (5, 0, x5), (6, 0, x6), (8, 1, s)] [] (r41 s)) : zR K 102 [(0, 69, 0), (1, 1, x1), (3, 1, x3), (5, 0, x5), (6, 0, x6)] [(1, s0)] (fX67_expression_J102 r41 x1 x3 x5 x6 s0) := by
  refine r_lstore (ls' := [(8, 1, s0), (0, 69, 0), (1, 1, x1), (3, 1, x3), (5, 0, x5), (6, 0, x6)]) E dX67_expression_102 (by rw [hN]; decide) rfl ?_
  refine r_goto E 41 (by decide) dX67_expression_104 ?_
  refine r_pick E [1, 2, 3, 4, 5, 0] rfl ?_
  exact hr41 s0
theorem w_fX67_expression_J66 {K : zK} (E : zE K cX67_expression "RingHouseModel" (some .long) 6) (hN : zNl K = 12) (hT : zTr K = (some 1)) (x1 : Int) (x3 : Int) (x5 : Int) (x6 : Int) (x8 : Int) {r41 : Int → zX} (hr41 : ∀ s : Int, zR K 41 [(0, 69, 0), (1, 1, x1), (3, 1, x3), (5, 0, x5), (6, 0, x6), (8, 1, s)] [] (r41 s)) : zR K 66 [(0, 69, 0), (1, 1, x1), (3, 1, x3), (5, 0, x5), (6, 0, x6), (8, 1, x8)] [] (fX67_expression_J66 r41 x1 x3 x5 x6 x8) := by
  refine r_aload_n E dX67_expression_66 rfl 0 rfl ?_
  refine r_bipush E dX67_expression_67 (by decide) (zkI (by decide) (by decide)) ?_
  refine r_callV E [(0, 45)] [] rfl zc_69 zr_69 (fun o _ => ⟨_, zw_X67.1 o, rfl⟩) (lw_V q4210 q4212 qs187 q294 q4213) dX67_expression_69 zy_X67_isSign rfl (by omega) (by decide) (Nat.le_of_ble_eq_true rfl) (by decide) (fun l G => k_fX67_isSign l G 45) (fun v11 => ?_)
  refine r_istore (ls' := [(7, 0, v11), (0, 69, 0), (1, 1, x1), (3, 1, x3), (5, 0, x5), (6, 0, x6), (8, 1, x8)]) E dX67_expression_72 (by rw [hN]; decide) rfl ?_
  refine r_aload_n E dX67_expression_74 rfl 1 rfl ?_
  refine r_callV E [] [] rfl zc_69 zr_69 (fun o _ => ⟨_, zw_X67.1 o, rfl⟩) (lw_V q4138 q4140 qs175 q294 q4141) dX67_expression_75 zy_X67_next rfl (by omega) (by decide) (Nat.le_of_ble_eq_true rfl) (by decide) (fun l G => k_fX67_next l G) (fun _ => ?_)
  refine r_aload_n E dX67_expression_78 rfl 1 rfl ?_
  refine r_callV E [] [] rfl zc_69 zr_69 (fun o _ => ⟨_, zw_X67.1 o, rfl⟩) (lw_V q4223 q4225 qs190 q294 q4226) dX67_expression_79 zy_X67_term rfl (by omega) (by decide) (Nat.le_of_ble_eq_true rfl) (by decide) (fun l G => k_fX67_term l G) (fun v13 => ?_)
  refine r_lstore (ls' := [(10, 1, v13), (7, 0, v11), (0, 69, 0), (1, 1, x1), (3, 1, x3), (5, 0, x5), (6, 0, x6), (8, 1, x8)]) E dX67_expression_82 (by rw [hN]; decide) rfl ?_
  refine r_iload E dX67_expression_84 1 rfl ?_
  refine r_if_eq E 97 (by decide) dX67_expression_86 (fun _ => ?_) (fun _ => ?_)
  · refine r_lload E dX67_expression_97 7 rfl ?_
    refine r_lload E dX67_expression_99 0 rfl ?_
    refine r_ladd E dX67_expression_101 ?_
    refine r_pick E [2, 3, 4, 5, 6] rfl ?_
    exact w_fX67_expression_J102 E hN hT x1 x3 x5 x6 (zl (x8 + v13)) hr41
  · refine r_lload E dX67_expression_89 7 rfl ?_
    refine r_lload E dX67_expression_91 0 rfl ?_
    refine r_lsub E dX67_expression_93 ?_
    refine r_goto E 102 (by decide) dX67_expression_94 ?_
    refine r_pick E [2, 3, 4, 5, 6] rfl ?_
    exact w_fX67_expression_J102 E hN hT x1 x3 x5 x6 (zl (x8 - v13)) hr41
theorem w_fX67_expression_B41 {K : zK} (E : zE K cX67_expression "RingHouseModel" (some .long) 6) (hN : zNl K = 12) (hT : zTr K = (some 1)) (x1 : Int) (x3 : Int) (x5 : Int) (x6 : Int) : ∀ r41 : Int → zX, (∀ s : Int, zR K 41 [(0, 69, 0), (1, 1, x1), (3, 1, x3), (5, 0, x5), (6, 0, x6), (8, 1, s)] [] (r41 s)) → ∀ s : Int, zR K 41 [(0, 69, 0), (1, 1, x1), (3, 1, x3), (5, 0, x5), (6, 0, x6), (8, 1, s)] [] (fX67_expression_B41 x1 x3 x5 x6 r41 s) := by
  intro r41 hr41 x8
  refine r_aload_n E dX67_expression_41 rfl 0 rfl ?_
  refine r_get E zc_69 zt_6891 dX67_expression_42 q3306 zr_69 (zg_6891 _) (by decide) (fun v5 => ?_)
  refine r_if_ne E 107 (by decide) dX67_expression_45 (fun _ => ?_) (fun _ => ?_)
  · exact w_fX67_expression_J107 E hN hT x1 x3 x5 x6 x8
  · refine r_aload_n E dX67_expression_48 rfl 0 rfl ?_
    refine r_bipush E dX67_expression_49 (by decide) (zkI (by decide) (by decide)) ?_
    refine r_callV E [(0, 43)] [] rfl zc_69 zr_69 (fun o _ => ⟨_, zw_X67.1 o, rfl⟩) (lw_V q4210 q4212 qs187 q294 q4213) dX67_expression_51 zy_X67_isSign rfl (by omega) (by decide) (Nat.le_of_ble_eq_true rfl) (by decide) (fun l G => k_fX67_isSign l G 43) (fun v10 => ?_)
    refine r_if_ne E 66 (by decide) dX67_expression_54 (fun _ => ?_) (fun _ => ?_)
    · exact w_fX67_expression_J66 E hN hT x1 x3 x5 x6 x8 hr41
    · refine r_aload_n E dX67_expression_57 rfl 0 rfl ?_
      refine r_bipush E dX67_expression_58 (by decide) (zkI (by decide) (by decide)) ?_
      refine r_callV E [(0, 45)] [] rfl zc_69 zr_69 (fun o _ => ⟨_, zw_X67.1 o, rfl⟩) (lw_V q4210 q4212 qs187 q294 q4213) dX67_expression_60 zy_X67_isSign rfl (by omega) (by decide) (Nat.le_of_ble_eq_true rfl) (by decide) (fun l G => k_fX67_isSign l G 45) (fun v14 => ?_)
      refine r_if_eq E 107 (by decide) dX67_expression_63 (fun _ => ?_) (fun _ => ?_)
      · exact w_fX67_expression_J107 E hN hT x1 x3 x5 x6 x8
      · exact w_fX67_expression_J66 E hN hT x1 x3 x5 x6 x8 hr41
theorem w_fX67_expression_J39 {K : zK} (E : zE K cX67_expression "RingHouseModel" (some .long) 6) (hN : zNl K = 12) (hT : zTr K = (some 1)) (x1 : Int) (x3 : Int) (x5 : Int) (x6 : Int) (s0 : Int) : zR K 39 [(0, 69, 0), (1, 1, x1), (3, 1, x3), (5, 0, x5), (6, 0, x6)] [(1, s0)] (fX67_expression_J39 x1 x3 x5 x6 s0) := by
  refine r_lstore (ls' := [(8, 1, s0), (0, 69, 0), (1, 1, x1), (3, 1, x3), (5, 0, x5), (6, 0, x6)]) E dX67_expression_39 (by rw [hN]; decide) rfl ?_
  refine r_pick E [1, 2, 3, 4, 5, 0] rfl ?_
  exact r_loop (L := fun s => [(0, 69, 0), (1, 1, x1), (3, 1, x3), (5, 0, x5), (6, 0, x6), (8, 1, s)]) (w_fX67_expression_B41 E hN hT x1 x3 x5 x6) zBIG s0
theorem w_fX67_expression {K : zK} (E : zE K cX67_expression "RingHouseModel" (some .long) 6) (hN : zNl K = 12) (hT : zTr K = (some 1)) (x1 : Int) (x3 : Int) : zR K 0 [(0, 69, 0), (1, 1, x1), (3, 1, x3)] [] (fX67_expression x1 x3) := by
  refine r_aload_n E dX67_expression_0 rfl 0 rfl ?_
  refine r_get E zc_69 zt_6888 dX67_expression_1 q3303 zr_69 (zg_6888 _) (by decide) (fun v1 => ?_)
  refine r_istore (ls' := [(5, 0, v1), (0, 69, 0), (1, 1, x1), (3, 1, x3)]) E dX67_expression_4 (by rw [hN]; decide) rfl ?_
  refine r_aload_n E dX67_expression_6 rfl 1 rfl ?_
  refine r_get E zc_69 zt_6905 dX67_expression_7 q3319 zr_69 (zg_6905 _) (by decide) (fun v2 => ?_)
  refine r_istore (ls' := [(6, 0, v2), (5, 0, v1), (0, 69, 0), (1, 1, x1), (3, 1, x3)]) E dX67_expression_10 (by rw [hN]; decide) rfl ?_
  refine r_aload_n E dX67_expression_12 rfl 2 rfl ?_
  refine r_bipush E dX67_expression_13 (by decide) (zkI (by decide) (by decide)) ?_
  refine r_callV E [(0, 45)] [] rfl zc_69 zr_69 (fun o _ => ⟨_, zw_X67.1 o, rfl⟩) (lw_V q4206 q4208 qs186 q294 q4209) dX67_expression_15 zy_X67_passes rfl (by omega) (by decide) (Nat.le_of_ble_eq_true rfl) (by decide) (fun l G => k_fX67_passes l G 45) (fun v3 => ?_)
  refine r_istore (ls' := [(7, 0, v3), (6, 0, v2), (5, 0, v1), (0, 69, 0), (1, 1, x1), (3, 1, x3)]) E dX67_expression_18 (by rw [hN]; decide) rfl ?_
  refine r_aload_n E dX67_expression_20 rfl 3 rfl ?_
  refine r_callV E [] [] rfl zc_69 zr_69 (fun o _ => ⟨_, zw_X67.1 o, rfl⟩) (lw_V q4223 q4225 qs190 q294 q4226) dX67_expression_21 zy_X67_term rfl (by omega) (by decide) (Nat.le_of_ble_eq_true rfl) (by decide) (fun l G => k_fX67_term l G) (fun v4 => ?_)
  refine r_lstore (ls' := [(8, 1, v4), (7, 0, v3), (6, 0, v2), (5, 0, v1), (0, 69, 0), (1, 1, x1), (3, 1, x3)]) E dX67_expression_24 (by rw [hN]; decide) rfl ?_
  refine r_iload E dX67_expression_26 1 rfl ?_
  refine r_if_eq E 37 (by decide) dX67_expression_28 (fun _ => ?_) (fun _ => ?_)
  · refine r_lload E dX67_expression_37 0 rfl ?_
    refine r_pick E [4, 5, 6, 3, 2] rfl ?_
    exact w_fX67_expression_J39 E hN hT x1 x3 v1 v2 v4
  · refine r_lload E dX67_expression_31 0 rfl ?_
    refine r_lneg E dX67_expression_33 ?_
    refine r_goto E 39 (by decide) dX67_expression_34 ?_
    refine r_pick E [4, 5, 6, 3, 2] rfl ?_
    exact w_fX67_expression_J39 E hN hT x1 x3 v1 v2 (zl (- v4))
theorem k_fX67_expression (l : Launch) (G : zG) (x1 : Int) (x3 : Int) : zCt l G yX67_expression cX67_expression 12 (some .long) 6 [(69, 0), (1, x1), (1, x3)] (some 1) (fX67_expression x1 x3) := zCt.of (by decide) (Nat.le_of_ble_eq_true rfl) (fun K E _ _ hN hT => w_fX67_expression E hN hT x1 x3)
theorem dX67_half_0 : decode cX67_half 0 = .ok (.aload_n 0, 1) := by decide +kernel
theorem dX67_half_1 : decode cX67_half 1 = .ok (.ldc2_w 912, 3) := by decide +kernel
theorem dX67_half_4 : decode cX67_half 4 = .ok (.ldc2_w 582, 3) := by decide +kernel
theorem dX67_half_7 : decode cX67_half 7 = .ok (.invokevirtual 914, 3) := by decide +kernel
theorem dX67_half_10 : decode cX67_half 10 = .ok (.ldc2_w 582, 3) := by decide +kernel
theorem dX67_half_13 : decode cX67_half 13 = .ok (.land, 1) := by decide +kernel
theorem dX67_half_14 : decode cX67_half 14 = .ok (.lreturn, 1) := by decide +kernel
theorem zy_X67_half : yX67_half.cls ≠ "java/lang/invoke/MethodHandle" ∧ yX67_half.cls ≠ "java/lang/invoke/VarHandle" ∧ (parseMethodDescriptor yX67_half.desc).map (fun d => d.parameters.length) = some 0 := by decide +kernel
theorem w_fX67_half {K : zK} (E : zE K cX67_half "RingHouseModel" (some .long) 7) (hN : zNl K = 1) (hT : zTr K = (some 1)) : zR K 0 [(0, 69, 0)] [] (fX67_half) := by
  refine r_aload_n E dX67_half_0 rfl 0 rfl ?_
  refine r_ldc2 (v := (-131072)) E dX67_half_1 q4218 (by decide) (zkJ (by decide) (by decide)) ?_
  refine r_ldc2 (v := 262143) E dX67_half_4 q3807 (by decide) (zkJ (by decide) (by decide)) ?_
  refine r_callV E [(1, (-131072)), (1, 262143)] [] rfl zc_69 zr_69 (fun o _ => ⟨_, zw_X67.1 o, rfl⟩) (lw_V q4219 q4221 qs189 q294 q4222) dX67_half_7 zy_X67_expression rfl (by omega) (by decide) (Nat.le_of_ble_eq_true rfl) (by decide) (fun l G => k_fX67_expression l G (-131072) 262143) (fun v1 => ?_)
  refine r_ldc2 (v := 262143) E dX67_half_10 q3807 (by decide) (zkJ (by decide) (by decide)) ?_
  refine r_lmask (P := 262144) E 18 (by decide) (by decide) (by decide) dX67_half_13 ?_
  exact r_lreturn E rfl hT dX67_half_14
theorem k_fX67_half (l : Launch) (G : zG) : zCt l G yX67_half cX67_half 1 (some .long) 7 [(69, 0)] (some 1) (fX67_half) := zCt.of (by decide) (Nat.le_of_ble_eq_true rfl) (fun K E _ _ hN hT => w_fX67_half E hN hT)
theorem dX67_pointerOfText_0 : decode cX67_pointerOfText 0 = .ok (.aload_n 0, 1) := by decide +kernel
theorem dX67_pointerOfText_1 : decode cX67_pointerOfText 1 = .ok (.ldc2_w 445, 3) := by decide +kernel
theorem dX67_pointerOfText_4 : decode cX67_pointerOfText 4 = .ok (.invokevirtual 949, 3) := by decide +kernel
theorem dX67_pointerOfText_7 : decode cX67_pointerOfText 7 = .ok (.lstore_n 1, 1) := by decide +kernel
theorem dX67_pointerOfText_8 : decode cX67_pointerOfText 8 = .ok (.aload_n 0, 1) := by decide +kernel
theorem dX67_pointerOfText_9 : decode cX67_pointerOfText 9 = .ok (.invokevirtual 952, 3) := by decide +kernel
theorem dX67_pointerOfText_12 : decode cX67_pointerOfText 12 = .ok (.aload_n 0, 1) := by decide +kernel
theorem dX67_pointerOfText_13 : decode cX67_pointerOfText 13 = .ok (.getfield 813, 3) := by decide +kernel
theorem dX67_pointerOfText_16 : decode cX67_pointerOfText 16 = .ok (.ifCond .ne 13, 3) := by decide +kernel
theorem dX67_pointerOfText_19 : decode cX67_pointerOfText 19 = .ok (.aload_n 0, 1) := by decide +kernel
theorem dX67_pointerOfText_20 : decode cX67_pointerOfText 20 = .ok (.ldc2_w 476, 3) := by decide +kernel
theorem dX67_pointerOfText_23 : decode cX67_pointerOfText 23 = .ok (.invokevirtual 949, 3) := by decide +kernel
theorem dX67_pointerOfText_26 : decode cX67_pointerOfText 26 = .ok (.goto 4, 3) := by decide +kernel
theorem dX67_pointerOfText_29 : decode cX67_pointerOfText 29 = .ok (.lconst 0, 1) := by decide +kernel
theorem dX67_pointerOfText_30 : decode cX67_pointerOfText 30 = .ok (.lstore_n 3, 1) := by decide +kernel
theorem dX67_pointerOfText_31 : decode cX67_pointerOfText 31 = .ok (.aload_n 0, 1) := by decide +kernel
theorem dX67_pointerOfText_32 : decode cX67_pointerOfText 32 = .ok (.invokevirtual 952, 3) := by decide +kernel
theorem dX67_pointerOfText_35 : decode cX67_pointerOfText 35 = .ok (.aload_n 0, 1) := by decide +kernel
theorem dX67_pointerOfText_36 : decode cX67_pointerOfText 36 = .ok (.getfield 813, 3) := by decide +kernel
theorem dX67_pointerOfText_39 : decode cX67_pointerOfText 39 = .ok (.ifCond .ne 10, 3) := by decide +kernel
theorem dX67_pointerOfText_42 : decode cX67_pointerOfText 42 = .ok (.aload_n 0, 1) := by decide +kernel
theorem dX67_pointerOfText_43 : decode cX67_pointerOfText 43 = .ok (.invokevirtual 929, 3) := by decide +kernel
theorem dX67_pointerOfText_46 : decode cX67_pointerOfText 46 = .ok (.goto 4, 3) := by decide +kernel
theorem dX67_pointerOfText_49 : decode cX67_pointerOfText 49 = .ok (.lconst 0, 1) := by decide +kernel
theorem dX67_pointerOfText_50 : decode cX67_pointerOfText 50 = .ok (.lstore 5, 2) := by decide +kernel
theorem dX67_pointerOfText_52 : decode cX67_pointerOfText 52 = .ok (.aload_n 0, 1) := by decide +kernel
theorem dX67_pointerOfText_53 : decode cX67_pointerOfText 53 = .ok (.getfield 813, 3) := by decide +kernel
theorem dX67_pointerOfText_56 : decode cX67_pointerOfText 56 = .ok (.ifCond .ne 16, 3) := by decide +kernel
theorem dX67_pointerOfText_59 : decode cX67_pointerOfText 59 = .ok (.aload_n 0, 1) := by decide +kernel
theorem dX67_pointerOfText_60 : decode cX67_pointerOfText 60 = .ok (.bipush 42, 2) := by decide +kernel
theorem dX67_pointerOfText_62 : decode cX67_pointerOfText 62 = .ok (.invokevirtual 906, 3) := by decide +kernel
theorem dX67_pointerOfText_65 : decode cX67_pointerOfText 65 = .ok (.ifCond .eq 7, 3) := by decide +kernel
theorem dX67_pointerOfText_68 : decode cX67_pointerOfText 68 = .ok (.iconst 1, 1) := by decide +kernel
theorem dX67_pointerOfText_69 : decode cX67_pointerOfText 69 = .ok (.goto 4, 3) := by decide +kernel
theorem dX67_pointerOfText_72 : decode cX67_pointerOfText 72 = .ok (.iconst 0, 1) := by decide +kernel
theorem dX67_pointerOfText_73 : decode cX67_pointerOfText 73 = .ok (.istore 7, 2) := by decide +kernel
theorem dX67_pointerOfText_75 : decode cX67_pointerOfText 75 = .ok (.aload_n 0, 1) := by decide +kernel
theorem dX67_pointerOfText_76 : decode cX67_pointerOfText 76 = .ok (.ldc2_w 534, 3) := by decide +kernel
theorem dX67_pointerOfText_79 : decode cX67_pointerOfText 79 = .ok (.lload_n 3, 1) := by decide +kernel
theorem dX67_pointerOfText_80 : decode cX67_pointerOfText 80 = .ok (.bipush 30, 2) := by decide +kernel
theorem dX67_pointerOfText_82 : decode cX67_pointerOfText 82 = .ok (.lshl, 1) := by decide +kernel
theorem dX67_pointerOfText_83 : decode cX67_pointerOfText 83 = .ok (.lor, 1) := by decide +kernel
theorem dX67_pointerOfText_84 : decode cX67_pointerOfText 84 = .ok (.iload 7, 2) := by decide +kernel
theorem dX67_pointerOfText_86 : decode cX67_pointerOfText 86 = .ok (.ifCond .eq 9, 3) := by decide +kernel
theorem dX67_pointerOfText_89 : decode cX67_pointerOfText 89 = .ok (.ldc2_w 955, 3) := by decide +kernel
theorem dX67_pointerOfText_92 : decode cX67_pointerOfText 92 = .ok (.goto 4, 3) := by decide +kernel
theorem dX67_pointerOfText_95 : decode cX67_pointerOfText 95 = .ok (.lconst 0, 1) := by decide +kernel
theorem dX67_pointerOfText_96 : decode cX67_pointerOfText 96 = .ok (.lor, 1) := by decide +kernel
theorem dX67_pointerOfText_97 : decode cX67_pointerOfText 97 = .ok (.lload_n 1, 1) := by decide +kernel
theorem dX67_pointerOfText_98 : decode cX67_pointerOfText 98 = .ok (.bipush 24, 2) := by decide +kernel
theorem dX67_pointerOfText_100 : decode cX67_pointerOfText 100 = .ok (.lshl, 1) := by decide +kernel
theorem dX67_pointerOfText_101 : decode cX67_pointerOfText 101 = .ok (.lor, 1) := by decide +kernel
theorem dX67_pointerOfText_102 : decode cX67_pointerOfText 102 = .ok (.lload 5, 2) := by decide +kernel
theorem dX67_pointerOfText_104 : decode cX67_pointerOfText 104 = .ok (.lor, 1) := by decide +kernel
theorem dX67_pointerOfText_105 : decode cX67_pointerOfText 105 = .ok (.invokevirtual 943, 3) := by decide +kernel
theorem dX67_pointerOfText_108 : decode cX67_pointerOfText 108 = .ok (.return_, 1) := by decide +kernel
theorem zy_X67_pointerOfText : yX67_pointerOfText.cls ≠ "java/lang/invoke/MethodHandle" ∧ yX67_pointerOfText.cls ≠ "java/lang/invoke/VarHandle" ∧ (parseMethodDescriptor yX67_pointerOfText.desc).map (fun d => d.parameters.length) = some 0 := by decide +kernel
theorem w_fX67_pointerOfText_J96 {K : zK} (E : zE K cX67_pointerOfText "RingHouseModel" none 8) (hN : zNl K = 8) (hT : zTr K = none) (x1 : Int) (x5 : Int) (s1 : Int) (s2 : Int) : zR K 96 [(1, 1, x1), (5, 1, x5)] [(1, s2), (1, s1), (69, 0)] (fX67_pointerOfText_J96 x1 x5 s1 s2) := by
  refine r_lor E dX67_pointerOfText_96 ?_
  refine r_lload_n E dX67_pointerOfText_97 rfl 0 rfl ?_
  refine r_bipush E dX67_pointerOfText_98 (by decide) (zkI (by decide) (by decide)) ?_
  refine r_lshl (P := 16777216) E (by decide) dX67_pointerOfText_100 ?_
  refine r_lor E dX67_pointerOfText_101 ?_
  refine r_lload E dX67_pointerOfText_102 1 rfl ?_
  refine r_lor E dX67_pointerOfText_104 ?_
  refine r_callV E [(1, (zoR (zoR (zoR s1 s2) (zl (x1 * 16777216))) x5))] [] rfl zc_69 zr_69 (fun o _ => ⟨_, zw_X67.1 o, rfl⟩) (lw_V q4198 q4200 qs184 q294 q4201) dX67_pointerOfText_105 zy_X67_emit rfl (by omega) (by decide) (Nat.le_of_ble_eq_true rfl) (by decide) (fun l G => k_fX67_emit l G (zoR (zoR (zoR s1 s2) (zl (x1 * 16777216))) x5)) (fun _ => ?_)
  exact r_return E rfl hT dX67_pointerOfText_108
theorem w_fX67_pointerOfText_J73 {K : zK} (E : zE K cX67_pointerOfText "RingHouseModel" none 8) (hN : zNl K = 8) (hT : zTr K = none) (x1 : Int) (x3 : Int) (x5 : Int) (s0 : Int) : zR K 73 [(0, 69, 0), (1, 1, x1), (3, 1, x3), (5, 1, x5)] [(0, s0)] (fX67_pointerOfText_J73 x1 x3 x5 s0) := by
  refine r_istore (ls' := [(7, 0, s0), (0, 69, 0), (1, 1, x1), (3, 1, x3), (5, 1, x5)]) E dX67_pointerOfText_73 (by rw [hN]; decide) rfl ?_
  refine r_aload_n E dX67_pointerOfText_75 rfl 1 rfl ?_
  refine r_ldc2 (v := 42949672960) E dX67_pointerOfText_76 q4052 (by decide) (zkJ (by decide) (by decide)) ?_
  refine r_lload_n E dX67_pointerOfText_79 rfl 3 rfl ?_
  refine r_bipush E dX67_pointerOfText_80 (by decide) (zkI (by decide) (by decide)) ?_
  refine r_lshl (P := 1073741824) E (by decide) dX67_pointerOfText_82 ?_
  refine r_lor E dX67_pointerOfText_83 ?_
  refine r_iload E dX67_pointerOfText_84 0 rfl ?_
  refine r_if_eq E 95 (by decide) dX67_pointerOfText_86 (fun _ => ?_) (fun _ => ?_)
  · refine r_lconst (v := 0) E dX67_pointerOfText_95 (by decide) (zkJ (by decide) (by decide)) ?_
    refine r_pick E [2, 4] rfl ?_
    exact w_fX67_pointerOfText_J96 E hN hT x1 x5 (zoR 42949672960 (zl (x3 * 1073741824))) 0
  · refine r_ldc2 (v := 536870912) E dX67_pointerOfText_89 q4271 (by decide) (zkJ (by decide) (by decide)) ?_
    refine r_goto E 96 (by decide) dX67_pointerOfText_92 ?_
    refine r_pick E [2, 4] rfl ?_
    exact w_fX67_pointerOfText_J96 E hN hT x1 x5 (zoR 42949672960 (zl (x3 * 1073741824))) 536870912
theorem w_fX67_pointerOfText_J72 {K : zK} (E : zE K cX67_pointerOfText "RingHouseModel" none 8) (hN : zNl K = 8) (hT : zTr K = none) (x1 : Int) (x3 : Int) (x5 : Int) : zR K 72 [(0, 69, 0), (1, 1, x1), (3, 1, x3), (5, 1, x5)] [] (fX67_pointerOfText_J72 x1 x3 x5) := by
  refine r_iconst E dX67_pointerOfText_72 (zkI (by decide) (by decide)) ?_
  exact w_fX67_pointerOfText_J73 E hN hT x1 x3 x5 0
theorem w_fX67_pointerOfText_J50 {K : zK} (E : zE K cX67_pointerOfText "RingHouseModel" none 8) (hN : zNl K = 8) (hT : zTr K = none) (x1 : Int) (x3 : Int) (s0 : Int) : zR K 50 [(0, 69, 0), (1, 1, x1), (3, 1, x3)] [(1, s0)] (fX67_pointerOfText_J50 x1 x3 s0) := by
  refine r_lstore (ls' := [(5, 1, s0), (0, 69, 0), (1, 1, x1), (3, 1, x3)]) E dX67_pointerOfText_50 (by rw [hN]; decide) rfl ?_
  refine r_aload_n E dX67_pointerOfText_52 rfl 1 rfl ?_
  refine r_get E zc_69 zt_6891 dX67_pointerOfText_53 q3306 zr_69 (zg_6891 _) (by decide) (fun v6 => ?_)
  refine r_if_ne E 72 (by decide) dX67_pointerOfText_56 (fun _ => ?_) (fun _ => ?_)
  · refine r_pick E [1, 2, 3, 0] rfl ?_
    exact w_fX67_pointerOfText_J72 E hN hT x1 x3 s0
  · refine r_aload_n E dX67_pointerOfText_59 rfl 1 rfl ?_
    refine r_bipush E dX67_pointerOfText_60 (by decide) (zkI (by decide) (by decide)) ?_
    refine r_callV E [(0, 42)] [] rfl zc_69 zr_69 (fun o _ => ⟨_, zw_X67.1 o, rfl⟩) (lw_V q4206 q4208 qs186 q294 q4209) dX67_pointerOfText_62 zy_X67_passes rfl (by omega) (by decide) (Nat.le_of_ble_eq_true rfl) (by decide) (fun l G => k_fX67_passes l G 42) (fun v8 => ?_)
    refine r_if_eq E 72 (by decide) dX67_pointerOfText_65 (fun _ => ?_) (fun _ => ?_)
    · refine r_pick E [1, 2, 3, 0] rfl ?_
      exact w_fX67_pointerOfText_J72 E hN hT x1 x3 s0
    · refine r_iconst E dX67_pointerOfText_68 (zkI (by decide) (by decide)) ?_
      refine r_goto E 73 (by decide) dX67_pointerOfText_69 ?_
      refine r_pick E [1, 2, 3, 0] rfl ?_
      exact w_fX67_pointerOfText_J73 E hN hT x1 x3 s0 1
theorem w_fX67_pointerOfText_J30 {K : zK} (E : zE K cX67_pointerOfText "RingHouseModel" none 8) (hN : zNl K = 8) (hT : zTr K = none) (x1 : Int) (s0 : Int) : zR K 30 [(0, 69, 0), (1, 1, x1)] [(1, s0)] (fX67_pointerOfText_J30 x1 s0) := by
  refine r_lstore_n (ls' := [(3, 1, s0), (0, 69, 0), (1, 1, x1)]) E dX67_pointerOfText_30 rfl (by rw [hN]; decide) rfl ?_
  refine r_aload_n E dX67_pointerOfText_31 rfl 1 rfl ?_
  refine r_callV E [] [] rfl zc_69 zr_69 (fun o _ => ⟨_, zw_X67.1 o, rfl⟩) (lw_V q4267 q4269 qs200 q294 q4270) dX67_pointerOfText_32 zy_X67_comma rfl (by omega) (by decide) (Nat.le_of_ble_eq_true rfl) (by decide) (fun l G => k_fX67_comma l G) (fun _ => ?_)
  refine r_aload_n E dX67_pointerOfText_35 rfl 1 rfl ?_
  refine r_get E zc_69 zt_6891 dX67_pointerOfText_36 q3306 zr_69 (zg_6891 _) (by decide) (fun v5 => ?_)
  refine r_if_ne E 49 (by decide) dX67_pointerOfText_39 (fun _ => ?_) (fun _ => ?_)
  · refine r_lconst (v := 0) E dX67_pointerOfText_49 (by decide) (zkJ (by decide) (by decide)) ?_
    refine r_pick E [1, 2, 0] rfl ?_
    exact w_fX67_pointerOfText_J50 E hN hT x1 s0 0
  · refine r_aload_n E dX67_pointerOfText_42 rfl 1 rfl ?_
    refine r_callV E [] [] rfl zc_69 zr_69 (fun o _ => ⟨_, zw_X67.1 o, rfl⟩) (lw_V q4214 q4216 qs188 q294 q4217) dX67_pointerOfText_43 zy_X67_half rfl (by omega) (by decide) (Nat.le_of_ble_eq_true rfl) (by decide) (fun l G => k_fX67_half l G) (fun v9 => ?_)
    refine r_goto E 50 (by decide) dX67_pointerOfText_46 ?_
    refine r_pick E [1, 2, 0] rfl ?_
    exact w_fX67_pointerOfText_J50 E hN hT x1 s0 v9
theorem w_fX67_pointerOfText {K : zK} (E : zE K cX67_pointerOfText "RingHouseModel" none 8) (hN : zNl K = 8) (hT : zTr K = none) : zR K 0 [(0, 69, 0)] [] (fX67_pointerOfText) := by
  refine r_aload_n E dX67_pointerOfText_0 rfl 0 rfl ?_
  refine r_ldc2 (v := 31) E dX67_pointerOfText_1 q3631 (by decide) (zkJ (by decide) (by decide)) ?_
  refine r_callV E [(1, 31)] [] rfl zc_69 zr_69 (fun o _ => ⟨_, zw_X67.1 o, rfl⟩) (lw_V q4263 q4265 qs199 q294 q4266) dX67_pointerOfText_4 zy_X67_bounded rfl (by omega) (by decide) (Nat.le_of_ble_eq_true rfl) (by decide) (fun l G => k_fX67_bounded l G 31) (fun v1 => ?_)
  refine r_lstore_n (ls' := [(1, 1, v1), (0, 69, 0)]) E dX67_pointerOfText_7 rfl (by rw [hN]; decide) rfl ?_
  refine r_aload_n E dX67_pointerOfText_8 rfl 1 rfl ?_
  refine r_callV E [] [] rfl zc_69 zr_69 (fun o _ => ⟨_, zw_X67.1 o, rfl⟩) (lw_V q4267 q4269 qs200 q294 q4270) dX67_pointerOfText_9 zy_X67_comma rfl (by omega) (by decide) (Nat.le_of_ble_eq_true rfl) (by decide) (fun l G => k_fX67_comma l G) (fun _ => ?_)
  refine r_aload_n E dX67_pointerOfText_12 rfl 1 rfl ?_
  refine r_get E zc_69 zt_6891 dX67_pointerOfText_13 q3306 zr_69 (zg_6891 _) (by decide) (fun v3 => ?_)
  refine r_if_ne E 29 (by decide) dX67_pointerOfText_16 (fun _ => ?_) (fun _ => ?_)
  · refine r_lconst (v := 0) E dX67_pointerOfText_29 (by decide) (zkJ (by decide) (by decide)) ?_
    refine r_pick E [1, 0] rfl ?_
    exact w_fX67_pointerOfText_J30 E hN hT v1 0
  · refine r_aload_n E dX67_pointerOfText_19 rfl 1 rfl ?_
    refine r_ldc2 (v := 7) E dX67_pointerOfText_20 q3709 (by decide) (zkJ (by decide) (by decide)) ?_
    refine r_callV E [(1, 7)] [] rfl zc_69 zr_69 (fun o _ => ⟨_, zw_X67.1 o, rfl⟩) (lw_V q4263 q4265 qs199 q294 q4266) dX67_pointerOfText_23 zy_X67_bounded rfl (by omega) (by decide) (Nat.le_of_ble_eq_true rfl) (by decide) (fun l G => k_fX67_bounded l G 7) (fun v10 => ?_)
    refine r_goto E 30 (by decide) dX67_pointerOfText_26 ?_
    refine r_pick E [1, 0] rfl ?_
    exact w_fX67_pointerOfText_J30 E hN hT v1 v10
theorem k_fX67_pointerOfText (l : Launch) (G : zG) : zCt l G yX67_pointerOfText cX67_pointerOfText 8 none 8 [(69, 0)] none (fX67_pointerOfText) := zCt.of (by decide) (Nat.le_of_ble_eq_true rfl) (fun K E _ _ hN hT => w_fX67_pointerOfText E hN hT)
theorem dX67_wordsOfText_0 : decode cX67_wordsOfText 0 = .ok (.iconst 1, 1) := by decide +kernel
theorem dX67_wordsOfText_1 : decode cX67_wordsOfText 1 = .ok (.istore_n 1, 1) := by decide +kernel
theorem dX67_wordsOfText_2 : decode cX67_wordsOfText 2 = .ok (.iload_n 1, 1) := by decide +kernel
theorem dX67_wordsOfText_3 : decode cX67_wordsOfText 3 = .ok (.ifCond .eq 116, 3) := by decide +kernel
theorem dX67_wordsOfText_6 : decode cX67_wordsOfText 6 = .ok (.aload_n 0, 1) := by decide +kernel
theorem dX67_wordsOfText_7 : decode cX67_wordsOfText 7 = .ok (.getfield 813, 3) := by decide +kernel
theorem dX67_wordsOfText_10 : decode cX67_wordsOfText 10 = .ok (.ifCond .ne 109, 3) := by decide +kernel
theorem dX67_wordsOfText_13 : decode cX67_wordsOfText 13 = .ok (.aload_n 0, 1) := by decide +kernel
theorem dX67_wordsOfText_14 : decode cX67_wordsOfText 14 = .ok (.bipush 39, 2) := by decide +kernel
theorem dX67_wordsOfText_16 : decode cX67_wordsOfText 16 = .ok (.invokevirtual 906, 3) := by decide +kernel
theorem dX67_wordsOfText_19 : decode cX67_wordsOfText 19 = .ok (.ifCond .eq 57, 3) := by decide +kernel
theorem dX67_wordsOfText_22 : decode cX67_wordsOfText 22 = .ok (.aload_n 0, 1) := by decide +kernel
theorem dX67_wordsOfText_23 : decode cX67_wordsOfText 23 = .ok (.getfield 837, 3) := by decide +kernel
theorem dX67_wordsOfText_26 : decode cX67_wordsOfText 26 = .ok (.iconst 1, 1) := by decide +kernel
theorem dX67_wordsOfText_27 : decode cX67_wordsOfText 27 = .ok (.if_icmp .eq 15, 3) := by decide +kernel
theorem dX67_wordsOfText_30 : decode cX67_wordsOfText 30 = .ok (.aload_n 0, 1) := by decide +kernel
theorem dX67_wordsOfText_31 : decode cX67_wordsOfText 31 = .ok (.iconst 1, 1) := by decide +kernel
theorem dX67_wordsOfText_32 : decode cX67_wordsOfText 32 = .ok (.aload_n 0, 1) := by decide +kernel
theorem dX67_wordsOfText_33 : decode cX67_wordsOfText 33 = .ok (.getfield 831, 3) := by decide +kernel
theorem dX67_wordsOfText_36 : decode cX67_wordsOfText 36 = .ok (.invokevirtual 854, 3) := by decide +kernel
theorem dX67_wordsOfText_39 : decode cX67_wordsOfText 39 = .ok (.goto 55, 3) := by decide +kernel
theorem dX67_wordsOfText_42 : decode cX67_wordsOfText 42 = .ok (.aload_n 0, 1) := by decide +kernel
theorem dX67_wordsOfText_43 : decode cX67_wordsOfText 43 = .ok (.invokevirtual 860, 3) := by decide +kernel
theorem dX67_wordsOfText_46 : decode cX67_wordsOfText 46 = .ok (.ifCond .ne 15, 3) := by decide +kernel
theorem dX67_wordsOfText_49 : decode cX67_wordsOfText 49 = .ok (.aload_n 0, 1) := by decide +kernel
theorem dX67_wordsOfText_50 : decode cX67_wordsOfText 50 = .ok (.iconst 2, 1) := by decide +kernel
theorem dX67_wordsOfText_51 : decode cX67_wordsOfText 51 = .ok (.aload_n 0, 1) := by decide +kernel
theorem dX67_wordsOfText_52 : decode cX67_wordsOfText 52 = .ok (.getfield 831, 3) := by decide +kernel
theorem dX67_wordsOfText_55 : decode cX67_wordsOfText 55 = .ok (.invokevirtual 854, 3) := by decide +kernel
theorem dX67_wordsOfText_58 : decode cX67_wordsOfText 58 = .ok (.goto 36, 3) := by decide +kernel
theorem dX67_wordsOfText_61 : decode cX67_wordsOfText 61 = .ok (.aload_n 0, 1) := by decide +kernel
theorem dX67_wordsOfText_62 : decode cX67_wordsOfText 62 = .ok (.aload_n 0, 1) := by decide +kernel
theorem dX67_wordsOfText_63 : decode cX67_wordsOfText 63 = .ok (.invokevirtual 864, 3) := by decide +kernel
theorem dX67_wordsOfText_66 : decode cX67_wordsOfText 66 = .ok (.invokevirtual 943, 3) := by decide +kernel
theorem dX67_wordsOfText_69 : decode cX67_wordsOfText 69 = .ok (.aload_n 0, 1) := by decide +kernel
theorem dX67_wordsOfText_70 : decode cX67_wordsOfText 70 = .ok (.invokevirtual 846, 3) := by decide +kernel
theorem dX67_wordsOfText_73 : decode cX67_wordsOfText 73 = .ok (.goto 21, 3) := by decide +kernel
theorem dX67_wordsOfText_76 : decode cX67_wordsOfText 76 = .ok (.aload_n 0, 1) := by decide +kernel
theorem dX67_wordsOfText_77 : decode cX67_wordsOfText 77 = .ok (.aload_n 0, 1) := by decide +kernel
theorem dX67_wordsOfText_78 : decode cX67_wordsOfText 78 = .ok (.ldc2_w 947, 3) := by decide +kernel
theorem dX67_wordsOfText_81 : decode cX67_wordsOfText 81 = .ok (.ldc2_w 361, 3) := by decide +kernel
theorem dX67_wordsOfText_84 : decode cX67_wordsOfText 84 = .ok (.invokevirtual 914, 3) := by decide +kernel
theorem dX67_wordsOfText_87 : decode cX67_wordsOfText 87 = .ok (.ldc2_w 361, 3) := by decide +kernel
theorem dX67_wordsOfText_90 : decode cX67_wordsOfText 90 = .ok (.land, 1) := by decide +kernel
theorem dX67_wordsOfText_91 : decode cX67_wordsOfText 91 = .ok (.invokevirtual 943, 3) := by decide +kernel
theorem dX67_wordsOfText_94 : decode cX67_wordsOfText 94 = .ok (.aload_n 0, 1) := by decide +kernel
theorem dX67_wordsOfText_95 : decode cX67_wordsOfText 95 = .ok (.getfield 813, 3) := by decide +kernel
theorem dX67_wordsOfText_98 : decode cX67_wordsOfText 98 = .ok (.ifCond .ne 16, 3) := by decide +kernel
theorem dX67_wordsOfText_101 : decode cX67_wordsOfText 101 = .ok (.aload_n 0, 1) := by decide +kernel
theorem dX67_wordsOfText_102 : decode cX67_wordsOfText 102 = .ok (.bipush 44, 2) := by decide +kernel
theorem dX67_wordsOfText_104 : decode cX67_wordsOfText 104 = .ok (.invokevirtual 906, 3) := by decide +kernel
theorem dX67_wordsOfText_107 : decode cX67_wordsOfText 107 = .ok (.ifCond .eq 7, 3) := by decide +kernel
theorem dX67_wordsOfText_110 : decode cX67_wordsOfText 110 = .ok (.iconst 1, 1) := by decide +kernel
theorem dX67_wordsOfText_111 : decode cX67_wordsOfText 111 = .ok (.goto 4, 3) := by decide +kernel
theorem dX67_wordsOfText_114 : decode cX67_wordsOfText 114 = .ok (.iconst 0, 1) := by decide +kernel
theorem dX67_wordsOfText_115 : decode cX67_wordsOfText 115 = .ok (.istore_n 1, 1) := by decide +kernel
theorem dX67_wordsOfText_116 : decode cX67_wordsOfText 116 = .ok (.goto (-114), 3) := by decide +kernel
theorem dX67_wordsOfText_119 : decode cX67_wordsOfText 119 = .ok (.return_, 1) := by decide +kernel
theorem zy_X67_wordsOfText : yX67_wordsOfText.cls ≠ "java/lang/invoke/MethodHandle" ∧ yX67_wordsOfText.cls ≠ "java/lang/invoke/VarHandle" ∧ (parseMethodDescriptor yX67_wordsOfText.desc).map (fun d => d.parameters.length) = some 0 := by decide +kernel
theorem w_fX67_wordsOfText_J115 {K : zK} (E : zE K cX67_wordsOfText "RingHouseModel" none 7) (hN : zNl K = 2) (hT : zTr K = none) (s0 : Int) {r2 : Int → zX} (hr2 : ∀ s : Int, zR K 2 [(0, 69, 0), (1, 0, s)] [] (r2 s)) : zR K 115 [(0, 69, 0)] [(0, s0)] (fX67_wordsOfText_J115 r2 s0) := by
  refine r_istore_n (ls' := [(1, 0, s0), (0, 69, 0)]) E dX67_wordsOfText_115 rfl (by rw [hN]; decide) rfl ?_
  refine r_goto E 2 (by decide) dX67_wordsOfText_116 ?_
  refine r_pick E [1, 0] rfl ?_
  exact hr2 s0
theorem w_fX67_wordsOfText_J114 {K : zK} (E : zE K cX67_wordsOfText "RingHouseModel" none 7) (hN : zNl K = 2) (hT : zTr K = none) {r2 : Int → zX} (hr2 : ∀ s : Int, zR K 2 [(0, 69, 0), (1, 0, s)] [] (r2 s)) : zR K 114 [(0, 69, 0)] [] (fX67_wordsOfText_J114 r2) := by
  refine r_iconst E dX67_wordsOfText_114 (zkI (by decide) (by decide)) ?_
  exact w_fX67_wordsOfText_J115 E hN hT 0 hr2
theorem w_fX67_wordsOfText_J94 {K : zK} (E : zE K cX67_wordsOfText "RingHouseModel" none 7) (hN : zNl K = 2) (hT : zTr K = none) {r2 : Int → zX} (hr2 : ∀ s : Int, zR K 2 [(0, 69, 0), (1, 0, s)] [] (r2 s)) : zR K 94 [(0, 69, 0)] [] (fX67_wordsOfText_J94 r2) := by
  refine r_aload_n E dX67_wordsOfText_94 rfl 0 rfl ?_
  refine r_get E zc_69 zt_6891 dX67_wordsOfText_95 q3306 zr_69 (zg_6891 _) (by decide) (fun v5 => ?_)
  refine r_if_ne E 114 (by decide) dX67_wordsOfText_98 (fun _ => ?_) (fun _ => ?_)
  · exact w_fX67_wordsOfText_J114 E hN hT hr2
  · refine r_aload_n E dX67_wordsOfText_101 rfl 0 rfl ?_
    refine r_bipush E dX67_wordsOfText_102 (by decide) (zkI (by decide) (by decide)) ?_
    refine r_callV E [(0, 44)] [] rfl zc_69 zr_69 (fun o _ => ⟨_, zw_X67.1 o, rfl⟩) (lw_V q4206 q4208 qs186 q294 q4209) dX67_wordsOfText_104 zy_X67_passes rfl (by omega) (by decide) (Nat.le_of_ble_eq_true rfl) (by decide) (fun l G => k_fX67_passes l G 44) (fun v6 => ?_)
    refine r_if_eq E 114 (by decide) dX67_wordsOfText_107 (fun _ => ?_) (fun _ => ?_)
    · exact w_fX67_wordsOfText_J114 E hN hT hr2
    · refine r_iconst E dX67_wordsOfText_110 (zkI (by decide) (by decide)) ?_
      refine r_goto E 115 (by decide) dX67_wordsOfText_111 ?_
      exact w_fX67_wordsOfText_J115 E hN hT 1 hr2
theorem w_fX67_wordsOfText_B2 {K : zK} (E : zE K cX67_wordsOfText "RingHouseModel" none 7) (hN : zNl K = 2) (hT : zTr K = none) : ∀ r2 : Int → zX, (∀ s : Int, zR K 2 [(0, 69, 0), (1, 0, s)] [] (r2 s)) → ∀ s : Int, zR K 2 [(0, 69, 0), (1, 0, s)] [] (fX67_wordsOfText_B2 r2 s) := by
  intro r2 hr2 x1
  refine r_iload_n E dX67_wordsOfText_2 rfl 1 rfl ?_
  refine r_if_eq E 119 (by decide) dX67_wordsOfText_3 (fun _ => ?_) (fun _ => ?_)
  · exact r_return E rfl hT dX67_wordsOfText_119
  · refine r_aload_n E dX67_wordsOfText_6 rfl 0 rfl ?_
    refine r_get E zc_69 zt_6891 dX67_wordsOfText_7 q3306 zr_69 (zg_6891 _) (by decide) (fun v1 => ?_)
    refine r_if_ne E 119 (by decide) dX67_wordsOfText_10 (fun _ => ?_) (fun _ => ?_)
    · exact r_return E rfl hT dX67_wordsOfText_119
    · refine r_aload_n E dX67_wordsOfText_13 rfl 0 rfl ?_
      refine r_bipush E dX67_wordsOfText_14 (by decide) (zkI (by decide) (by decide)) ?_
      refine r_callV E [(0, 39)] [] rfl zc_69 zr_69 (fun o _ => ⟨_, zw_X67.1 o, rfl⟩) (lw_V q4206 q4208 qs186 q294 q4209) dX67_wordsOfText_16 zy_X67_passes rfl (by omega) (by decide) (Nat.le_of_ble_eq_true rfl) (by decide) (fun l G => k_fX67_passes l G 39) (fun v2 => ?_)
      refine r_if_eq E 76 (by decide) dX67_wordsOfText_19 (fun _ => ?_) (fun _ => ?_)
      · refine r_aload_n E dX67_wordsOfText_76 rfl 0 rfl ?_
        refine r_aload_n E dX67_wordsOfText_77 rfl 0 rfl ?_
        refine r_ldc2 (v := (-34359738368)) E dX67_wordsOfText_78 q4258 (by decide) (zkJ (by decide) (by decide)) ?_
        refine r_ldc2 (v := 68719476735) E dX67_wordsOfText_81 q3628 (by decide) (zkJ (by decide) (by decide)) ?_
        refine r_callV E [(1, (-34359738368)), (1, 68719476735)] [(69, 0)] rfl zc_69 zr_69 (fun o _ => ⟨_, zw_X67.1 o, rfl⟩) (lw_V q4219 q4221 qs189 q294 q4222) dX67_wordsOfText_84 zy_X67_expression rfl (by omega) (by decide) (Nat.le_of_ble_eq_true rfl) (by decide) (fun l G => k_fX67_expression l G (-34359738368) 68719476735) (fun v3 => ?_)
        refine r_ldc2 (v := 68719476735) E dX67_wordsOfText_87 q3628 (by decide) (zkJ (by decide) (by decide)) ?_
        refine r_lmask (P := 68719476736) E 36 (by decide) (by decide) (by decide) dX67_wordsOfText_90 ?_
        refine r_callV E [(1, (v3 % 68719476736))] [] rfl zc_69 zr_69 (fun o _ => ⟨_, zw_X67.1 o, rfl⟩) (lw_V q4198 q4200 qs184 q294 q4201) dX67_wordsOfText_91 zy_X67_emit rfl (by omega) (by decide) (Nat.le_of_ble_eq_true rfl) (by decide) (fun l G => k_fX67_emit l G (v3 % 68719476736)) (fun _ => ?_)
        refine r_pick E [0] rfl ?_
        exact w_fX67_wordsOfText_J94 E hN hT hr2
      · refine r_aload_n E dX67_wordsOfText_22 rfl 0 rfl ?_
        refine r_get E zc_69 zt_6887 dX67_wordsOfText_23 q3302 zr_69 (zg_6887 _) (by decide) (fun v7 => ?_)
        refine r_iconst E dX67_wordsOfText_26 (zkI (by decide) (by decide)) ?_
        refine r_icmp_eq E 42 (by decide) dX67_wordsOfText_27 (fun _ => ?_) (fun _ => ?_)
        · refine r_aload_n E dX67_wordsOfText_42 rfl 0 rfl ?_
          refine r_callV E [] [] rfl zc_69 zr_69 (fun o _ => ⟨_, zw_X67.1 o, rfl⟩) (lw_V q4167 q4169 qs179 q294 q4170) dX67_wordsOfText_43 zy_X67_isShort rfl (by omega) (by decide) (Nat.le_of_ble_eq_true rfl) (by decide) (fun l G => k_fX67_isShort l G) (fun v8 => ?_)
          refine r_if_ne E 61 (by decide) dX67_wordsOfText_46 (fun _ => ?_) (fun _ => ?_)
          · refine r_aload_n E dX67_wordsOfText_61 rfl 0 rfl ?_
            refine r_aload_n E dX67_wordsOfText_62 rfl 0 rfl ?_
            refine r_callV E [] [(69, 0)] rfl zc_69 zr_69 (fun o _ => ⟨_, zw_X67.1 o, rfl⟩) (lw_V q4171 q4173 qs180 q294 q4174) dX67_wordsOfText_63 zy_X67_nameOfToken rfl (by omega) (by decide) (Nat.le_of_ble_eq_true rfl) (by decide) (fun l G => k_fX67_nameOfToken l G) (fun v9 => ?_)
            refine r_callV E [(1, v9)] [] rfl zc_69 zr_69 (fun o _ => ⟨_, zw_X67.1 o, rfl⟩) (lw_V q4198 q4200 qs184 q294 q4201) dX67_wordsOfText_66 zy_X67_emit rfl (by omega) (by decide) (Nat.le_of_ble_eq_true rfl) (by decide) (fun l G => k_fX67_emit l G v9) (fun _ => ?_)
            refine r_aload_n E dX67_wordsOfText_69 rfl 0 rfl ?_
            refine r_callV E [] [] rfl zc_69 zr_69 (fun o _ => ⟨_, zw_X67.1 o, rfl⟩) (lw_V q4138 q4140 qs175 q294 q4141) dX67_wordsOfText_70 zy_X67_next rfl (by omega) (by decide) (Nat.le_of_ble_eq_true rfl) (by decide) (fun l G => k_fX67_next l G) (fun _ => ?_)
            refine r_goto E 94 (by decide) dX67_wordsOfText_73 ?_
            refine r_pick E [0] rfl ?_
            exact w_fX67_wordsOfText_J94 E hN hT hr2
          · refine r_aload_n E dX67_wordsOfText_49 rfl 0 rfl ?_
            refine r_iconst E dX67_wordsOfText_50 (zkI (by decide) (by decide)) ?_
            refine r_aload_n E dX67_wordsOfText_51 rfl 0 rfl ?_
            refine r_get E zc_69 zt_6888 dX67_wordsOfText_52 q3303 zr_69 (zg_6888 _) (by decide) (fun v12 => ?_)
            refine r_callV E [(0, 2), (0, v12)] [] rfl zc_69 zr_69 (fun o _ => ⟨_, zw_X67.1 o, rfl⟩) (lw_V q4163 q4165 qs178 q294 q4166) dX67_wordsOfText_55 zy_X67_wrong rfl (by omega) (by decide) (Nat.le_of_ble_eq_true rfl) (by decide) (fun l G => k_fX67_wrong l G 2 v12) (fun _ => ?_)
            refine r_goto E 94 (by decide) dX67_wordsOfText_58 ?_
            refine r_pick E [0] rfl ?_
            exact w_fX67_wordsOfText_J94 E hN hT hr2
        · refine r_aload_n E dX67_wordsOfText_30 rfl 0 rfl ?_
          refine r_iconst E dX67_wordsOfText_31 (zkI (by decide) (by decide)) ?_
          refine r_aload_n E dX67_wordsOfText_32 rfl 0 rfl ?_
          refine r_get E zc_69 zt_6888 dX67_wordsOfText_33 q3303 zr_69 (zg_6888 _) (by decide) (fun v14 => ?_)
          refine r_callV E [(0, 1), (0, v14)] [] rfl zc_69 zr_69 (fun o _ => ⟨_, zw_X67.1 o, rfl⟩) (lw_V q4163 q4165 qs178 q294 q4166) dX67_wordsOfText_36 zy_X67_wrong rfl (by omega) (by decide) (Nat.le_of_ble_eq_true rfl) (by decide) (fun l G => k_fX67_wrong l G 1 v14) (fun _ => ?_)
          refine r_goto E 94 (by decide) dX67_wordsOfText_39 ?_
          refine r_pick E [0] rfl ?_
          exact w_fX67_wordsOfText_J94 E hN hT hr2
theorem w_fX67_wordsOfText {K : zK} (E : zE K cX67_wordsOfText "RingHouseModel" none 7) (hN : zNl K = 2) (hT : zTr K = none) : zR K 0 [(0, 69, 0)] [] (fX67_wordsOfText) := by
  refine r_iconst E dX67_wordsOfText_0 (zkI (by decide) (by decide)) ?_
  refine r_istore_n (ls' := [(1, 0, 1), (0, 69, 0)]) E dX67_wordsOfText_1 rfl (by rw [hN]; decide) rfl ?_
  refine r_pick E [1, 0] rfl ?_
  exact r_loop (L := fun s => [(0, 69, 0), (1, 0, s)]) (w_fX67_wordsOfText_B2 E hN hT) zBIG 1
theorem k_fX67_wordsOfText (l : Launch) (G : zG) : zCt l G yX67_wordsOfText cX67_wordsOfText 2 none 7 [(69, 0)] none (fX67_wordsOfText) := zCt.of (by decide) (Nat.le_of_ble_eq_true rfl) (fun K E _ _ hN hT => w_fX67_wordsOfText E hN hT)
theorem dX67_isP_0 : decode cX67_isP 0 = .ok (.aload_n 0, 1) := by decide +kernel
theorem dX67_isP_1 : decode cX67_isP 1 = .ok (.getfield 837, 3) := by decide +kernel
theorem dX67_isP_4 : decode cX67_isP 4 = .ok (.iconst 1, 1) := by decide +kernel
theorem dX67_isP_5 : decode cX67_isP 5 = .ok (.if_icmp .ne 58, 3) := by decide +kernel
theorem dX67_isP_8 : decode cX67_isP 8 = .ok (.aload_n 0, 1) := by decide +kernel
theorem dX67_isP_9 : decode cX67_isP 9 = .ok (.getfield 828, 3) := by decide +kernel
theorem dX67_isP_12 : decode cX67_isP 12 = .ok (.aload_n 0, 1) := by decide +kernel
theorem dX67_isP_13 : decode cX67_isP 13 = .ok (.getfield 831, 3) := by decide +kernel
theorem dX67_isP_16 : decode cX67_isP 16 = .ok (.isub, 1) := by decide +kernel
theorem dX67_isP_17 : decode cX67_isP 17 = .ok (.iconst 2, 1) := by decide +kernel
theorem dX67_isP_18 : decode cX67_isP 18 = .ok (.if_icmp .ne 45, 3) := by decide +kernel
theorem dX67_isP_21 : decode cX67_isP 21 = .ok (.aload_n 0, 1) := by decide +kernel
theorem dX67_isP_22 : decode cX67_isP 22 = .ok (.getfield 206, 3) := by decide +kernel
theorem dX67_isP_25 : decode cX67_isP 25 = .ok (.aload_n 0, 1) := by decide +kernel
theorem dX67_isP_26 : decode cX67_isP 26 = .ok (.getfield 831, 3) := by decide +kernel
theorem dX67_isP_29 : decode cX67_isP 29 = .ok (.iaload, 1) := by decide +kernel
theorem dX67_isP_30 : decode cX67_isP 30 = .ok (.bipush 112, 2) := by decide +kernel
theorem dX67_isP_32 : decode cX67_isP 32 = .ok (.if_icmp .ne 31, 3) := by decide +kernel
theorem dX67_isP_35 : decode cX67_isP 35 = .ok (.aload_n 0, 1) := by decide +kernel
theorem dX67_isP_36 : decode cX67_isP 36 = .ok (.getfield 206, 3) := by decide +kernel
theorem dX67_isP_39 : decode cX67_isP 39 = .ok (.aload_n 0, 1) := by decide +kernel
theorem dX67_isP_40 : decode cX67_isP 40 = .ok (.getfield 831, 3) := by decide +kernel
theorem dX67_isP_43 : decode cX67_isP 43 = .ok (.iconst 1, 1) := by decide +kernel
theorem dX67_isP_44 : decode cX67_isP 44 = .ok (.iadd, 1) := by decide +kernel
theorem dX67_isP_45 : decode cX67_isP 45 = .ok (.iaload, 1) := by decide +kernel
theorem dX67_isP_46 : decode cX67_isP 46 = .ok (.i2l, 1) := by decide +kernel
theorem dX67_isP_47 : decode cX67_isP 47 = .ok (.ldc2_w 799, 3) := by decide +kernel
theorem dX67_isP_50 : decode cX67_isP 50 = .ok (.ldc2_w 924, 3) := by decide +kernel
theorem dX67_isP_53 : decode cX67_isP 53 = .ok (.invokestatic 363, 3) := by decide +kernel
theorem dX67_isP_56 : decode cX67_isP 56 = .ok (.ifCond .eq 7, 3) := by decide +kernel
theorem dX67_isP_59 : decode cX67_isP 59 = .ok (.iconst 1, 1) := by decide +kernel
theorem dX67_isP_60 : decode cX67_isP 60 = .ok (.goto 4, 3) := by decide +kernel
theorem dX67_isP_63 : decode cX67_isP 63 = .ok (.iconst 0, 1) := by decide +kernel
theorem dX67_isP_64 : decode cX67_isP 64 = .ok (.ireturn, 1) := by decide +kernel
theorem zy_X67_isP : yX67_isP.cls ≠ "java/lang/invoke/MethodHandle" ∧ yX67_isP.cls ≠ "java/lang/invoke/VarHandle" ∧ (parseMethodDescriptor yX67_isP.desc).map (fun d => d.parameters.length) = some 0 := by decide +kernel
theorem w_fX67_isP {K : zK} (E : zE K cX67_isP "RingHouseModel" (some .boolean) 1) (hN : zNl K = 1) (hT : zTr K = (some 0)) : zR K 0 [(0, 69, 0)] [] (fX67_isP) := by
  refine r_aload_n E dX67_isP_0 rfl 0 rfl ?_
  refine r_get E zc_69 zt_6887 dX67_isP_1 q3302 zr_69 (zg_6887 _) (by decide) (fun v1 => ?_)
  refine r_iconst E dX67_isP_4 (zkI (by decide) (by decide)) ?_
  refine r_icmp_ne E 63 (by decide) dX67_isP_5 (fun _ => ?_) (fun _ => ?_)
  · refine r_iconst E dX67_isP_63 (zkI (by decide) (by decide)) ?_
    exact r_zreturn E rfl hT (by decide) dX67_isP_64
  · refine r_aload_n E dX67_isP_8 rfl 0 rfl ?_
    refine r_get E zc_69 zt_6889 dX67_isP_9 q3304 zr_69 (zg_6889 _) (by decide) (fun v2 => ?_)
    refine r_aload_n E dX67_isP_12 rfl 0 rfl ?_
    refine r_get E zc_69 zt_6888 dX67_isP_13 q3303 zr_69 (zg_6888 _) (by decide) (fun v3 => ?_)
    refine r_isub E dX67_isP_16 ?_
    refine r_iconst E dX67_isP_17 (zkI (by decide) (by decide)) ?_
    refine r_icmp_ne E 63 (by decide) dX67_isP_18 (fun _ => ?_) (fun _ => ?_)
    · refine r_iconst E dX67_isP_63 (zkI (by decide) (by decide)) ?_
      exact r_zreturn E rfl hT (by decide) dX67_isP_64
    · refine r_aload_n E dX67_isP_21 rfl 0 rfl ?_
      refine r_gec (y := 0) E zc_69 dX67_isP_22 q3283 zr_69 (zh_6868 (by decide)) (by decide) ?_
      refine r_aload_n E dX67_isP_25 rfl 0 rfl ?_
      refine r_get E zc_69 zt_6888 dX67_isP_26 q3303 zr_69 (zg_6888 _) (by decide) (fun v4 => ?_)
      refine r_iaload E zc_6868 za_6868 zt_6868 zx_6868 rfl rfl dX67_isP_29 (by decide) (fun v5 => ?_)
      refine r_bipush E dX67_isP_30 (by decide) (zkI (by decide) (by decide)) ?_
      refine r_icmp_ne E 63 (by decide) dX67_isP_32 (fun _ => ?_) (fun _ => ?_)
      · refine r_iconst E dX67_isP_63 (zkI (by decide) (by decide)) ?_
        exact r_zreturn E rfl hT (by decide) dX67_isP_64
      · refine r_aload_n E dX67_isP_35 rfl 0 rfl ?_
        refine r_gec (y := 0) E zc_69 dX67_isP_36 q3283 zr_69 (zh_6868 (by decide)) (by decide) ?_
        refine r_aload_n E dX67_isP_39 rfl 0 rfl ?_
        refine r_get E zc_69 zt_6888 dX67_isP_40 q3303 zr_69 (zg_6888 _) (by decide) (fun v6 => ?_)
        refine r_iconst E dX67_isP_43 (zkI (by decide) (by decide)) ?_
        refine r_iadd E dX67_isP_44 ?_
        refine r_iaload E zc_6868 za_6868 zt_6868 zx_6868 rfl rfl dX67_isP_45 (by decide) (fun v7 => ?_)
        refine r_i2l E dX67_isP_46 ?_
        refine r_ldc2 (v := 48) E dX67_isP_47 q4153 (by decide) (zkJ (by decide) (by decide)) ?_
        refine r_ldc2 (v := 55) E dX67_isP_50 q4247 (by decide) (zkJ (by decide) (by decide)) ?_
        refine r_callS E [(1, v7), (1, 48), (1, 55)] [] rfl q3619 q3620 q294 q3621 dX67_isP_53 zy_X67_in rfl (by omega) (by decide) (Nat.le_of_ble_eq_true rfl) (fun l G => k_fX67_in l G v7 48 55) (fun v8 => ?_)
        refine r_if_eq E 63 (by decide) dX67_isP_56 (fun _ => ?_) (fun _ => ?_)
        · refine r_iconst E dX67_isP_63 (zkI (by decide) (by decide)) ?_
          exact r_zreturn E rfl hT (by decide) dX67_isP_64
        · refine r_iconst E dX67_isP_59 (zkI (by decide) (by decide)) ?_
          refine r_goto E 64 (by decide) dX67_isP_60 ?_
          exact r_zreturn E rfl hT (by decide) dX67_isP_64
theorem k_fX67_isP (l : Launch) (G : zG) : zCt l G yX67_isP cX67_isP 1 (some .boolean) 1 [(69, 0)] (some 0) (fX67_isP) := zCt.of (by decide) (Nat.le_of_ble_eq_true rfl) (fun K E _ _ hN hT => w_fX67_isP E hN hT)
theorem dX67_linkOf_0 : decode cX67_linkOf 0 = .ok (.iconst 0, 1) := by decide +kernel
theorem dX67_linkOf_1 : decode cX67_linkOf 1 = .ok (.istore 6, 2) := by decide +kernel
theorem dX67_linkOf_3 : decode cX67_linkOf 3 = .ok (.iload 6, 2) := by decide +kernel
theorem dX67_linkOf_5 : decode cX67_linkOf 5 = .ok (.aload_n 0, 1) := by decide +kernel
theorem dX67_linkOf_6 : decode cX67_linkOf 6 = .ok (.getfield 921, 3) := by decide +kernel
theorem dX67_linkOf_9 : decode cX67_linkOf 9 = .ok (.if_icmp .ge 33, 3) := by decide +kernel
theorem dX67_linkOf_12 : decode cX67_linkOf 12 = .ok (.aload_n 0, 1) := by decide +kernel
theorem dX67_linkOf_13 : decode cX67_linkOf 13 = .ok (.getfield 226, 3) := by decide +kernel
theorem dX67_linkOf_16 : decode cX67_linkOf 16 = .ok (.iload 6, 2) := by decide +kernel
theorem dX67_linkOf_18 : decode cX67_linkOf 18 = .ok (.laload, 1) := by decide +kernel
theorem dX67_linkOf_19 : decode cX67_linkOf 19 = .ok (.lload_n 1, 1) := by decide +kernel
theorem dX67_linkOf_20 : decode cX67_linkOf 20 = .ok (.lcmp, 1) := by decide +kernel
theorem dX67_linkOf_21 : decode cX67_linkOf 21 = .ok (.ifCond .ne 15, 3) := by decide +kernel
theorem dX67_linkOf_24 : decode cX67_linkOf 24 = .ok (.aload_n 0, 1) := by decide +kernel
theorem dX67_linkOf_25 : decode cX67_linkOf 25 = .ok (.getfield 229, 3) := by decide +kernel
theorem dX67_linkOf_28 : decode cX67_linkOf 28 = .ok (.iload 6, 2) := by decide +kernel
theorem dX67_linkOf_30 : decode cX67_linkOf 30 = .ok (.laload, 1) := by decide +kernel
theorem dX67_linkOf_31 : decode cX67_linkOf 31 = .ok (.lload_n 3, 1) := by decide +kernel
theorem dX67_linkOf_32 : decode cX67_linkOf 32 = .ok (.lcmp, 1) := by decide +kernel
theorem dX67_linkOf_33 : decode cX67_linkOf 33 = .ok (.ifCond .eq 9, 3) := by decide +kernel
theorem dX67_linkOf_36 : decode cX67_linkOf 36 = .ok (.iinc 6 1, 3) := by decide +kernel
theorem dX67_linkOf_39 : decode cX67_linkOf 39 = .ok (.goto (-36), 3) := by decide +kernel
theorem dX67_linkOf_42 : decode cX67_linkOf 42 = .ok (.iload 6, 2) := by decide +kernel
theorem dX67_linkOf_44 : decode cX67_linkOf 44 = .ok (.bipush 16, 2) := by decide +kernel
theorem dX67_linkOf_46 : decode cX67_linkOf 46 = .ok (.if_icmp .ne 13, 3) := by decide +kernel
theorem dX67_linkOf_49 : decode cX67_linkOf 49 = .ok (.aload_n 0, 1) := by decide +kernel
theorem dX67_linkOf_50 : decode cX67_linkOf 50 = .ok (.bipush 6, 2) := by decide +kernel
theorem dX67_linkOf_52 : decode cX67_linkOf 52 = .ok (.iload 5, 2) := by decide +kernel
theorem dX67_linkOf_54 : decode cX67_linkOf 54 = .ok (.invokevirtual 854, 3) := by decide +kernel
theorem dX67_linkOf_57 : decode cX67_linkOf 57 = .ok (.iconst 0, 1) := by decide +kernel
theorem dX67_linkOf_58 : decode cX67_linkOf 58 = .ok (.ireturn, 1) := by decide +kernel
theorem dX67_linkOf_59 : decode cX67_linkOf 59 = .ok (.iload 6, 2) := by decide +kernel
theorem dX67_linkOf_61 : decode cX67_linkOf 61 = .ok (.aload_n 0, 1) := by decide +kernel
theorem dX67_linkOf_62 : decode cX67_linkOf 62 = .ok (.getfield 921, 3) := by decide +kernel
theorem dX67_linkOf_65 : decode cX67_linkOf 65 = .ok (.if_icmp .ne 29, 3) := by decide +kernel
theorem dX67_linkOf_68 : decode cX67_linkOf 68 = .ok (.aload_n 0, 1) := by decide +kernel
theorem dX67_linkOf_69 : decode cX67_linkOf 69 = .ok (.getfield 226, 3) := by decide +kernel
theorem dX67_linkOf_72 : decode cX67_linkOf 72 = .ok (.iload 6, 2) := by decide +kernel
theorem dX67_linkOf_74 : decode cX67_linkOf 74 = .ok (.lload_n 1, 1) := by decide +kernel
theorem dX67_linkOf_75 : decode cX67_linkOf 75 = .ok (.lastore, 1) := by decide +kernel
theorem dX67_linkOf_76 : decode cX67_linkOf 76 = .ok (.aload_n 0, 1) := by decide +kernel
theorem dX67_linkOf_77 : decode cX67_linkOf 77 = .ok (.getfield 229, 3) := by decide +kernel
theorem dX67_linkOf_80 : decode cX67_linkOf 80 = .ok (.iload 6, 2) := by decide +kernel
theorem dX67_linkOf_82 : decode cX67_linkOf 82 = .ok (.lload_n 3, 1) := by decide +kernel
theorem dX67_linkOf_83 : decode cX67_linkOf 83 = .ok (.lastore, 1) := by decide +kernel
theorem dX67_linkOf_84 : decode cX67_linkOf 84 = .ok (.aload_n 0, 1) := by decide +kernel
theorem dX67_linkOf_85 : decode cX67_linkOf 85 = .ok (.dup, 1) := by decide +kernel
theorem dX67_linkOf_86 : decode cX67_linkOf 86 = .ok (.getfield 921, 3) := by decide +kernel
theorem dX67_linkOf_89 : decode cX67_linkOf 89 = .ok (.iconst 1, 1) := by decide +kernel
theorem dX67_linkOf_90 : decode cX67_linkOf 90 = .ok (.iadd, 1) := by decide +kernel
theorem dX67_linkOf_91 : decode cX67_linkOf 91 = .ok (.putfield 921, 3) := by decide +kernel
theorem dX67_linkOf_94 : decode cX67_linkOf 94 = .ok (.iload 6, 2) := by decide +kernel
theorem dX67_linkOf_96 : decode cX67_linkOf 96 = .ok (.ireturn, 1) := by decide +kernel
theorem zy_X67_linkOf : yX67_linkOf.cls ≠ "java/lang/invoke/MethodHandle" ∧ yX67_linkOf.cls ≠ "java/lang/invoke/VarHandle" ∧ (parseMethodDescriptor yX67_linkOf.desc).map (fun d => d.parameters.length) = some 3 := by decide +kernel
theorem w_fX67_linkOf_J42 {K : zK} (E : zE K cX67_linkOf "RingHouseModel" (some .int) 1) (hN : zNl K = 7) (hT : zTr K = (some 0)) (x1 : Int) (x3 : Int) (x5 : Int) (x6 : Int) : zR K 42 [(0, 69, 0), (1, 1, x1), (3, 1, x3), (5, 0, x5), (6, 0, x6)] [] (fX67_linkOf_J42 x1 x3 x5 x6) := by
  refine r_iload E dX67_linkOf_42 4 rfl ?_
  refine r_bipush E dX67_linkOf_44 (by decide) (zkI (by decide) (by decide)) ?_
  refine r_icmp_ne E 59 (by decide) dX67_linkOf_46 (fun _ => ?_) (fun _ => ?_)
  · refine r_iload E dX67_linkOf_59 4 rfl ?_
    refine r_aload_n E dX67_linkOf_61 rfl 0 rfl ?_
    refine r_get E zc_69 zt_6896 dX67_linkOf_62 q3311 zr_69 (zg_6896 _) (by decide) (fun v2 => ?_)
    refine r_icmp_ne E 94 (by decide) dX67_linkOf_65 (fun _ => ?_) (fun _ => ?_)
    · refine r_iload E dX67_linkOf_94 4 rfl ?_
      exact r_ireturn E rfl hT dX67_linkOf_96
    · refine r_aload_n E dX67_linkOf_68 rfl 0 rfl ?_
      refine r_gec (y := 0) E zc_69 dX67_linkOf_69 q3312 zr_69 (zh_6897 (by decide)) (by decide) ?_
      refine r_iload E dX67_linkOf_72 4 rfl ?_
      refine r_lload_n E dX67_linkOf_74 rfl 1 rfl ?_
      refine r_lastore E zc_6897 za_6897 zt_6897 zo_6897 zx_6897 rfl rfl dX67_linkOf_75 (by decide) ?_
      refine r_aload_n E dX67_linkOf_76 rfl 0 rfl ?_
      refine r_gec (y := 0) E zc_69 dX67_linkOf_77 q3313 zr_69 (zh_6898 (by decide)) (by decide) ?_
      refine r_iload E dX67_linkOf_80 4 rfl ?_
      refine r_lload_n E dX67_linkOf_82 rfl 2 rfl ?_
      refine r_lastore E zc_6898 za_6898 zt_6898 zo_6898 zx_6898 rfl rfl dX67_linkOf_83 (by decide) ?_
      refine r_aload_n E dX67_linkOf_84 rfl 0 rfl ?_
      refine r_dup E (zn1 rfl) dX67_linkOf_85 ?_
      refine r_get E zc_69 zt_6896 dX67_linkOf_86 q3311 zr_69 (zg_6896 _) (by decide) (fun v3 => ?_)
      refine r_iconst E dX67_linkOf_89 (zkI (by decide) (by decide)) ?_
      refine r_iadd E dX67_linkOf_90 ?_
      refine r_put E zc_69 zt_6896 zo_6896 dX67_linkOf_91 q3311 zr_69 zw_X67 zp_6896 (fun _ => rfl) (fun _ => rfl) (by decide) ?_
      refine r_iload E dX67_linkOf_94 4 rfl ?_
      exact r_ireturn E rfl hT dX67_linkOf_96
  · refine r_aload_n E dX67_linkOf_49 rfl 0 rfl ?_
    refine r_bipush E dX67_linkOf_50 (by decide) (zkI (by decide) (by decide)) ?_
    refine r_iload E dX67_linkOf_52 3 rfl ?_
    refine r_callV E [(0, 6), (0, x5)] [] rfl zc_69 zr_69 (fun o _ => ⟨_, zw_X67.1 o, rfl⟩) (lw_V q4163 q4165 qs178 q294 q4166) dX67_linkOf_54 zy_X67_wrong rfl (by omega) (by decide) (Nat.le_of_ble_eq_true rfl) (by decide) (fun l G => k_fX67_wrong l G 6 x5) (fun _ => ?_)
    refine r_iconst E dX67_linkOf_57 (zkI (by decide) (by decide)) ?_
    exact r_ireturn E rfl hT dX67_linkOf_58
theorem w_fX67_linkOf_J36 {K : zK} (E : zE K cX67_linkOf "RingHouseModel" (some .int) 1) (hN : zNl K = 7) (hT : zTr K = (some 0)) (x1 : Int) (x3 : Int) (x5 : Int) (x6 : Int) {r3 : Int → zX} (hr3 : ∀ s : Int, zR K 3 [(0, 69, 0), (1, 1, x1), (3, 1, x3), (5, 0, x5), (6, 0, s)] [] (r3 s)) : zR K 36 [(0, 69, 0), (1, 1, x1), (3, 1, x3), (5, 0, x5), (6, 0, x6)] [] (fX67_linkOf_J36 r3 x1 x3 x5 x6) := by
  refine r_iinc (ls' := fun v6 => [(6, 0, v6), (0, 69, 0), (1, 1, x1), (3, 1, x3), (5, 0, x5)]) E 4 rfl (by rw [hN]; decide) (fun _ => rfl) dX67_linkOf_36 (fun v6 _ => ?_)
  refine r_goto E 3 (by decide) dX67_linkOf_39 ?_
  refine r_pick E [1, 2, 3, 4, 0] rfl ?_
  exact hr3 v6
theorem w_fX67_linkOf_B3 {K : zK} (E : zE K cX67_linkOf "RingHouseModel" (some .int) 1) (hN : zNl K = 7) (hT : zTr K = (some 0)) (x1 : Int) (x3 : Int) (x5 : Int) : ∀ r3 : Int → zX, (∀ s : Int, zR K 3 [(0, 69, 0), (1, 1, x1), (3, 1, x3), (5, 0, x5), (6, 0, s)] [] (r3 s)) → ∀ s : Int, zR K 3 [(0, 69, 0), (1, 1, x1), (3, 1, x3), (5, 0, x5), (6, 0, s)] [] (fX67_linkOf_B3 x1 x3 x5 r3 s) := by
  intro r3 hr3 x6
  refine r_iload E dX67_linkOf_3 4 rfl ?_
  refine r_aload_n E dX67_linkOf_5 rfl 0 rfl ?_
  refine r_get E zc_69 zt_6896 dX67_linkOf_6 q3311 zr_69 (zg_6896 _) (by decide) (fun v1 => ?_)
  refine r_icmp_ge E 42 (by decide) dX67_linkOf_9 (fun _ => ?_) (fun _ => ?_)
  · exact w_fX67_linkOf_J42 E hN hT x1 x3 x5 x6
  · refine r_aload_n E dX67_linkOf_12 rfl 0 rfl ?_
    refine r_gec (y := 0) E zc_69 dX67_linkOf_13 q3312 zr_69 (zh_6897 (by decide)) (by decide) ?_
    refine r_iload E dX67_linkOf_16 4 rfl ?_
    refine r_laload E zc_6897 za_6897 zt_6897 zx_6897 rfl rfl dX67_linkOf_18 (by decide) (fun v5 => ?_)
    refine r_lload_n E dX67_linkOf_19 rfl 1 rfl ?_
    refine r_lcmp_ne E 36 (by decide) dX67_linkOf_20 dX67_linkOf_21 (fun _ => ?_) (fun _ => ?_)
    · exact w_fX67_linkOf_J36 E hN hT x1 x3 x5 x6 hr3
    · refine r_aload_n E dX67_linkOf_24 rfl 0 rfl ?_
      refine r_gec (y := 0) E zc_69 dX67_linkOf_25 q3313 zr_69 (zh_6898 (by decide)) (by decide) ?_
      refine r_iload E dX67_linkOf_28 4 rfl ?_
      refine r_laload E zc_6898 za_6898 zt_6898 zx_6898 rfl rfl dX67_linkOf_30 (by decide) (fun v7 => ?_)
      refine r_lload_n E dX67_linkOf_31 rfl 2 rfl ?_
      refine r_lcmp_eq E 42 (by decide) dX67_linkOf_32 dX67_linkOf_33 (fun _ => ?_) (fun _ => ?_)
      · exact w_fX67_linkOf_J42 E hN hT x1 x3 x5 x6
      · exact w_fX67_linkOf_J36 E hN hT x1 x3 x5 x6 hr3
theorem w_fX67_linkOf {K : zK} (E : zE K cX67_linkOf "RingHouseModel" (some .int) 1) (hN : zNl K = 7) (hT : zTr K = (some 0)) (x1 : Int) (x3 : Int) (x5 : Int) : zR K 0 [(0, 69, 0), (1, 1, x1), (3, 1, x3), (5, 0, x5)] [] (fX67_linkOf x1 x3 x5) := by
  refine r_iconst E dX67_linkOf_0 (zkI (by decide) (by decide)) ?_
  refine r_istore (ls' := [(6, 0, 0), (0, 69, 0), (1, 1, x1), (3, 1, x3), (5, 0, x5)]) E dX67_linkOf_1 (by rw [hN]; decide) rfl ?_
  refine r_pick E [1, 2, 3, 4, 0] rfl ?_
  exact r_loop (L := fun s => [(0, 69, 0), (1, 1, x1), (3, 1, x3), (5, 0, x5), (6, 0, s)]) (w_fX67_linkOf_B3 E hN hT x1 x3 x5) zBIG 0
theorem k_fX67_linkOf (l : Launch) (G : zG) (x1 : Int) (x3 : Int) (x5 : Int) : zCt l G yX67_linkOf cX67_linkOf 7 (some .int) 1 [(69, 0), (1, x1), (1, x3), (0, x5)] (some 0) (fX67_linkOf x1 x3 x5) := zCt.of (by decide) (Nat.le_of_ble_eq_true rfl) (fun K E _ _ hN hT => w_fX67_linkOf E hN hT x1 x3 x5)
theorem dX67_behindWord_0 : decode cX67_behindWord 0 = .ok (.aload_n 0, 1) := by decide +kernel
theorem dX67_behindWord_1 : decode cX67_behindWord 1 = .ok (.getfield 828, 3) := by decide +kernel
theorem dX67_behindWord_4 : decode cX67_behindWord 4 = .ok (.istore_n 1, 1) := by decide +kernel
theorem dX67_behindWord_5 : decode cX67_behindWord 5 = .ok (.iload_n 1, 1) := by decide +kernel
theorem dX67_behindWord_6 : decode cX67_behindWord 6 = .ok (.aload_n 0, 1) := by decide +kernel
theorem dX67_behindWord_7 : decode cX67_behindWord 7 = .ok (.getfield 834, 3) := by decide +kernel
theorem dX67_behindWord_10 : decode cX67_behindWord 10 = .ok (.if_icmp .ge 20, 3) := by decide +kernel
theorem dX67_behindWord_13 : decode cX67_behindWord 13 = .ok (.aload_n 0, 1) := by decide +kernel
theorem dX67_behindWord_14 : decode cX67_behindWord 14 = .ok (.getfield 206, 3) := by decide +kernel
theorem dX67_behindWord_17 : decode cX67_behindWord 17 = .ok (.iload_n 1, 1) := by decide +kernel
theorem dX67_behindWord_18 : decode cX67_behindWord 18 = .ok (.iaload, 1) := by decide +kernel
theorem dX67_behindWord_19 : decode cX67_behindWord 19 = .ok (.bipush 32, 2) := by decide +kernel
theorem dX67_behindWord_21 : decode cX67_behindWord 21 = .ok (.if_icmp .ne 9, 3) := by decide +kernel
theorem dX67_behindWord_24 : decode cX67_behindWord 24 = .ok (.iinc 1 1, 3) := by decide +kernel
theorem dX67_behindWord_27 : decode cX67_behindWord 27 = .ok (.goto (-22), 3) := by decide +kernel
theorem dX67_behindWord_30 : decode cX67_behindWord 30 = .ok (.iload_n 1, 1) := by decide +kernel
theorem dX67_behindWord_31 : decode cX67_behindWord 31 = .ok (.aload_n 0, 1) := by decide +kernel
theorem dX67_behindWord_32 : decode cX67_behindWord 32 = .ok (.getfield 834, 3) := by decide +kernel
theorem dX67_behindWord_35 : decode cX67_behindWord 35 = .ok (.if_icmp .ge 24, 3) := by decide +kernel
theorem dX67_behindWord_38 : decode cX67_behindWord 38 = .ok (.aload_n 0, 1) := by decide +kernel
theorem dX67_behindWord_39 : decode cX67_behindWord 39 = .ok (.getfield 206, 3) := by decide +kernel
theorem dX67_behindWord_42 : decode cX67_behindWord 42 = .ok (.iload_n 1, 1) := by decide +kernel
theorem dX67_behindWord_43 : decode cX67_behindWord 43 = .ok (.iaload, 1) := by decide +kernel
theorem dX67_behindWord_44 : decode cX67_behindWord 44 = .ok (.invokestatic 840, 3) := by decide +kernel
theorem dX67_behindWord_47 : decode cX67_behindWord 47 = .ok (.ifCond .ne 12, 3) := by decide +kernel
theorem dX67_behindWord_50 : decode cX67_behindWord 50 = .ok (.aload_n 0, 1) := by decide +kernel
theorem dX67_behindWord_51 : decode cX67_behindWord 51 = .ok (.getfield 206, 3) := by decide +kernel
theorem dX67_behindWord_54 : decode cX67_behindWord 54 = .ok (.iload_n 1, 1) := by decide +kernel
theorem dX67_behindWord_55 : decode cX67_behindWord 55 = .ok (.iaload, 1) := by decide +kernel
theorem dX67_behindWord_56 : decode cX67_behindWord 56 = .ok (.goto 4, 3) := by decide +kernel
theorem dX67_behindWord_59 : decode cX67_behindWord 59 = .ok (.iconst 0, 1) := by decide +kernel
theorem dX67_behindWord_60 : decode cX67_behindWord 60 = .ok (.ireturn, 1) := by decide +kernel
theorem zy_X67_behindWord : yX67_behindWord.cls ≠ "java/lang/invoke/MethodHandle" ∧ yX67_behindWord.cls ≠ "java/lang/invoke/VarHandle" ∧ (parseMethodDescriptor yX67_behindWord.desc).map (fun d => d.parameters.length) = some 0 := by decide +kernel
theorem w_fX67_behindWord_J30 {K : zK} (E : zE K cX67_behindWord "RingHouseModel" (some .int) 3) (hN : zNl K = 2) (hT : zTr K = (some 0)) (x1 : Int) : zR K 30 [(0, 69, 0), (1, 0, x1)] [] (fX67_behindWord_J30 x1) := by
  refine r_iload_n E dX67_behindWord_30 rfl 1 rfl ?_
  refine r_aload_n E dX67_behindWord_31 rfl 0 rfl ?_
  refine r_get E zc_69 zt_6890 dX67_behindWord_32 q3305 zr_69 (zg_6890 _) (by decide) (fun v3 => ?_)
  refine r_icmp_ge E 59 (by decide) dX67_behindWord_35 (fun _ => ?_) (fun _ => ?_)
  · refine r_iconst E dX67_behindWord_59 (zkI (by decide) (by decide)) ?_
    exact r_ireturn E rfl hT dX67_behindWord_60
  · refine r_aload_n E dX67_behindWord_38 rfl 0 rfl ?_
    refine r_gec (y := 0) E zc_69 dX67_behindWord_39 q3283 zr_69 (zh_6868 (by decide)) (by decide) ?_
    refine r_iload_n E dX67_behindWord_42 rfl 1 rfl ?_
    refine r_iaload E zc_6868 za_6868 zt_6868 zx_6868 rfl rfl dX67_behindWord_43 (by decide) (fun v4 => ?_)
    refine r_callS E [(0, v4)] [] rfl q4142 q4143 q294 q4144 dX67_behindWord_44 zy_X67_isOfWord rfl (by omega) (by decide) (Nat.le_of_ble_eq_true rfl) (fun l G => k_fX67_isOfWord l G v4) (fun v5 => ?_)
    refine r_if_ne E 59 (by decide) dX67_behindWord_47 (fun _ => ?_) (fun _ => ?_)
    · refine r_iconst E dX67_behindWord_59 (zkI (by decide) (by decide)) ?_
      exact r_ireturn E rfl hT dX67_behindWord_60
    · refine r_aload_n E dX67_behindWord_50 rfl 0 rfl ?_
      refine r_gec (y := 0) E zc_69 dX67_behindWord_51 q3283 zr_69 (zh_6868 (by decide)) (by decide) ?_
      refine r_iload_n E dX67_behindWord_54 rfl 1 rfl ?_
      refine r_iaload E zc_6868 za_6868 zt_6868 zx_6868 rfl rfl dX67_behindWord_55 (by decide) (fun v6 => ?_)
      refine r_goto E 60 (by decide) dX67_behindWord_56 ?_
      exact r_ireturn E rfl hT dX67_behindWord_60
theorem w_fX67_behindWord_B5 {K : zK} (E : zE K cX67_behindWord "RingHouseModel" (some .int) 3) (hN : zNl K = 2) (hT : zTr K = (some 0)) : ∀ r5 : Int → zX, (∀ s : Int, zR K 5 [(0, 69, 0), (1, 0, s)] [] (r5 s)) → ∀ s : Int, zR K 5 [(0, 69, 0), (1, 0, s)] [] (fX67_behindWord_B5 r5 s) := by
  intro r5 hr5 x1
  refine r_iload_n E dX67_behindWord_5 rfl 1 rfl ?_
  refine r_aload_n E dX67_behindWord_6 rfl 0 rfl ?_
  refine r_get E zc_69 zt_6890 dX67_behindWord_7 q3305 zr_69 (zg_6890 _) (by decide) (fun v2 => ?_)
  refine r_icmp_ge E 30 (by decide) dX67_behindWord_10 (fun _ => ?_) (fun _ => ?_)
  · exact w_fX67_behindWord_J30 E hN hT x1
  · refine r_aload_n E dX67_behindWord_13 rfl 0 rfl ?_
    refine r_gec (y := 0) E zc_69 dX67_behindWord_14 q3283 zr_69 (zh_6868 (by decide)) (by decide) ?_
    refine r_iload_n E dX67_behindWord_17 rfl 1 rfl ?_
    refine r_iaload E zc_6868 za_6868 zt_6868 zx_6868 rfl rfl dX67_behindWord_18 (by decide) (fun v7 => ?_)
    refine r_bipush E dX67_behindWord_19 (by decide) (zkI (by decide) (by decide)) ?_
    refine r_icmp_ne E 30 (by decide) dX67_behindWord_21 (fun _ => ?_) (fun _ => ?_)
    · exact w_fX67_behindWord_J30 E hN hT x1
    · refine r_iinc (ls' := fun v8 => [(1, 0, v8), (0, 69, 0)]) E 1 rfl (by rw [hN]; decide) (fun _ => rfl) dX67_behindWord_24 (fun v8 _ => ?_)
      refine r_goto E 5 (by decide) dX67_behindWord_27 ?_
      refine r_pick E [1, 0] rfl ?_
      exact hr5 v8
theorem w_fX67_behindWord {K : zK} (E : zE K cX67_behindWord "RingHouseModel" (some .int) 3) (hN : zNl K = 2) (hT : zTr K = (some 0)) : zR K 0 [(0, 69, 0)] [] (fX67_behindWord) := by
  refine r_aload_n E dX67_behindWord_0 rfl 0 rfl ?_
  refine r_get E zc_69 zt_6889 dX67_behindWord_1 q3304 zr_69 (zg_6889 _) (by decide) (fun v1 => ?_)
  refine r_istore_n (ls' := [(1, 0, v1), (0, 69, 0)]) E dX67_behindWord_4 rfl (by rw [hN]; decide) rfl ?_
  refine r_pick E [1, 0] rfl ?_
  exact r_loop (L := fun s => [(0, 69, 0), (1, 0, s)]) (w_fX67_behindWord_B5 E hN hT) zBIG v1
theorem k_fX67_behindWord (l : Launch) (G : zG) : zCt l G yX67_behindWord cX67_behindWord 2 (some .int) 3 [(69, 0)] (some 0) (fX67_behindWord) := zCt.of (by decide) (Nat.le_of_ble_eq_true rfl) (fun K E _ _ hN hT => w_fX67_behindWord E hN hT)
theorem dX67_operand_0 : decode cX67_operand 0 = .ok (.lconst 0, 1) := by decide +kernel
theorem dX67_operand_1 : decode cX67_operand 1 = .ok (.lstore_n 1, 1) := by decide +kernel
theorem dX67_operand_2 : decode cX67_operand 2 = .ok (.lconst 0, 1) := by decide +kernel
theorem dX67_operand_3 : decode cX67_operand 3 = .ok (.lstore_n 3, 1) := by decide +kernel
theorem dX67_operand_4 : decode cX67_operand 4 = .ok (.lconst 0, 1) := by decide +kernel
theorem dX67_operand_5 : decode cX67_operand 5 = .ok (.lstore 5, 2) := by decide +kernel
theorem dX67_operand_7 : decode cX67_operand 7 = .ok (.aload_n 0, 1) := by decide +kernel
theorem dX67_operand_8 : decode cX67_operand 8 = .ok (.getfield 837, 3) := by decide +kernel
theorem dX67_operand_11 : decode cX67_operand 11 = .ok (.iconst 1, 1) := by decide +kernel
theorem dX67_operand_12 : decode cX67_operand 12 = .ok (.if_icmp .ne 10, 3) := by decide +kernel
theorem dX67_operand_15 : decode cX67_operand 15 = .ok (.aload_n 0, 1) := by decide +kernel
theorem dX67_operand_16 : decode cX67_operand 16 = .ok (.invokevirtual 926, 3) := by decide +kernel
theorem dX67_operand_19 : decode cX67_operand 19 = .ok (.goto 4, 3) := by decide +kernel
theorem dX67_operand_22 : decode cX67_operand 22 = .ok (.iconst 0, 1) := by decide +kernel
theorem dX67_operand_23 : decode cX67_operand 23 = .ok (.istore 7, 2) := by decide +kernel
theorem dX67_operand_25 : decode cX67_operand 25 = .ok (.aload_n 0, 1) := by decide +kernel
theorem dX67_operand_26 : decode cX67_operand 26 = .ok (.bipush 35, 2) := by decide +kernel
theorem dX67_operand_28 : decode cX67_operand 28 = .ok (.invokevirtual 906, 3) := by decide +kernel
theorem dX67_operand_31 : decode cX67_operand 31 = .ok (.ifCond .eq 16, 3) := by decide +kernel
theorem dX67_operand_34 : decode cX67_operand 34 = .ok (.ldc2_w 466, 3) := by decide +kernel
theorem dX67_operand_37 : decode cX67_operand 37 = .ok (.lstore_n 1, 1) := by decide +kernel
theorem dX67_operand_38 : decode cX67_operand 38 = .ok (.aload_n 0, 1) := by decide +kernel
theorem dX67_operand_39 : decode cX67_operand 39 = .ok (.invokevirtual 929, 3) := by decide +kernel
theorem dX67_operand_42 : decode cX67_operand 42 = .ok (.lstore 5, 2) := by decide +kernel
theorem dX67_operand_44 : decode cX67_operand 44 = .ok (.goto 136, 3) := by decide +kernel
theorem dX67_operand_47 : decode cX67_operand 47 = .ok (.aload_n 0, 1) := by decide +kernel
theorem dX67_operand_48 : decode cX67_operand 48 = .ok (.invokevirtual 932, 3) := by decide +kernel
theorem dX67_operand_51 : decode cX67_operand 51 = .ok (.ifCond .eq 45, 3) := by decide +kernel
theorem dX67_operand_54 : decode cX67_operand 54 = .ok (.iload 7, 2) := by decide +kernel
theorem dX67_operand_56 : decode cX67_operand 56 = .ok (.bipush 124, 2) := by decide +kernel
theorem dX67_operand_58 : decode cX67_operand 58 = .ok (.if_icmp .ne 38, 3) := by decide +kernel
theorem dX67_operand_61 : decode cX67_operand 61 = .ok (.lconst 1, 1) := by decide +kernel
theorem dX67_operand_62 : decode cX67_operand 62 = .ok (.lstore_n 1, 1) := by decide +kernel
theorem dX67_operand_63 : decode cX67_operand 63 = .ok (.aload_n 0, 1) := by decide +kernel
theorem dX67_operand_64 : decode cX67_operand 64 = .ok (.getfield 206, 3) := by decide +kernel
theorem dX67_operand_67 : decode cX67_operand 67 = .ok (.aload_n 0, 1) := by decide +kernel
theorem dX67_operand_68 : decode cX67_operand 68 = .ok (.getfield 831, 3) := by decide +kernel
theorem dX67_operand_71 : decode cX67_operand 71 = .ok (.iconst 1, 1) := by decide +kernel
theorem dX67_operand_72 : decode cX67_operand 72 = .ok (.iadd, 1) := by decide +kernel
theorem dX67_operand_73 : decode cX67_operand 73 = .ok (.iaload, 1) := by decide +kernel
theorem dX67_operand_74 : decode cX67_operand 74 = .ok (.bipush 48, 2) := by decide +kernel
theorem dX67_operand_76 : decode cX67_operand 76 = .ok (.isub, 1) := by decide +kernel
theorem dX67_operand_77 : decode cX67_operand 77 = .ok (.i2l, 1) := by decide +kernel
theorem dX67_operand_78 : decode cX67_operand 78 = .ok (.lstore_n 3, 1) := by decide +kernel
theorem dX67_operand_79 : decode cX67_operand 79 = .ok (.aload_n 0, 1) := by decide +kernel
theorem dX67_operand_80 : decode cX67_operand 80 = .ok (.invokevirtual 846, 3) := by decide +kernel
theorem dX67_operand_83 : decode cX67_operand 83 = .ok (.aload_n 0, 1) := by decide +kernel
theorem dX67_operand_84 : decode cX67_operand 84 = .ok (.invokevirtual 846, 3) := by decide +kernel
theorem dX67_operand_87 : decode cX67_operand 87 = .ok (.aload_n 0, 1) := by decide +kernel
theorem dX67_operand_88 : decode cX67_operand 88 = .ok (.invokevirtual 929, 3) := by decide +kernel
theorem dX67_operand_91 : decode cX67_operand 91 = .ok (.lstore 5, 2) := by decide +kernel
theorem dX67_operand_93 : decode cX67_operand 93 = .ok (.goto 87, 3) := by decide +kernel
theorem dX67_operand_96 : decode cX67_operand 96 = .ok (.iload 7, 2) := by decide +kernel
theorem dX67_operand_98 : decode cX67_operand 98 = .ok (.bipush 36, 2) := by decide +kernel
theorem dX67_operand_100 : decode cX67_operand 100 = .ok (.if_icmp .ne 74, 3) := by decide +kernel
theorem dX67_operand_103 : decode cX67_operand 103 = .ok (.aload_n 0, 1) := by decide +kernel
theorem dX67_operand_104 : decode cX67_operand 104 = .ok (.getfield 831, 3) := by decide +kernel
theorem dX67_operand_107 : decode cX67_operand 107 = .ok (.istore 8, 2) := by decide +kernel
theorem dX67_operand_109 : decode cX67_operand 109 = .ok (.ldc2_w 508, 3) := by decide +kernel
theorem dX67_operand_112 : decode cX67_operand 112 = .ok (.lstore_n 1, 1) := by decide +kernel
theorem dX67_operand_113 : decode cX67_operand 113 = .ok (.aload_n 0, 1) := by decide +kernel
theorem dX67_operand_114 : decode cX67_operand 114 = .ok (.invokevirtual 899, 3) := by decide +kernel
theorem dX67_operand_117 : decode cX67_operand 117 = .ok (.lstore 9, 2) := by decide +kernel
theorem dX67_operand_119 : decode cX67_operand 119 = .ok (.aload_n 0, 1) := by decide +kernel
theorem dX67_operand_120 : decode cX67_operand 120 = .ok (.getfield 813, 3) := by decide +kernel
theorem dX67_operand_123 : decode cX67_operand 123 = .ok (.ifCond .ne 7, 3) := by decide +kernel
theorem dX67_operand_126 : decode cX67_operand 126 = .ok (.aload_n 0, 1) := by decide +kernel
theorem dX67_operand_127 : decode cX67_operand 127 = .ok (.invokevirtual 846, 3) := by decide +kernel
theorem dX67_operand_130 : decode cX67_operand 130 = .ok (.aload_n 0, 1) := by decide +kernel
theorem dX67_operand_131 : decode cX67_operand 131 = .ok (.getfield 813, 3) := by decide +kernel
theorem dX67_operand_134 : decode cX67_operand 134 = .ok (.ifCond .ne 10, 3) := by decide +kernel
theorem dX67_operand_137 : decode cX67_operand 137 = .ok (.aload_n 0, 1) := by decide +kernel
theorem dX67_operand_138 : decode cX67_operand 138 = .ok (.invokevirtual 899, 3) := by decide +kernel
theorem dX67_operand_141 : decode cX67_operand 141 = .ok (.goto 4, 3) := by decide +kernel
theorem dX67_operand_144 : decode cX67_operand 144 = .ok (.lconst 0, 1) := by decide +kernel
theorem dX67_operand_145 : decode cX67_operand 145 = .ok (.lstore 11, 2) := by decide +kernel
theorem dX67_operand_147 : decode cX67_operand 147 = .ok (.aload_n 0, 1) := by decide +kernel
theorem dX67_operand_148 : decode cX67_operand 148 = .ok (.getfield 813, 3) := by decide +kernel
theorem dX67_operand_151 : decode cX67_operand 151 = .ok (.ifCond .ne 17, 3) := by decide +kernel
theorem dX67_operand_154 : decode cX67_operand 154 = .ok (.aload_n 0, 1) := by decide +kernel
theorem dX67_operand_155 : decode cX67_operand 155 = .ok (.lload 9, 2) := by decide +kernel
theorem dX67_operand_157 : decode cX67_operand 157 = .ok (.lload 11, 2) := by decide +kernel
theorem dX67_operand_159 : decode cX67_operand 159 = .ok (.iload 8, 2) := by decide +kernel
theorem dX67_operand_161 : decode cX67_operand 161 = .ok (.invokevirtual 935, 3) := by decide +kernel
theorem dX67_operand_164 : decode cX67_operand 164 = .ok (.i2l, 1) := by decide +kernel
theorem dX67_operand_165 : decode cX67_operand 165 = .ok (.goto 4, 3) := by decide +kernel
theorem dX67_operand_168 : decode cX67_operand 168 = .ok (.lconst 0, 1) := by decide +kernel
theorem dX67_operand_169 : decode cX67_operand 169 = .ok (.lstore 5, 2) := by decide +kernel
theorem dX67_operand_171 : decode cX67_operand 171 = .ok (.goto 9, 3) := by decide +kernel
theorem dX67_operand_174 : decode cX67_operand 174 = .ok (.aload_n 0, 1) := by decide +kernel
theorem dX67_operand_175 : decode cX67_operand 175 = .ok (.invokevirtual 929, 3) := by decide +kernel
theorem dX67_operand_178 : decode cX67_operand 178 = .ok (.lstore 5, 2) := by decide +kernel
theorem dX67_operand_180 : decode cX67_operand 180 = .ok (.aload_n 0, 1) := by decide +kernel
theorem dX67_operand_181 : decode cX67_operand 181 = .ok (.getfield 813, 3) := by decide +kernel
theorem dX67_operand_184 : decode cX67_operand 184 = .ok (.ifCond .ne 40, 3) := by decide +kernel
theorem dX67_operand_187 : decode cX67_operand 187 = .ok (.lload_n 1, 1) := by decide +kernel
theorem dX67_operand_188 : decode cX67_operand 188 = .ok (.ldc2_w 466, 3) := by decide +kernel
theorem dX67_operand_191 : decode cX67_operand 191 = .ok (.lcmp, 1) := by decide +kernel
theorem dX67_operand_192 : decode cX67_operand 192 = .ok (.ifCond .eq 32, 3) := by decide +kernel
theorem dX67_operand_195 : decode cX67_operand 195 = .ok (.aload_n 0, 1) := by decide +kernel
theorem dX67_operand_196 : decode cX67_operand 196 = .ok (.bipush 42, 2) := by decide +kernel
theorem dX67_operand_198 : decode cX67_operand 198 = .ok (.invokevirtual 906, 3) := by decide +kernel
theorem dX67_operand_201 : decode cX67_operand 201 = .ok (.ifCond .eq 23, 3) := by decide +kernel
theorem dX67_operand_204 : decode cX67_operand 204 = .ok (.lload_n 1, 1) := by decide +kernel
theorem dX67_operand_205 : decode cX67_operand 205 = .ok (.ldc2_w 508, 3) := by decide +kernel
theorem dX67_operand_208 : decode cX67_operand 208 = .ok (.lcmp, 1) := by decide +kernel
theorem dX67_operand_209 : decode cX67_operand 209 = .ok (.ifCond .ne 9, 3) := by decide +kernel
theorem dX67_operand_212 : decode cX67_operand 212 = .ok (.ldc2_w 939, 3) := by decide +kernel
theorem dX67_operand_215 : decode cX67_operand 215 = .ok (.goto 8, 3) := by decide +kernel
theorem dX67_operand_218 : decode cX67_operand 218 = .ok (.lload_n 1, 1) := by decide +kernel
theorem dX67_operand_219 : decode cX67_operand 219 = .ok (.ldc2_w 719, 3) := by decide +kernel
theorem dX67_operand_222 : decode cX67_operand 222 = .ok (.ladd, 1) := by decide +kernel
theorem dX67_operand_223 : decode cX67_operand 223 = .ok (.lstore_n 1, 1) := by decide +kernel
theorem dX67_operand_224 : decode cX67_operand 224 = .ok (.lconst 0, 1) := by decide +kernel
theorem dX67_operand_225 : decode cX67_operand 225 = .ok (.lstore 8, 2) := by decide +kernel
theorem dX67_operand_227 : decode cX67_operand 227 = .ok (.aload_n 0, 1) := by decide +kernel
theorem dX67_operand_228 : decode cX67_operand 228 = .ok (.getfield 813, 3) := by decide +kernel
theorem dX67_operand_231 : decode cX67_operand 231 = .ok (.ifCond .ne 116, 3) := by decide +kernel
theorem dX67_operand_234 : decode cX67_operand 234 = .ok (.aload_n 0, 1) := by decide +kernel
theorem dX67_operand_235 : decode cX67_operand 235 = .ok (.bipush 44, 2) := by decide +kernel
theorem dX67_operand_237 : decode cX67_operand 237 = .ok (.invokevirtual 906, 3) := by decide +kernel
theorem dX67_operand_240 : decode cX67_operand 240 = .ok (.ifCond .eq 107, 3) := by decide +kernel
theorem dX67_operand_243 : decode cX67_operand 243 = .ok (.aload_n 0, 1) := by decide +kernel
theorem dX67_operand_244 : decode cX67_operand 244 = .ok (.getfield 837, 3) := by decide +kernel
theorem dX67_operand_247 : decode cX67_operand 247 = .ok (.iconst 1, 1) := by decide +kernel
theorem dX67_operand_248 : decode cX67_operand 248 = .ok (.if_icmp .ne 58, 3) := by decide +kernel
theorem dX67_operand_251 : decode cX67_operand 251 = .ok (.aload_n 0, 1) := by decide +kernel
theorem dX67_operand_252 : decode cX67_operand 252 = .ok (.getfield 828, 3) := by decide +kernel
theorem dX67_operand_255 : decode cX67_operand 255 = .ok (.aload_n 0, 1) := by decide +kernel
theorem dX67_operand_256 : decode cX67_operand 256 = .ok (.getfield 831, 3) := by decide +kernel
theorem dX67_operand_259 : decode cX67_operand 259 = .ok (.isub, 1) := by decide +kernel
theorem dX67_operand_260 : decode cX67_operand 260 = .ok (.iconst 2, 1) := by decide +kernel
theorem dX67_operand_261 : decode cX67_operand 261 = .ok (.if_icmp .ne 45, 3) := by decide +kernel
theorem dX67_operand_264 : decode cX67_operand 264 = .ok (.aload_n 0, 1) := by decide +kernel
theorem dX67_operand_265 : decode cX67_operand 265 = .ok (.getfield 206, 3) := by decide +kernel
theorem dX67_operand_268 : decode cX67_operand 268 = .ok (.aload_n 0, 1) := by decide +kernel
theorem dX67_operand_269 : decode cX67_operand 269 = .ok (.getfield 831, 3) := by decide +kernel
theorem dX67_operand_272 : decode cX67_operand 272 = .ok (.iaload, 1) := by decide +kernel
theorem dX67_operand_273 : decode cX67_operand 273 = .ok (.bipush 120, 2) := by decide +kernel
theorem dX67_operand_275 : decode cX67_operand 275 = .ok (.if_icmp .ne 31, 3) := by decide +kernel
theorem dX67_operand_278 : decode cX67_operand 278 = .ok (.aload_n 0, 1) := by decide +kernel
theorem dX67_operand_279 : decode cX67_operand 279 = .ok (.getfield 206, 3) := by decide +kernel
theorem dX67_operand_282 : decode cX67_operand 282 = .ok (.aload_n 0, 1) := by decide +kernel
theorem dX67_operand_283 : decode cX67_operand 283 = .ok (.getfield 831, 3) := by decide +kernel
theorem dX67_operand_286 : decode cX67_operand 286 = .ok (.iconst 1, 1) := by decide +kernel
theorem dX67_operand_287 : decode cX67_operand 287 = .ok (.iadd, 1) := by decide +kernel
theorem dX67_operand_288 : decode cX67_operand 288 = .ok (.iaload, 1) := by decide +kernel
theorem dX67_operand_289 : decode cX67_operand 289 = .ok (.i2l, 1) := by decide +kernel
theorem dX67_operand_290 : decode cX67_operand 290 = .ok (.ldc2_w 799, 3) := by decide +kernel
theorem dX67_operand_293 : decode cX67_operand 293 = .ok (.ldc2_w 941, 3) := by decide +kernel
theorem dX67_operand_296 : decode cX67_operand 296 = .ok (.invokestatic 363, 3) := by decide +kernel
theorem dX67_operand_299 : decode cX67_operand 299 = .ok (.ifCond .eq 7, 3) := by decide +kernel
theorem dX67_operand_302 : decode cX67_operand 302 = .ok (.iconst 1, 1) := by decide +kernel
theorem dX67_operand_303 : decode cX67_operand 303 = .ok (.goto 4, 3) := by decide +kernel
theorem dX67_operand_306 : decode cX67_operand 306 = .ok (.iconst 0, 1) := by decide +kernel
theorem dX67_operand_307 : decode cX67_operand 307 = .ok (.istore 10, 2) := by decide +kernel
theorem dX67_operand_309 : decode cX67_operand 309 = .ok (.iload 10, 2) := by decide +kernel
theorem dX67_operand_311 : decode cX67_operand 311 = .ok (.ifCond .ne 13, 3) := by decide +kernel
theorem dX67_operand_314 : decode cX67_operand 314 = .ok (.aload_n 0, 1) := by decide +kernel
theorem dX67_operand_315 : decode cX67_operand 315 = .ok (.iconst 1, 1) := by decide +kernel
theorem dX67_operand_316 : decode cX67_operand 316 = .ok (.aload_n 0, 1) := by decide +kernel
theorem dX67_operand_317 : decode cX67_operand 317 = .ok (.getfield 831, 3) := by decide +kernel
theorem dX67_operand_320 : decode cX67_operand 320 = .ok (.invokevirtual 854, 3) := by decide +kernel
theorem dX67_operand_323 : decode cX67_operand 323 = .ok (.return_, 1) := by decide +kernel
theorem dX67_operand_324 : decode cX67_operand 324 = .ok (.aload_n 0, 1) := by decide +kernel
theorem dX67_operand_325 : decode cX67_operand 325 = .ok (.getfield 206, 3) := by decide +kernel
theorem dX67_operand_328 : decode cX67_operand 328 = .ok (.aload_n 0, 1) := by decide +kernel
theorem dX67_operand_329 : decode cX67_operand 329 = .ok (.getfield 831, 3) := by decide +kernel
theorem dX67_operand_332 : decode cX67_operand 332 = .ok (.iconst 1, 1) := by decide +kernel
theorem dX67_operand_333 : decode cX67_operand 333 = .ok (.iadd, 1) := by decide +kernel
theorem dX67_operand_334 : decode cX67_operand 334 = .ok (.iaload, 1) := by decide +kernel
theorem dX67_operand_335 : decode cX67_operand 335 = .ok (.bipush 48, 2) := by decide +kernel
theorem dX67_operand_337 : decode cX67_operand 337 = .ok (.isub, 1) := by decide +kernel
theorem dX67_operand_338 : decode cX67_operand 338 = .ok (.iconst 1, 1) := by decide +kernel
theorem dX67_operand_339 : decode cX67_operand 339 = .ok (.iadd, 1) := by decide +kernel
theorem dX67_operand_340 : decode cX67_operand 340 = .ok (.i2l, 1) := by decide +kernel
theorem dX67_operand_341 : decode cX67_operand 341 = .ok (.lstore 8, 2) := by decide +kernel
theorem dX67_operand_343 : decode cX67_operand 343 = .ok (.aload_n 0, 1) := by decide +kernel
theorem dX67_operand_344 : decode cX67_operand 344 = .ok (.invokevirtual 846, 3) := by decide +kernel
theorem dX67_operand_347 : decode cX67_operand 347 = .ok (.aload_n 0, 1) := by decide +kernel
theorem dX67_operand_348 : decode cX67_operand 348 = .ok (.aload_n 0, 1) := by decide +kernel
theorem dX67_operand_349 : decode cX67_operand 349 = .ok (.getfield 876, 3) := by decide +kernel
theorem dX67_operand_352 : decode cX67_operand 352 = .ok (.i2l, 1) := by decide +kernel
theorem dX67_operand_353 : decode cX67_operand 353 = .ok (.bipush 30, 2) := by decide +kernel
theorem dX67_operand_355 : decode cX67_operand 355 = .ok (.lshl, 1) := by decide +kernel
theorem dX67_operand_356 : decode cX67_operand 356 = .ok (.lload_n 1, 1) := by decide +kernel
theorem dX67_operand_357 : decode cX67_operand 357 = .ok (.bipush 27, 2) := by decide +kernel
theorem dX67_operand_359 : decode cX67_operand 359 = .ok (.lshl, 1) := by decide +kernel
theorem dX67_operand_360 : decode cX67_operand 360 = .ok (.lor, 1) := by decide +kernel
theorem dX67_operand_361 : decode cX67_operand 361 = .ok (.lload_n 3, 1) := by decide +kernel
theorem dX67_operand_362 : decode cX67_operand 362 = .ok (.bipush 24, 2) := by decide +kernel
theorem dX67_operand_364 : decode cX67_operand 364 = .ok (.lshl, 1) := by decide +kernel
theorem dX67_operand_365 : decode cX67_operand 365 = .ok (.lor, 1) := by decide +kernel
theorem dX67_operand_366 : decode cX67_operand 366 = .ok (.aload_n 0, 1) := by decide +kernel
theorem dX67_operand_367 : decode cX67_operand 367 = .ok (.getfield 879, 3) := by decide +kernel
theorem dX67_operand_370 : decode cX67_operand 370 = .ok (.i2l, 1) := by decide +kernel
theorem dX67_operand_371 : decode cX67_operand 371 = .ok (.bipush 21, 2) := by decide +kernel
theorem dX67_operand_373 : decode cX67_operand 373 = .ok (.lshl, 1) := by decide +kernel
theorem dX67_operand_374 : decode cX67_operand 374 = .ok (.lor, 1) := by decide +kernel
theorem dX67_operand_375 : decode cX67_operand 375 = .ok (.lload 8, 2) := by decide +kernel
theorem dX67_operand_377 : decode cX67_operand 377 = .ok (.bipush 18, 2) := by decide +kernel
theorem dX67_operand_379 : decode cX67_operand 379 = .ok (.lshl, 1) := by decide +kernel
theorem dX67_operand_380 : decode cX67_operand 380 = .ok (.lor, 1) := by decide +kernel
theorem dX67_operand_381 : decode cX67_operand 381 = .ok (.lload 5, 2) := by decide +kernel
theorem dX67_operand_383 : decode cX67_operand 383 = .ok (.lor, 1) := by decide +kernel
theorem dX67_operand_384 : decode cX67_operand 384 = .ok (.invokevirtual 943, 3) := by decide +kernel
theorem dX67_operand_387 : decode cX67_operand 387 = .ok (.return_, 1) := by decide +kernel
theorem zy_X67_operand : yX67_operand.cls ≠ "java/lang/invoke/MethodHandle" ∧ yX67_operand.cls ≠ "java/lang/invoke/VarHandle" ∧ (parseMethodDescriptor yX67_operand.desc).map (fun d => d.parameters.length) = some 0 := by decide +kernel
theorem w_fX67_operand_J347 {K : zK} (E : zE K cX67_operand "RingHouseModel" none 8) (hN : zNl K = 13) (hT : zTr K = none) (x1 : Int) (x3 : Int) (x5 : Int) (x8 : Int) : zR K 347 [(0, 69, 0), (1, 1, x1), (3, 1, x3), (5, 1, x5), (8, 1, x8)] [] (fX67_operand_J347 x1 x3 x5 x8) := by
  refine r_aload_n E dX67_operand_347 rfl 0 rfl ?_
  refine r_aload_n E dX67_operand_348 rfl 0 rfl ?_
  refine r_get E zc_69 zt_6910 dX67_operand_349 q3324 zr_69 (zg_6910 _) (by decide) (fun v7 => ?_)
  refine r_i2l E dX67_operand_352 ?_
  refine r_bipush E dX67_operand_353 (by decide) (zkI (by decide) (by decide)) ?_
  refine r_lshl (P := 1073741824) E (by decide) dX67_operand_355 ?_
  refine r_lload_n E dX67_operand_356 rfl 1 rfl ?_
  refine r_bipush E dX67_operand_357 (by decide) (zkI (by decide) (by decide)) ?_
  refine r_lshl (P := 134217728) E (by decide) dX67_operand_359 ?_
  refine r_lor E dX67_operand_360 ?_
  refine r_lload_n E dX67_operand_361 rfl 2 rfl ?_
  refine r_bipush E dX67_operand_362 (by decide) (zkI (by decide) (by decide)) ?_
  refine r_lshl (P := 16777216) E (by decide) dX67_operand_364 ?_
  refine r_lor E dX67_operand_365 ?_
  refine r_aload_n E dX67_operand_366 rfl 0 rfl ?_
  refine r_get E zc_69 zt_6911 dX67_operand_367 q3325 zr_69 (zg_6911 _) (by decide) (fun v8 => ?_)
  refine r_i2l E dX67_operand_370 ?_
  refine r_bipush E dX67_operand_371 (by decide) (zkI (by decide) (by decide)) ?_
  refine r_lshl (P := 2097152) E (by decide) dX67_operand_373 ?_
  refine r_lor E dX67_operand_374 ?_
  refine r_lload E dX67_operand_375 4 rfl ?_
  refine r_bipush E dX67_operand_377 (by decide) (zkI (by decide) (by decide)) ?_
  refine r_lshl (P := 262144) E (by decide) dX67_operand_379 ?_
  refine r_lor E dX67_operand_380 ?_
  refine r_lload E dX67_operand_381 3 rfl ?_
  refine r_lor E dX67_operand_383 ?_
  refine r_callV E [(1, (zoR (zoR (zoR (zoR (zoR (zl (v7 * 1073741824)) (zl (x1 * 134217728))) (zl (x3 * 16777216))) (zl (v8 * 2097152))) (zl (x8 * 262144))) x5))] [] rfl zc_69 zr_69 (fun o _ => ⟨_, zw_X67.1 o, rfl⟩) (lw_V q4198 q4200 qs184 q294 q4201) dX67_operand_384 zy_X67_emit rfl (by omega) (by decide) (Nat.le_of_ble_eq_true rfl) (by decide) (fun l G => k_fX67_emit l G (zoR (zoR (zoR (zoR (zoR (zl (v7 * 1073741824)) (zl (x1 * 134217728))) (zl (x3 * 16777216))) (zl (v8 * 2097152))) (zl (x8 * 262144))) x5)) (fun _ => ?_)
  exact r_return E rfl hT dX67_operand_387
theorem w_fX67_operand_J307 {K : zK} (E : zE K cX67_operand "RingHouseModel" none 8) (hN : zNl K = 13) (hT : zTr K = none) (x1 : Int) (x3 : Int) (x5 : Int) (s0 : Int) : zR K 307 [(0, 69, 0), (1, 1, x1), (3, 1, x3), (5, 1, x5)] [(0, s0)] (fX67_operand_J307 x1 x3 x5 s0) := by
  refine r_istore (ls' := [(10, 0, s0), (0, 69, 0), (1, 1, x1), (3, 1, x3), (5, 1, x5)]) E dX67_operand_307 (by rw [hN]; decide) rfl ?_
  refine r_iload E dX67_operand_309 0 rfl ?_
  refine r_if_ne E 324 (by decide) dX67_operand_311 (fun _ => ?_) (fun _ => ?_)
  · refine r_aload_n E dX67_operand_324 rfl 1 rfl ?_
    refine r_gec (y := 0) E zc_69 dX67_operand_325 q3283 zr_69 (zh_6868 (by decide)) (by decide) ?_
    refine r_aload_n E dX67_operand_328 rfl 1 rfl ?_
    refine r_get E zc_69 zt_6888 dX67_operand_329 q3303 zr_69 (zg_6888 _) (by decide) (fun v12 => ?_)
    refine r_iconst E dX67_operand_332 (zkI (by decide) (by decide)) ?_
    refine r_iadd E dX67_operand_333 ?_
    refine r_iaload E zc_6868 za_6868 zt_6868 zx_6868 rfl rfl dX67_operand_334 (by decide) (fun v13 => ?_)
    refine r_bipush E dX67_operand_335 (by decide) (zkI (by decide) (by decide)) ?_
    refine r_isub E dX67_operand_337 ?_
    refine r_iconst E dX67_operand_338 (zkI (by decide) (by decide)) ?_
    refine r_iadd E dX67_operand_339 ?_
    refine r_i2l E dX67_operand_340 ?_
    refine r_let E (fun v14 ev14 => ?_)
    refine r_lstore (ls' := [(8, 1, v14), (10, 0, s0), (0, 69, 0), (1, 1, x1), (3, 1, x3), (5, 1, x5)]) E dX67_operand_341 (by rw [hN]; decide) rfl ?_
    refine r_aload_n E dX67_operand_343 rfl 2 rfl ?_
    refine r_callV E [] [] rfl zc_69 zr_69 (fun o _ => ⟨_, zw_X67.1 o, rfl⟩) (lw_V q4138 q4140 qs175 q294 q4141) dX67_operand_344 zy_X67_next rfl (by omega) (by decide) (Nat.le_of_ble_eq_true rfl) (by decide) (fun l G => k_fX67_next l G) (fun _ => ?_)
    refine r_pick E [2, 3, 4, 5, 0] rfl ?_
    exact w_fX67_operand_J347 E hN hT x1 x3 x5 v14
  · refine r_aload_n E dX67_operand_314 rfl 1 rfl ?_
    refine r_iconst E dX67_operand_315 (zkI (by decide) (by decide)) ?_
    refine r_aload_n E dX67_operand_316 rfl 1 rfl ?_
    refine r_get E zc_69 zt_6888 dX67_operand_317 q3303 zr_69 (zg_6888 _) (by decide) (fun v16 => ?_)
    refine r_callV E [(0, 1), (0, v16)] [] rfl zc_69 zr_69 (fun o _ => ⟨_, zw_X67.1 o, rfl⟩) (lw_V q4163 q4165 qs178 q294 q4166) dX67_operand_320 zy_X67_wrong rfl (by omega) (by decide) (Nat.le_of_ble_eq_true rfl) (by decide) (fun l G => k_fX67_wrong l G 1 v16) (fun _ => ?_)
    exact r_return E rfl hT dX67_operand_323
theorem w_fX67_operand_J306 {K : zK} (E : zE K cX67_operand "RingHouseModel" none 8) (hN : zNl K = 13) (hT : zTr K = none) (x1 : Int) (x3 : Int) (x5 : Int) : zR K 306 [(0, 69, 0), (1, 1, x1), (3, 1, x3), (5, 1, x5)] [] (fX67_operand_J306 x1 x3 x5) := by
  refine r_iconst E dX67_operand_306 (zkI (by decide) (by decide)) ?_
  exact w_fX67_operand_J307 E hN hT x1 x3 x5 0
theorem w_fX67_operand_J224 {K : zK} (E : zE K cX67_operand "RingHouseModel" none 8) (hN : zNl K = 13) (hT : zTr K = none) (x1 : Int) (x3 : Int) (x5 : Int) : zR K 224 [(0, 69, 0), (1, 1, x1), (3, 1, x3), (5, 1, x5)] [] (fX67_operand_J224 x1 x3 x5) := by
  refine r_lconst (v := 0) E dX67_operand_224 (by decide) (zkJ (by decide) (by decide)) ?_
  refine r_lstore (ls' := [(8, 1, 0), (0, 69, 0), (1, 1, x1), (3, 1, x3), (5, 1, x5)]) E dX67_operand_225 (by rw [hN]; decide) rfl ?_
  refine r_aload_n E dX67_operand_227 rfl 1 rfl ?_
  refine r_get E zc_69 zt_6891 dX67_operand_228 q3306 zr_69 (zg_6891 _) (by decide) (fun v6 => ?_)
  refine r_if_ne E 347 (by decide) dX67_operand_231 (fun _ => ?_) (fun _ => ?_)
  · refine r_pick E [1, 2, 3, 4, 0] rfl ?_
    exact w_fX67_operand_J347 E hN hT x1 x3 x5 0
  · refine r_aload_n E dX67_operand_234 rfl 1 rfl ?_
    refine r_bipush E dX67_operand_235 (by decide) (zkI (by decide) (by decide)) ?_
    refine r_callV E [(0, 44)] [] rfl zc_69 zr_69 (fun o _ => ⟨_, zw_X67.1 o, rfl⟩) (lw_V q4206 q4208 qs186 q294 q4209) dX67_operand_237 zy_X67_passes rfl (by omega) (by decide) (Nat.le_of_ble_eq_true rfl) (by decide) (fun l G => k_fX67_passes l G 44) (fun v10 => ?_)
    refine r_if_eq E 347 (by decide) dX67_operand_240 (fun _ => ?_) (fun _ => ?_)
    · refine r_pick E [1, 2, 3, 4, 0] rfl ?_
      exact w_fX67_operand_J347 E hN hT x1 x3 x5 0
    · refine r_aload_n E dX67_operand_243 rfl 1 rfl ?_
      refine r_get E zc_69 zt_6887 dX67_operand_244 q3302 zr_69 (zg_6887 _) (by decide) (fun v11 => ?_)
      refine r_iconst E dX67_operand_247 (zkI (by decide) (by decide)) ?_
      refine r_icmp_ne E 306 (by decide) dX67_operand_248 (fun _ => ?_) (fun _ => ?_)
      · refine r_pick E [1, 2, 3, 4] rfl ?_
        exact w_fX67_operand_J306 E hN hT x1 x3 x5
      · refine r_aload_n E dX67_operand_251 rfl 1 rfl ?_
        refine r_get E zc_69 zt_6889 dX67_operand_252 q3304 zr_69 (zg_6889 _) (by decide) (fun v18 => ?_)
        refine r_aload_n E dX67_operand_255 rfl 1 rfl ?_
        refine r_get E zc_69 zt_6888 dX67_operand_256 q3303 zr_69 (zg_6888 _) (by decide) (fun v19 => ?_)
        refine r_isub E dX67_operand_259 ?_
        refine r_iconst E dX67_operand_260 (zkI (by decide) (by decide)) ?_
        refine r_icmp_ne E 306 (by decide) dX67_operand_261 (fun _ => ?_) (fun _ => ?_)
        · refine r_pick E [1, 2, 3, 4] rfl ?_
          exact w_fX67_operand_J306 E hN hT x1 x3 x5
        · refine r_aload_n E dX67_operand_264 rfl 1 rfl ?_
          refine r_gec (y := 0) E zc_69 dX67_operand_265 q3283 zr_69 (zh_6868 (by decide)) (by decide) ?_
          refine r_aload_n E dX67_operand_268 rfl 1 rfl ?_
          refine r_get E zc_69 zt_6888 dX67_operand_269 q3303 zr_69 (zg_6888 _) (by decide) (fun v20 => ?_)
          refine r_iaload E zc_6868 za_6868 zt_6868 zx_6868 rfl rfl dX67_operand_272 (by decide) (fun v21 => ?_)
          refine r_bipush E dX67_operand_273 (by decide) (zkI (by decide) (by decide)) ?_
          refine r_icmp_ne E 306 (by decide) dX67_operand_275 (fun _ => ?_) (fun _ => ?_)
          · refine r_pick E [1, 2, 3, 4] rfl ?_
            exact w_fX67_operand_J306 E hN hT x1 x3 x5
          · refine r_aload_n E dX67_operand_278 rfl 1 rfl ?_
            refine r_gec (y := 0) E zc_69 dX67_operand_279 q3283 zr_69 (zh_6868 (by decide)) (by decide) ?_
            refine r_aload_n E dX67_operand_282 rfl 1 rfl ?_
            refine r_get E zc_69 zt_6888 dX67_operand_283 q3303 zr_69 (zg_6888 _) (by decide) (fun v22 => ?_)
            refine r_iconst E dX67_operand_286 (zkI (by decide) (by decide)) ?_
            refine r_iadd E dX67_operand_287 ?_
            refine r_iaload E zc_6868 za_6868 zt_6868 zx_6868 rfl rfl dX67_operand_288 (by decide) (fun v23 => ?_)
            refine r_i2l E dX67_operand_289 ?_
            refine r_ldc2 (v := 48) E dX67_operand_290 q4153 (by decide) (zkJ (by decide) (by decide)) ?_
            refine r_ldc2 (v := 51) E dX67_operand_293 q4253 (by decide) (zkJ (by decide) (by decide)) ?_
            refine r_callS E [(1, v23), (1, 48), (1, 51)] [] rfl q3619 q3620 q294 q3621 dX67_operand_296 zy_X67_in rfl (by omega) (by decide) (Nat.le_of_ble_eq_true rfl) (fun l G => k_fX67_in l G v23 48 51) (fun v24 => ?_)
            refine r_if_eq E 306 (by decide) dX67_operand_299 (fun _ => ?_) (fun _ => ?_)
            · refine r_pick E [1, 2, 3, 4] rfl ?_
              exact w_fX67_operand_J306 E hN hT x1 x3 x5
            · refine r_iconst E dX67_operand_302 (zkI (by decide) (by decide)) ?_
              refine r_goto E 307 (by decide) dX67_operand_303 ?_
              refine r_pick E [1, 2, 3, 4] rfl ?_
              exact w_fX67_operand_J307 E hN hT x1 x3 x5 1
theorem w_fX67_operand_J223 {K : zK} (E : zE K cX67_operand "RingHouseModel" none 8) (hN : zNl K = 13) (hT : zTr K = none) (x3 : Int) (x5 : Int) (s0 : Int) : zR K 223 [(0, 69, 0), (3, 1, x3), (5, 1, x5)] [(1, s0)] (fX67_operand_J223 x3 x5 s0) := by
  refine r_lstore_n (ls' := [(1, 1, s0), (0, 69, 0), (3, 1, x3), (5, 1, x5)]) E dX67_operand_223 rfl (by rw [hN]; decide) rfl ?_
  refine r_pick E [1, 0, 2, 3] rfl ?_
  exact w_fX67_operand_J224 E hN hT s0 x3 x5
theorem w_fX67_operand_J180 {K : zK} (E : zE K cX67_operand "RingHouseModel" none 8) (hN : zNl K = 13) (hT : zTr K = none) (x1 : Int) (x3 : Int) (x5 : Int) : zR K 180 [(0, 69, 0), (1, 1, x1), (3, 1, x3), (5, 1, x5)] [] (fX67_operand_J180 x1 x3 x5) := by
  refine r_aload_n E dX67_operand_180 rfl 0 rfl ?_
  refine r_get E zc_69 zt_6891 dX67_operand_181 q3306 zr_69 (zg_6891 _) (by decide) (fun v5 => ?_)
  refine r_if_ne E 224 (by decide) dX67_operand_184 (fun _ => ?_) (fun _ => ?_)
  · exact w_fX67_operand_J224 E hN hT x1 x3 x5
  · refine r_lload_n E dX67_operand_187 rfl 1 rfl ?_
    refine r_ldc2 (v := 2) E dX67_operand_188 q3687 (by decide) (zkJ (by decide) (by decide)) ?_
    refine r_lcmp_eq E 224 (by decide) dX67_operand_191 dX67_operand_192 (fun _ => ?_) (fun _ => ?_)
    · exact w_fX67_operand_J224 E hN hT x1 x3 x5
    · refine r_aload_n E dX67_operand_195 rfl 0 rfl ?_
      refine r_bipush E dX67_operand_196 (by decide) (zkI (by decide) (by decide)) ?_
      refine r_callV E [(0, 42)] [] rfl zc_69 zr_69 (fun o _ => ⟨_, zw_X67.1 o, rfl⟩) (lw_V q4206 q4208 qs186 q294 q4209) dX67_operand_198 zy_X67_passes rfl (by omega) (by decide) (Nat.le_of_ble_eq_true rfl) (by decide) (fun l G => k_fX67_passes l G 42) (fun v25 => ?_)
      refine r_if_eq E 224 (by decide) dX67_operand_201 (fun _ => ?_) (fun _ => ?_)
      · exact w_fX67_operand_J224 E hN hT x1 x3 x5
      · refine r_lload_n E dX67_operand_204 rfl 1 rfl ?_
        refine r_ldc2 (v := 3) E dX67_operand_205 q3802 (by decide) (zkJ (by decide) (by decide)) ?_
        refine r_lcmp_ne E 218 (by decide) dX67_operand_208 dX67_operand_209 (fun _ => ?_) (fun _ => ?_)
        · refine r_lload_n E dX67_operand_218 rfl 1 rfl ?_
          refine r_ldc2 (v := 4) E dX67_operand_219 q3983 (by decide) (zkJ (by decide) (by decide)) ?_
          refine r_ladd E dX67_operand_222 ?_
          refine r_pick E [0, 2, 3] rfl ?_
          exact w_fX67_operand_J223 E hN hT x3 x5 (zl (x1 + 4))
        · refine r_ldc2 (v := 6) E dX67_operand_212 q4252 (by decide) (zkJ (by decide) (by decide)) ?_
          refine r_goto E 223 (by decide) dX67_operand_215 ?_
          refine r_pick E [0, 2, 3] rfl ?_
          exact w_fX67_operand_J223 E hN hT x3 x5 6
theorem w_fX67_operand_J169 {K : zK} (E : zE K cX67_operand "RingHouseModel" none 8) (hN : zNl K = 13) (hT : zTr K = none) (x1 : Int) (x3 : Int) (s0 : Int) : zR K 169 [(0, 69, 0), (1, 1, x1), (3, 1, x3)] [(1, s0)] (fX67_operand_J169 x1 x3 s0) := by
  refine r_lstore (ls' := [(5, 1, s0), (0, 69, 0), (1, 1, x1), (3, 1, x3)]) E dX67_operand_169 (by rw [hN]; decide) rfl ?_
  refine r_goto E 180 (by decide) dX67_operand_171 ?_
  refine r_pick E [1, 2, 3, 0] rfl ?_
  exact w_fX67_operand_J180 E hN hT x1 x3 s0
theorem w_fX67_operand_J145 {K : zK} (E : zE K cX67_operand "RingHouseModel" none 8) (hN : zNl K = 13) (hT : zTr K = none) (x1 : Int) (x3 : Int) (x8 : Int) (x9 : Int) (s0 : Int) : zR K 145 [(0, 69, 0), (1, 1, x1), (3, 1, x3), (8, 0, x8), (9, 1, x9)] [(1, s0)] (fX67_operand_J145 x1 x3 x8 x9 s0) := by
  refine r_lstore (ls' := [(11, 1, s0), (0, 69, 0), (1, 1, x1), (3, 1, x3), (8, 0, x8), (9, 1, x9)]) E dX67_operand_145 (by rw [hN]; decide) rfl ?_
  refine r_aload_n E dX67_operand_147 rfl 1 rfl ?_
  refine r_get E zc_69 zt_6891 dX67_operand_148 q3306 zr_69 (zg_6891 _) (by decide) (fun v30 => ?_)
  refine r_if_ne E 168 (by decide) dX67_operand_151 (fun _ => ?_) (fun _ => ?_)
  · refine r_lconst (v := 0) E dX67_operand_168 (by decide) (zkJ (by decide) (by decide)) ?_
    refine r_pick E [1, 2, 3] rfl ?_
    exact w_fX67_operand_J169 E hN hT x1 x3 0
  · refine r_aload_n E dX67_operand_154 rfl 1 rfl ?_
    refine r_lload E dX67_operand_155 5 rfl ?_
    refine r_lload E dX67_operand_157 0 rfl ?_
    refine r_iload E dX67_operand_159 4 rfl ?_
    refine r_callV E [(1, x9), (1, s0), (0, x8)] [] rfl zc_69 zr_69 (fun o _ => ⟨_, zw_X67.1 o, rfl⟩) (lw_V q4248 q4250 qs196 q294 q4251) dX67_operand_161 zy_X67_linkOf rfl (by omega) (by decide) (Nat.le_of_ble_eq_true rfl) (by decide) (fun l G => k_fX67_linkOf l G x9 s0 x8) (fun v31 => ?_)
    refine r_i2l E dX67_operand_164 ?_
    refine r_goto E 169 (by decide) dX67_operand_165 ?_
    refine r_pick E [1, 2, 3] rfl ?_
    exact w_fX67_operand_J169 E hN hT x1 x3 v31
theorem w_fX67_operand_J130 {K : zK} (E : zE K cX67_operand "RingHouseModel" none 8) (hN : zNl K = 13) (hT : zTr K = none) (x1 : Int) (x3 : Int) (x8 : Int) (x9 : Int) : zR K 130 [(0, 69, 0), (1, 1, x1), (3, 1, x3), (8, 0, x8), (9, 1, x9)] [] (fX67_operand_J130 x1 x3 x8 x9) := by
  refine r_aload_n E dX67_operand_130 rfl 0 rfl ?_
  refine r_get E zc_69 zt_6891 dX67_operand_131 q3306 zr_69 (zg_6891 _) (by decide) (fun v29 => ?_)
  refine r_if_ne E 144 (by decide) dX67_operand_134 (fun _ => ?_) (fun _ => ?_)
  · refine r_lconst (v := 0) E dX67_operand_144 (by decide) (zkJ (by decide) (by decide)) ?_
    exact w_fX67_operand_J145 E hN hT x1 x3 x8 x9 0
  · refine r_aload_n E dX67_operand_137 rfl 0 rfl ?_
    refine r_callV E [] [] rfl zc_69 zr_69 (fun o _ => ⟨_, zw_X67.1 o, rfl⟩) (lw_V q4159 q4161 qs177 q294 q4162) dX67_operand_138 zy_X67_labelWord rfl (by omega) (by decide) (Nat.le_of_ble_eq_true rfl) (by decide) (fun l G => k_fX67_labelWord l G) (fun v32 => ?_)
    refine r_goto E 145 (by decide) dX67_operand_141 ?_
    exact w_fX67_operand_J145 E hN hT x1 x3 x8 x9 v32
theorem w_fX67_operand_J96 {K : zK} (E : zE K cX67_operand "RingHouseModel" none 8) (hN : zNl K = 13) (hT : zTr K = none) (x1 : Int) (x3 : Int) (x7 : Int) : zR K 96 [(0, 69, 0), (1, 1, x1), (3, 1, x3), (7, 0, x7)] [] (fX67_operand_J96 x1 x3 x7) := by
  refine r_iload E dX67_operand_96 3 rfl ?_
  refine r_bipush E dX67_operand_98 (by decide) (zkI (by decide) (by decide)) ?_
  refine r_icmp_ne E 174 (by decide) dX67_operand_100 (fun _ => ?_) (fun _ => ?_)
  · refine r_aload_n E dX67_operand_174 rfl 0 rfl ?_
    refine r_callV E [] [] rfl zc_69 zr_69 (fun o _ => ⟨_, zw_X67.1 o, rfl⟩) (lw_V q4214 q4216 qs188 q294 q4217) dX67_operand_175 zy_X67_half rfl (by omega) (by decide) (Nat.le_of_ble_eq_true rfl) (by decide) (fun l G => k_fX67_half l G) (fun v4 => ?_)
    refine r_lstore (ls' := [(5, 1, v4), (0, 69, 0), (1, 1, x1), (3, 1, x3), (7, 0, x7)]) E dX67_operand_178 (by rw [hN]; decide) rfl ?_
    refine r_pick E [1, 2, 3, 0] rfl ?_
    exact w_fX67_operand_J180 E hN hT x1 x3 v4
  · refine r_aload_n E dX67_operand_103 rfl 0 rfl ?_
    refine r_get E zc_69 zt_6888 dX67_operand_104 q3303 zr_69 (zg_6888 _) (by decide) (fun v26 => ?_)
    refine r_istore (ls' := [(8, 0, v26), (0, 69, 0), (1, 1, x1), (3, 1, x3), (7, 0, x7)]) E dX67_operand_107 (by rw [hN]; decide) rfl ?_
    refine r_ldc2 (v := 3) E dX67_operand_109 q3802 (by decide) (zkJ (by decide) (by decide)) ?_
    refine r_lstore_n (ls' := [(1, 1, 3), (8, 0, v26), (0, 69, 0), (3, 1, x3), (7, 0, x7)]) E dX67_operand_112 rfl (by rw [hN]; decide) rfl ?_
    refine r_aload_n E dX67_operand_113 rfl 2 rfl ?_
    refine r_callV E [] [] rfl zc_69 zr_69 (fun o _ => ⟨_, zw_X67.1 o, rfl⟩) (lw_V q4159 q4161 qs177 q294 q4162) dX67_operand_114 zy_X67_labelWord rfl (by omega) (by decide) (Nat.le_of_ble_eq_true rfl) (by decide) (fun l G => k_fX67_labelWord l G) (fun v27 => ?_)
    refine r_lstore (ls' := [(9, 1, v27), (1, 1, 3), (8, 0, v26), (0, 69, 0), (3, 1, x3), (7, 0, x7)]) E dX67_operand_117 (by rw [hN]; decide) rfl ?_
    refine r_aload_n E dX67_operand_119 rfl 3 rfl ?_
    refine r_get E zc_69 zt_6891 dX67_operand_120 q3306 zr_69 (zg_6891 _) (by decide) (fun v28 => ?_)
    refine r_if_ne E 130 (by decide) dX67_operand_123 (fun _ => ?_) (fun _ => ?_)
    · refine r_pick E [3, 1, 4, 2, 0] rfl ?_
      exact w_fX67_operand_J130 E hN hT 3 x3 v26 v27
    · refine r_aload_n E dX67_operand_126 rfl 3 rfl ?_
      refine r_callV E [] [] rfl zc_69 zr_69 (fun o _ => ⟨_, zw_X67.1 o, rfl⟩) (lw_V q4138 q4140 qs175 q294 q4141) dX67_operand_127 zy_X67_next rfl (by omega) (by decide) (Nat.le_of_ble_eq_true rfl) (by decide) (fun l G => k_fX67_next l G) (fun _ => ?_)
      refine r_pick E [3, 1, 4, 2, 0] rfl ?_
      exact w_fX67_operand_J130 E hN hT 3 x3 v26 v27
theorem w_fX67_operand_J23 {K : zK} (E : zE K cX67_operand "RingHouseModel" none 8) (hN : zNl K = 13) (hT : zTr K = none) (x1 : Int) (x3 : Int) (s0 : Int) : zR K 23 [(0, 69, 0), (1, 1, x1), (3, 1, x3)] [(0, s0)] (fX67_operand_J23 x1 x3 s0) := by
  refine r_istore (ls' := [(7, 0, s0), (0, 69, 0), (1, 1, x1), (3, 1, x3)]) E dX67_operand_23 (by rw [hN]; decide) rfl ?_
  refine r_aload_n E dX67_operand_25 rfl 1 rfl ?_
  refine r_bipush E dX67_operand_26 (by decide) (zkI (by decide) (by decide)) ?_
  refine r_callV E [(0, 35)] [] rfl zc_69 zr_69 (fun o _ => ⟨_, zw_X67.1 o, rfl⟩) (lw_V q4206 q4208 qs186 q294 q4209) dX67_operand_28 zy_X67_passes rfl (by omega) (by decide) (Nat.le_of_ble_eq_true rfl) (by decide) (fun l G => k_fX67_passes l G 35) (fun v2 => ?_)
  refine r_if_eq E 47 (by decide) dX67_operand_31 (fun _ => ?_) (fun _ => ?_)
  · refine r_aload_n E dX67_operand_47 rfl 1 rfl ?_
    refine r_callV E [] [] rfl zc_69 zr_69 (fun o _ => ⟨_, zw_X67.1 o, rfl⟩) (lw_V q4243 q4245 qs195 q294 q4246) dX67_operand_48 zy_X67_isP rfl (by omega) (by decide) (Nat.le_of_ble_eq_true rfl) (by decide) (fun l G => k_fX67_isP l G) (fun v3 => ?_)
    refine r_if_eq E 96 (by decide) dX67_operand_51 (fun _ => ?_) (fun _ => ?_)
    · refine r_pick E [1, 2, 3, 0] rfl ?_
      exact w_fX67_operand_J96 E hN hT x1 x3 s0
    · refine r_iload E dX67_operand_54 0 rfl ?_
      refine r_bipush E dX67_operand_56 (by decide) (zkI (by decide) (by decide)) ?_
      refine r_icmp_ne E 96 (by decide) dX67_operand_58 (fun _ => ?_) (fun _ => ?_)
      · refine r_pick E [1, 2, 3, 0] rfl ?_
        exact w_fX67_operand_J96 E hN hT x1 x3 s0
      · refine r_lconst (v := 1) E dX67_operand_61 (by decide) (zkJ (by decide) (by decide)) ?_
        refine r_lstore_n (ls' := [(1, 1, 1), (7, 0, s0), (0, 69, 0), (3, 1, x3)]) E dX67_operand_62 rfl (by rw [hN]; decide) rfl ?_
        refine r_aload_n E dX67_operand_63 rfl 2 rfl ?_
        refine r_gec (y := 0) E zc_69 dX67_operand_64 q3283 zr_69 (zh_6868 (by decide)) (by decide) ?_
        refine r_aload_n E dX67_operand_67 rfl 2 rfl ?_
        refine r_get E zc_69 zt_6888 dX67_operand_68 q3303 zr_69 (zg_6888 _) (by decide) (fun v34 => ?_)
        refine r_iconst E dX67_operand_71 (zkI (by decide) (by decide)) ?_
        refine r_iadd E dX67_operand_72 ?_
        refine r_iaload E zc_6868 za_6868 zt_6868 zx_6868 rfl rfl dX67_operand_73 (by decide) (fun v35 => ?_)
        refine r_bipush E dX67_operand_74 (by decide) (zkI (by decide) (by decide)) ?_
        refine r_isub E dX67_operand_76 ?_
        refine r_i2l E dX67_operand_77 ?_
        refine r_let E (fun v36 ev36 => ?_)
        refine r_lstore_n (ls' := [(3, 1, v36), (1, 1, 1), (7, 0, s0), (0, 69, 0)]) E dX67_operand_78 rfl (by rw [hN]; decide) rfl ?_
        refine r_aload_n E dX67_operand_79 rfl 3 rfl ?_
        refine r_callV E [] [] rfl zc_69 zr_69 (fun o _ => ⟨_, zw_X67.1 o, rfl⟩) (lw_V q4138 q4140 qs175 q294 q4141) dX67_operand_80 zy_X67_next rfl (by omega) (by decide) (Nat.le_of_ble_eq_true rfl) (by decide) (fun l G => k_fX67_next l G) (fun _ => ?_)
        refine r_aload_n E dX67_operand_83 rfl 3 rfl ?_
        refine r_callV E [] [] rfl zc_69 zr_69 (fun o _ => ⟨_, zw_X67.1 o, rfl⟩) (lw_V q4138 q4140 qs175 q294 q4141) dX67_operand_84 zy_X67_next rfl (by omega) (by decide) (Nat.le_of_ble_eq_true rfl) (by decide) (fun l G => k_fX67_next l G) (fun _ => ?_)
        refine r_aload_n E dX67_operand_87 rfl 3 rfl ?_
        refine r_callV E [] [] rfl zc_69 zr_69 (fun o _ => ⟨_, zw_X67.1 o, rfl⟩) (lw_V q4214 q4216 qs188 q294 q4217) dX67_operand_88 zy_X67_half rfl (by omega) (by decide) (Nat.le_of_ble_eq_true rfl) (by decide) (fun l G => k_fX67_half l G) (fun v39 => ?_)
        refine r_lstore (ls' := [(5, 1, v39), (3, 1, v36), (1, 1, 1), (7, 0, s0), (0, 69, 0)]) E dX67_operand_91 (by rw [hN]; decide) rfl ?_
        refine r_goto E 180 (by decide) dX67_operand_93 ?_
        refine r_pick E [4, 2, 1, 0] rfl ?_
        exact w_fX67_operand_J180 E hN hT 1 v36 v39
  · refine r_ldc2 (v := 2) E dX67_operand_34 q3687 (by decide) (zkJ (by decide) (by decide)) ?_
    refine r_lstore_n (ls' := [(1, 1, 2), (7, 0, s0), (0, 69, 0), (3, 1, x3)]) E dX67_operand_37 rfl (by rw [hN]; decide) rfl ?_
    refine r_aload_n E dX67_operand_38 rfl 2 rfl ?_
    refine r_callV E [] [] rfl zc_69 zr_69 (fun o _ => ⟨_, zw_X67.1 o, rfl⟩) (lw_V q4214 q4216 qs188 q294 q4217) dX67_operand_39 zy_X67_half rfl (by omega) (by decide) (Nat.le_of_ble_eq_true rfl) (by decide) (fun l G => k_fX67_half l G) (fun v40 => ?_)
    refine r_lstore (ls' := [(5, 1, v40), (1, 1, 2), (7, 0, s0), (0, 69, 0), (3, 1, x3)]) E dX67_operand_42 (by rw [hN]; decide) rfl ?_
    refine r_goto E 180 (by decide) dX67_operand_44 ?_
    refine r_pick E [3, 1, 4, 0] rfl ?_
    exact w_fX67_operand_J180 E hN hT 2 x3 v40
theorem w_fX67_operand {K : zK} (E : zE K cX67_operand "RingHouseModel" none 8) (hN : zNl K = 13) (hT : zTr K = none) : zR K 0 [(0, 69, 0)] [] (fX67_operand) := by
  refine r_lconst (v := 0) E dX67_operand_0 (by decide) (zkJ (by decide) (by decide)) ?_
  refine r_lstore_n (ls' := [(1, 1, 0), (0, 69, 0)]) E dX67_operand_1 rfl (by rw [hN]; decide) rfl ?_
  refine r_lconst (v := 0) E dX67_operand_2 (by decide) (zkJ (by decide) (by decide)) ?_
  refine r_lstore_n (ls' := [(3, 1, 0), (1, 1, 0), (0, 69, 0)]) E dX67_operand_3 rfl (by rw [hN]; decide) rfl ?_
  refine r_lconst (v := 0) E dX67_operand_4 (by decide) (zkJ (by decide) (by decide)) ?_
  refine r_lstore (ls' := [(5, 1, 0), (3, 1, 0), (1, 1, 0), (0, 69, 0)]) E dX67_operand_5 (by rw [hN]; decide) rfl ?_
  refine r_aload_n E dX67_operand_7 rfl 3 rfl ?_
  refine r_get E zc_69 zt_6887 dX67_operand_8 q3302 zr_69 (zg_6887 _) (by decide) (fun v1 => ?_)
  refine r_iconst E dX67_operand_11 (zkI (by decide) (by decide)) ?_
  refine r_icmp_ne E 22 (by decide) dX67_operand_12 (fun _ => ?_) (fun _ => ?_)
  · refine r_iconst E dX67_operand_22 (zkI (by decide) (by decide)) ?_
    refine r_pick E [3, 2, 1] rfl ?_
    exact w_fX67_operand_J23 E hN hT 0 0 0
  · refine r_aload_n E dX67_operand_15 rfl 3 rfl ?_
    refine r_callV E [] [] rfl zc_69 zr_69 (fun o _ => ⟨_, zw_X67.1 o, rfl⟩) (lw_V q4155 q4157 qs176 q294 q4158) dX67_operand_16 zy_X67_behindWord rfl (by omega) (by decide) (Nat.le_of_ble_eq_true rfl) (by decide) (fun l G => k_fX67_behindWord l G) (fun v41 => ?_)
    refine r_goto E 23 (by decide) dX67_operand_19 ?_
    refine r_pick E [3, 2, 1] rfl ?_
    exact w_fX67_operand_J23 E hN hT 0 0 v41
theorem k_fX67_operand (l : Launch) (G : zG) : zCt l G yX67_operand cX67_operand 13 none 8 [(69, 0)] none (fX67_operand) := zCt.of (by decide) (Nat.le_of_ble_eq_true rfl) (fun K E _ _ hN hT => w_fX67_operand E hN hT)
theorem dX67_statement_0 : decode cX67_statement 0 = .ok (.aload_n 0, 1) := by decide +kernel
theorem dX67_statement_1 : decode cX67_statement 1 = .ok (.getfield 837, 3) := by decide +kernel
theorem dX67_statement_4 : decode cX67_statement 4 = .ok (.iconst 1, 1) := by decide +kernel
theorem dX67_statement_5 : decode cX67_statement 5 = .ok (.if_icmp .eq 13, 3) := by decide +kernel
theorem dX67_statement_8 : decode cX67_statement 8 = .ok (.aload_n 0, 1) := by decide +kernel
theorem dX67_statement_9 : decode cX67_statement 9 = .ok (.iconst 1, 1) := by decide +kernel
theorem dX67_statement_10 : decode cX67_statement 10 = .ok (.aload_n 0, 1) := by decide +kernel
theorem dX67_statement_11 : decode cX67_statement 11 = .ok (.getfield 831, 3) := by decide +kernel
theorem dX67_statement_14 : decode cX67_statement 14 = .ok (.invokevirtual 854, 3) := by decide +kernel
theorem dX67_statement_17 : decode cX67_statement 17 = .ok (.return_, 1) := by decide +kernel
theorem dX67_statement_18 : decode cX67_statement 18 = .ok (.aload_n 0, 1) := by decide +kernel
theorem dX67_statement_19 : decode cX67_statement 19 = .ok (.invokevirtual 860, 3) := by decide +kernel
theorem dX67_statement_22 : decode cX67_statement 22 = .ok (.ifCond .eq 10, 3) := by decide +kernel
theorem dX67_statement_25 : decode cX67_statement 25 = .ok (.aload_n 0, 1) := by decide +kernel
theorem dX67_statement_26 : decode cX67_statement 26 = .ok (.invokevirtual 864, 3) := by decide +kernel
theorem dX67_statement_29 : decode cX67_statement 29 = .ok (.goto 4, 3) := by decide +kernel
theorem dX67_statement_32 : decode cX67_statement 32 = .ok (.lconst 0, 1) := by decide +kernel
theorem dX67_statement_33 : decode cX67_statement 33 = .ok (.lstore_n 1, 1) := by decide +kernel
theorem dX67_statement_34 : decode cX67_statement 34 = .ok (.aload_n 0, 1) := by decide +kernel
theorem dX67_statement_35 : decode cX67_statement 35 = .ok (.invokevirtual 960, 3) := by decide +kernel
theorem dX67_statement_38 : decode cX67_statement 38 = .ok (.ifCond .eq 46, 3) := by decide +kernel
theorem dX67_statement_41 : decode cX67_statement 41 = .ok (.aload_n 0, 1) := by decide +kernel
theorem dX67_statement_42 : decode cX67_statement 42 = .ok (.invokevirtual 846, 3) := by decide +kernel
theorem dX67_statement_45 : decode cX67_statement 45 = .ok (.aload_n 0, 1) := by decide +kernel
theorem dX67_statement_46 : decode cX67_statement 46 = .ok (.getfield 876, 3) := by decide +kernel
theorem dX67_statement_49 : decode cX67_statement 49 = .ok (.iconst 2, 1) := by decide +kernel
theorem dX67_statement_50 : decode cX67_statement 50 = .ok (.if_icmp .lt 12, 3) := by decide +kernel
theorem dX67_statement_53 : decode cX67_statement 53 = .ok (.aload_n 0, 1) := by decide +kernel
theorem dX67_statement_54 : decode cX67_statement 54 = .ok (.getfield 876, 3) := by decide +kernel
theorem dX67_statement_57 : decode cX67_statement 57 = .ok (.bipush 35, 2) := by decide +kernel
theorem dX67_statement_59 : decode cX67_statement 59 = .ok (.if_icmp .le 18, 3) := by decide +kernel
theorem dX67_statement_62 : decode cX67_statement 62 = .ok (.aload_n 0, 1) := by decide +kernel
theorem dX67_statement_63 : decode cX67_statement 63 = .ok (.aload_n 0, 1) := by decide +kernel
theorem dX67_statement_64 : decode cX67_statement 64 = .ok (.getfield 876, 3) := by decide +kernel
theorem dX67_statement_67 : decode cX67_statement 67 = .ok (.i2l, 1) := by decide +kernel
theorem dX67_statement_68 : decode cX67_statement 68 = .ok (.bipush 30, 2) := by decide +kernel
theorem dX67_statement_70 : decode cX67_statement 70 = .ok (.lshl, 1) := by decide +kernel
theorem dX67_statement_71 : decode cX67_statement 71 = .ok (.invokevirtual 943, 3) := by decide +kernel
theorem dX67_statement_74 : decode cX67_statement 74 = .ok (.goto 142, 3) := by decide +kernel
theorem dX67_statement_77 : decode cX67_statement 77 = .ok (.aload_n 0, 1) := by decide +kernel
theorem dX67_statement_78 : decode cX67_statement 78 = .ok (.invokevirtual 963, 3) := by decide +kernel
theorem dX67_statement_81 : decode cX67_statement 81 = .ok (.goto 135, 3) := by decide +kernel
theorem dX67_statement_84 : decode cX67_statement 84 = .ok (.lload_n 1, 1) := by decide +kernel
theorem dX67_statement_85 : decode cX67_statement 85 = .ok (.aload_n 0, 1) := by decide +kernel
theorem dX67_statement_86 : decode cX67_statement 86 = .ok (.getfield 328, 3) := by decide +kernel
theorem dX67_statement_89 : decode cX67_statement 89 = .ok (.iconst 0, 1) := by decide +kernel
theorem dX67_statement_90 : decode cX67_statement 90 = .ok (.laload, 1) := by decide +kernel
theorem dX67_statement_91 : decode cX67_statement 91 = .ok (.lcmp, 1) := by decide +kernel
theorem dX67_statement_92 : decode cX67_statement 92 = .ok (.ifCond .ne 14, 3) := by decide +kernel
theorem dX67_statement_95 : decode cX67_statement 95 = .ok (.aload_n 0, 1) := by decide +kernel
theorem dX67_statement_96 : decode cX67_statement 96 = .ok (.invokevirtual 846, 3) := by decide +kernel
theorem dX67_statement_99 : decode cX67_statement 99 = .ok (.aload_n 0, 1) := by decide +kernel
theorem dX67_statement_100 : decode cX67_statement 100 = .ok (.invokevirtual 966, 3) := by decide +kernel
theorem dX67_statement_103 : decode cX67_statement 103 = .ok (.goto 113, 3) := by decide +kernel
theorem dX67_statement_106 : decode cX67_statement 106 = .ok (.lload_n 1, 1) := by decide +kernel
theorem dX67_statement_107 : decode cX67_statement 107 = .ok (.aload_n 0, 1) := by decide +kernel
theorem dX67_statement_108 : decode cX67_statement 108 = .ok (.getfield 328, 3) := by decide +kernel
theorem dX67_statement_111 : decode cX67_statement 111 = .ok (.iconst 1, 1) := by decide +kernel
theorem dX67_statement_112 : decode cX67_statement 112 = .ok (.laload, 1) := by decide +kernel
theorem dX67_statement_113 : decode cX67_statement 113 = .ok (.lcmp, 1) := by decide +kernel
theorem dX67_statement_114 : decode cX67_statement 114 = .ok (.ifCond .ne 14, 3) := by decide +kernel
theorem dX67_statement_117 : decode cX67_statement 117 = .ok (.aload_n 0, 1) := by decide +kernel
theorem dX67_statement_118 : decode cX67_statement 118 = .ok (.invokevirtual 846, 3) := by decide +kernel
theorem dX67_statement_121 : decode cX67_statement 121 = .ok (.aload_n 0, 1) := by decide +kernel
theorem dX67_statement_122 : decode cX67_statement 122 = .ok (.invokevirtual 969, 3) := by decide +kernel
theorem dX67_statement_125 : decode cX67_statement 125 = .ok (.goto 91, 3) := by decide +kernel
theorem dX67_statement_128 : decode cX67_statement 128 = .ok (.lload_n 1, 1) := by decide +kernel
theorem dX67_statement_129 : decode cX67_statement 129 = .ok (.aload_n 0, 1) := by decide +kernel
theorem dX67_statement_130 : decode cX67_statement 130 = .ok (.getfield 328, 3) := by decide +kernel
theorem dX67_statement_133 : decode cX67_statement 133 = .ok (.iconst 2, 1) := by decide +kernel
theorem dX67_statement_134 : decode cX67_statement 134 = .ok (.laload, 1) := by decide +kernel
theorem dX67_statement_135 : decode cX67_statement 135 = .ok (.lcmp, 1) := by decide +kernel
theorem dX67_statement_136 : decode cX67_statement 136 = .ok (.ifCond .ne 49, 3) := by decide +kernel
theorem dX67_statement_139 : decode cX67_statement 139 = .ok (.aload_n 0, 1) := by decide +kernel
theorem dX67_statement_140 : decode cX67_statement 140 = .ok (.invokevirtual 846, 3) := by decide +kernel
theorem dX67_statement_143 : decode cX67_statement 143 = .ok (.aload_n 0, 1) := by decide +kernel
theorem dX67_statement_144 : decode cX67_statement 144 = .ok (.ldc2_w 972, 3) := by decide +kernel
theorem dX67_statement_147 : decode cX67_statement 147 = .ok (.invokevirtual 949, 3) := by decide +kernel
theorem dX67_statement_150 : decode cX67_statement 150 = .ok (.lstore_n 3, 1) := by decide +kernel
theorem dX67_statement_151 : decode cX67_statement 151 = .ok (.lconst 0, 1) := by decide +kernel
theorem dX67_statement_152 : decode cX67_statement 152 = .ok (.lstore 5, 2) := by decide +kernel
theorem dX67_statement_154 : decode cX67_statement 154 = .ok (.lload 5, 2) := by decide +kernel
theorem dX67_statement_156 : decode cX67_statement 156 = .ok (.lload_n 3, 1) := by decide +kernel
theorem dX67_statement_157 : decode cX67_statement 157 = .ok (.lcmp, 1) := by decide +kernel
theorem dX67_statement_158 : decode cX67_statement 158 = .ok (.ifCond .ge 24, 3) := by decide +kernel
theorem dX67_statement_161 : decode cX67_statement 161 = .ok (.aload_n 0, 1) := by decide +kernel
theorem dX67_statement_162 : decode cX67_statement 162 = .ok (.getfield 813, 3) := by decide +kernel
theorem dX67_statement_165 : decode cX67_statement 165 = .ok (.ifCond .ne 17, 3) := by decide +kernel
theorem dX67_statement_168 : decode cX67_statement 168 = .ok (.aload_n 0, 1) := by decide +kernel
theorem dX67_statement_169 : decode cX67_statement 169 = .ok (.lconst 0, 1) := by decide +kernel
theorem dX67_statement_170 : decode cX67_statement 170 = .ok (.invokevirtual 943, 3) := by decide +kernel
theorem dX67_statement_173 : decode cX67_statement 173 = .ok (.lload 5, 2) := by decide +kernel
theorem dX67_statement_175 : decode cX67_statement 175 = .ok (.lconst 1, 1) := by decide +kernel
theorem dX67_statement_176 : decode cX67_statement 176 = .ok (.ladd, 1) := by decide +kernel
theorem dX67_statement_177 : decode cX67_statement 177 = .ok (.lstore 5, 2) := by decide +kernel
theorem dX67_statement_179 : decode cX67_statement 179 = .ok (.goto (-25), 3) := by decide +kernel
theorem dX67_statement_182 : decode cX67_statement 182 = .ok (.goto 34, 3) := by decide +kernel
theorem dX67_statement_185 : decode cX67_statement 185 = .ok (.lload_n 1, 1) := by decide +kernel
theorem dX67_statement_186 : decode cX67_statement 186 = .ok (.aload_n 0, 1) := by decide +kernel
theorem dX67_statement_187 : decode cX67_statement 187 = .ok (.getfield 328, 3) := by decide +kernel
theorem dX67_statement_190 : decode cX67_statement 190 = .ok (.iconst 3, 1) := by decide +kernel
theorem dX67_statement_191 : decode cX67_statement 191 = .ok (.laload, 1) := by decide +kernel
theorem dX67_statement_192 : decode cX67_statement 192 = .ok (.lcmp, 1) := by decide +kernel
theorem dX67_statement_193 : decode cX67_statement 193 = .ok (.ifCond .ne 14, 3) := by decide +kernel
theorem dX67_statement_196 : decode cX67_statement 196 = .ok (.aload_n 0, 1) := by decide +kernel
theorem dX67_statement_197 : decode cX67_statement 197 = .ok (.invokevirtual 846, 3) := by decide +kernel
theorem dX67_statement_200 : decode cX67_statement 200 = .ok (.aload_n 0, 1) := by decide +kernel
theorem dX67_statement_201 : decode cX67_statement 201 = .ok (.invokevirtual 974, 3) := by decide +kernel
theorem dX67_statement_204 : decode cX67_statement 204 = .ok (.goto 12, 3) := by decide +kernel
theorem dX67_statement_207 : decode cX67_statement 207 = .ok (.aload_n 0, 1) := by decide +kernel
theorem dX67_statement_208 : decode cX67_statement 208 = .ok (.iconst 2, 1) := by decide +kernel
theorem dX67_statement_209 : decode cX67_statement 209 = .ok (.aload_n 0, 1) := by decide +kernel
theorem dX67_statement_210 : decode cX67_statement 210 = .ok (.getfield 831, 3) := by decide +kernel
theorem dX67_statement_213 : decode cX67_statement 213 = .ok (.invokevirtual 854, 3) := by decide +kernel
theorem dX67_statement_216 : decode cX67_statement 216 = .ok (.return_, 1) := by decide +kernel
theorem zy_X67_statement : yX67_statement.cls ≠ "java/lang/invoke/MethodHandle" ∧ yX67_statement.cls ≠ "java/lang/invoke/VarHandle" ∧ (parseMethodDescriptor yX67_statement.desc).map (fun d => d.parameters.length) = some 0 := by decide +kernel
theorem w_fX67_statement_B154 {K : zK} (E : zE K cX67_statement "RingHouseModel" none 9) (hN : zNl K = 7) (hT : zTr K = none) (x3 : Int) : ∀ r154 : Int → zX, (∀ s : Int, zR K 154 [(0, 69, 0), (3, 1, x3), (5, 1, s)] [] (r154 s)) → ∀ s : Int, zR K 154 [(0, 69, 0), (3, 1, x3), (5, 1, s)] [] (fX67_statement_B154 x3 r154 s) := by
  intro r154 hr154 x5
  refine r_lload E dX67_statement_154 2 rfl ?_
  refine r_lload_n E dX67_statement_156 rfl 1 rfl ?_
  refine r_lcmp_ge E 182 (by decide) dX67_statement_157 dX67_statement_158 (fun _ => ?_) (fun _ => ?_)
  · refine r_goto E 216 (by decide) dX67_statement_182 ?_
    exact r_return E rfl hT dX67_statement_216
  · refine r_aload_n E dX67_statement_161 rfl 0 rfl ?_
    refine r_get E zc_69 zt_6891 dX67_statement_162 q3306 zr_69 (zg_6891 _) (by decide) (fun v14 => ?_)
    refine r_if_ne E 182 (by decide) dX67_statement_165 (fun _ => ?_) (fun _ => ?_)
    · refine r_goto E 216 (by decide) dX67_statement_182 ?_
      exact r_return E rfl hT dX67_statement_216
    · refine r_aload_n E dX67_statement_168 rfl 0 rfl ?_
      refine r_lconst (v := 0) E dX67_statement_169 (by decide) (zkJ (by decide) (by decide)) ?_
      refine r_callV E [(1, 0)] [] rfl zc_69 zr_69 (fun o _ => ⟨_, zw_X67.1 o, rfl⟩) (lw_V q4198 q4200 qs184 q294 q4201) dX67_statement_170 zy_X67_emit rfl (by omega) (by decide) (Nat.le_of_ble_eq_true rfl) (by decide) (fun l G => k_fX67_emit l G 0) (fun _ => ?_)
      refine r_lload E dX67_statement_173 2 rfl ?_
      refine r_lconst (v := 1) E dX67_statement_175 (by decide) (zkJ (by decide) (by decide)) ?_
      refine r_ladd E dX67_statement_176 ?_
      refine r_let E (fun v16 ev16 => ?_)
      refine r_lstore (ls' := [(5, 1, v16), (0, 69, 0), (3, 1, x3)]) E dX67_statement_177 (by rw [hN]; decide) rfl ?_
      refine r_goto E 154 (by decide) dX67_statement_179 ?_
      refine r_pick E [1, 2, 0] rfl ?_
      exact hr154 v16
theorem w_fX67_statement_J62 {K : zK} (E : zE K cX67_statement "RingHouseModel" none 9) (hN : zNl K = 7) (hT : zTr K = none) : zR K 62 [(0, 69, 0)] [] (fX67_statement_J62) := by
  refine r_aload_n E dX67_statement_62 rfl 0 rfl ?_
  refine r_aload_n E dX67_statement_63 rfl 0 rfl ?_
  refine r_get E zc_69 zt_6910 dX67_statement_64 q3324 zr_69 (zg_6910 _) (by decide) (fun v23 => ?_)
  refine r_i2l E dX67_statement_67 ?_
  refine r_bipush E dX67_statement_68 (by decide) (zkI (by decide) (by decide)) ?_
  refine r_lshl (P := 1073741824) E (by decide) dX67_statement_70 ?_
  refine r_callV E [(1, (zl (v23 * 1073741824)))] [] rfl zc_69 zr_69 (fun o _ => ⟨_, zw_X67.1 o, rfl⟩) (lw_V q4198 q4200 qs184 q294 q4201) dX67_statement_71 zy_X67_emit rfl (by omega) (by decide) (Nat.le_of_ble_eq_true rfl) (by decide) (fun l G => k_fX67_emit l G (zl (v23 * 1073741824))) (fun _ => ?_)
  refine r_goto E 216 (by decide) dX67_statement_74 ?_
  exact r_return E rfl hT dX67_statement_216
theorem w_fX67_statement_J33 {K : zK} (E : zE K cX67_statement "RingHouseModel" none 9) (hN : zNl K = 7) (hT : zTr K = none) (s0 : Int) : zR K 33 [(0, 69, 0)] [(1, s0)] (fX67_statement_J33 s0) := by
  refine r_lstore_n (ls' := [(1, 1, s0), (0, 69, 0)]) E dX67_statement_33 rfl (by rw [hN]; decide) rfl ?_
  refine r_aload_n E dX67_statement_34 rfl 1 rfl ?_
  refine r_callV E [] [] rfl zc_69 zr_69 (fun o _ => ⟨_, zw_X67.1 o, rfl⟩) (lw_V q4187 q4189 qs183 q294 q4190) dX67_statement_35 zy_X67_isOperation rfl (by omega) (by decide) (Nat.le_of_ble_eq_true rfl) (by decide) (fun l G => k_fX67_isOperation l G) (fun v3 => ?_)
  refine r_if_eq E 84 (by decide) dX67_statement_38 (fun _ => ?_) (fun _ => ?_)
  · refine r_lload_n E dX67_statement_84 rfl 0 rfl ?_
    refine r_aload_n E dX67_statement_85 rfl 1 rfl ?_
    refine r_gec (y := 0) E zc_69 dX67_statement_86 q3323 zr_69 (zh_6909 (by decide)) (by decide) ?_
    refine r_iconst E dX67_statement_89 (zkI (by decide) (by decide)) ?_
    refine r_lact E zc_6909 za_6909 zt_6909 zx_6909 rfl rfl rfl dX67_statement_90 (by decide) (fun v4 => ?_)
    refine r_lcmp_ne E 106 (by decide) dX67_statement_91 dX67_statement_92 (fun _ => ?_) (fun _ => ?_)
    · refine r_lload_n E dX67_statement_106 rfl 0 rfl ?_
      refine r_aload_n E dX67_statement_107 rfl 1 rfl ?_
      refine r_gec (y := 0) E zc_69 dX67_statement_108 q3323 zr_69 (zh_6909 (by decide)) (by decide) ?_
      refine r_iconst E dX67_statement_111 (zkI (by decide) (by decide)) ?_
      refine r_lact E zc_6909 za_6909 zt_6909 zx_6909 rfl rfl rfl dX67_statement_112 (by decide) (fun v5 => ?_)
      refine r_lcmp_ne E 128 (by decide) dX67_statement_113 dX67_statement_114 (fun _ => ?_) (fun _ => ?_)
      · refine r_lload_n E dX67_statement_128 rfl 0 rfl ?_
        refine r_aload_n E dX67_statement_129 rfl 1 rfl ?_
        refine r_gec (y := 0) E zc_69 dX67_statement_130 q3323 zr_69 (zh_6909 (by decide)) (by decide) ?_
        refine r_iconst E dX67_statement_133 (zkI (by decide) (by decide)) ?_
        refine r_lact E zc_6909 za_6909 zt_6909 zx_6909 rfl rfl rfl dX67_statement_134 (by decide) (fun v6 => ?_)
        refine r_lcmp_ne E 185 (by decide) dX67_statement_135 dX67_statement_136 (fun _ => ?_) (fun _ => ?_)
        · refine r_lload_n E dX67_statement_185 rfl 0 rfl ?_
          refine r_aload_n E dX67_statement_186 rfl 1 rfl ?_
          refine r_gec (y := 0) E zc_69 dX67_statement_187 q3323 zr_69 (zh_6909 (by decide)) (by decide) ?_
          refine r_iconst E dX67_statement_190 (zkI (by decide) (by decide)) ?_
          refine r_lact E zc_6909 za_6909 zt_6909 zx_6909 rfl rfl rfl dX67_statement_191 (by decide) (fun v7 => ?_)
          refine r_lcmp_ne E 207 (by decide) dX67_statement_192 dX67_statement_193 (fun _ => ?_) (fun _ => ?_)
          · refine r_aload_n E dX67_statement_207 rfl 1 rfl ?_
            refine r_iconst E dX67_statement_208 (zkI (by decide) (by decide)) ?_
            refine r_aload_n E dX67_statement_209 rfl 1 rfl ?_
            refine r_get E zc_69 zt_6888 dX67_statement_210 q3303 zr_69 (zg_6888 _) (by decide) (fun v8 => ?_)
            refine r_callV E [(0, 2), (0, v8)] [] rfl zc_69 zr_69 (fun o _ => ⟨_, zw_X67.1 o, rfl⟩) (lw_V q4163 q4165 qs178 q294 q4166) dX67_statement_213 zy_X67_wrong rfl (by omega) (by decide) (Nat.le_of_ble_eq_true rfl) (by decide) (fun l G => k_fX67_wrong l G 2 v8) (fun _ => ?_)
            exact r_return E rfl hT dX67_statement_216
          · refine r_aload_n E dX67_statement_196 rfl 1 rfl ?_
            refine r_callV E [] [] rfl zc_69 zr_69 (fun o _ => ⟨_, zw_X67.1 o, rfl⟩) (lw_V q4138 q4140 qs175 q294 q4141) dX67_statement_197 zy_X67_next rfl (by omega) (by decide) (Nat.le_of_ble_eq_true rfl) (by decide) (fun l G => k_fX67_next l G) (fun _ => ?_)
            refine r_aload_n E dX67_statement_200 rfl 1 rfl ?_
            refine r_callV E [] [] rfl zc_69 zr_69 (fun o _ => ⟨_, zw_X67.1 o, rfl⟩) (lw_V q4273 q4275 qs201 q294 q4276) dX67_statement_201 zy_X67_definitionOfText rfl (by omega) (by decide) (Nat.le_of_ble_eq_true rfl) (by decide) (fun l G => k_fX67_definitionOfText l G) (fun _ => ?_)
            refine r_goto E 216 (by decide) dX67_statement_204 ?_
            exact r_return E rfl hT dX67_statement_216
        · refine r_aload_n E dX67_statement_139 rfl 1 rfl ?_
          refine r_callV E [] [] rfl zc_69 zr_69 (fun o _ => ⟨_, zw_X67.1 o, rfl⟩) (lw_V q4138 q4140 qs175 q294 q4141) dX67_statement_140 zy_X67_next rfl (by omega) (by decide) (Nat.le_of_ble_eq_true rfl) (by decide) (fun l G => k_fX67_next l G) (fun _ => ?_)
          refine r_aload_n E dX67_statement_143 rfl 1 rfl ?_
          refine r_ldc2 (v := 1023) E dX67_statement_144 q4272 (by decide) (zkJ (by decide) (by decide)) ?_
          refine r_callV E [(1, 1023)] [] rfl zc_69 zr_69 (fun o _ => ⟨_, zw_X67.1 o, rfl⟩) (lw_V q4263 q4265 qs199 q294 q4266) dX67_statement_147 zy_X67_bounded rfl (by omega) (by decide) (Nat.le_of_ble_eq_true rfl) (by decide) (fun l G => k_fX67_bounded l G 1023) (fun v13 => ?_)
          refine r_lstore_n (ls' := [(3, 1, v13), (1, 1, s0), (0, 69, 0)]) E dX67_statement_150 rfl (by rw [hN]; decide) rfl ?_
          refine r_lconst (v := 0) E dX67_statement_151 (by decide) (zkJ (by decide) (by decide)) ?_
          refine r_lstore (ls' := [(5, 1, 0), (3, 1, v13), (1, 1, s0), (0, 69, 0)]) E dX67_statement_152 (by rw [hN]; decide) rfl ?_
          refine r_pick E [3, 1, 0] rfl ?_
          exact r_loop (L := fun s => [(0, 69, 0), (3, 1, v13), (5, 1, s)]) (w_fX67_statement_B154 E hN hT v13) zBIG 0
      · refine r_aload_n E dX67_statement_117 rfl 1 rfl ?_
        refine r_callV E [] [] rfl zc_69 zr_69 (fun o _ => ⟨_, zw_X67.1 o, rfl⟩) (lw_V q4138 q4140 qs175 q294 q4141) dX67_statement_118 zy_X67_next rfl (by omega) (by decide) (Nat.le_of_ble_eq_true rfl) (by decide) (fun l G => k_fX67_next l G) (fun _ => ?_)
        refine r_aload_n E dX67_statement_121 rfl 1 rfl ?_
        refine r_callV E [] [] rfl zc_69 zr_69 (fun o _ => ⟨_, zw_X67.1 o, rfl⟩) (lw_V q4259 q4261 qs198 q294 q4262) dX67_statement_122 zy_X67_pointerOfText rfl (by omega) (by decide) (Nat.le_of_ble_eq_true rfl) (by decide) (fun l G => k_fX67_pointerOfText l G) (fun _ => ?_)
        refine r_goto E 216 (by decide) dX67_statement_125 ?_
        exact r_return E rfl hT dX67_statement_216
    · refine r_aload_n E dX67_statement_95 rfl 1 rfl ?_
      refine r_callV E [] [] rfl zc_69 zr_69 (fun o _ => ⟨_, zw_X67.1 o, rfl⟩) (lw_V q4138 q4140 qs175 q294 q4141) dX67_statement_96 zy_X67_next rfl (by omega) (by decide) (Nat.le_of_ble_eq_true rfl) (by decide) (fun l G => k_fX67_next l G) (fun _ => ?_)
      refine r_aload_n E dX67_statement_99 rfl 1 rfl ?_
      refine r_callV E [] [] rfl zc_69 zr_69 (fun o _ => ⟨_, zw_X67.1 o, rfl⟩) (lw_V q4254 q4256 qs197 q294 q4257) dX67_statement_100 zy_X67_wordsOfText rfl (by omega) (by decide) (Nat.le_of_ble_eq_true rfl) (by decide) (fun l G => k_fX67_wordsOfText l G) (fun _ => ?_)
      refine r_goto E 216 (by decide) dX67_statement_103 ?_
      exact r_return E rfl hT dX67_statement_216
  · refine r_aload_n E dX67_statement_41 rfl 1 rfl ?_
    refine r_callV E [] [] rfl zc_69 zr_69 (fun o _ => ⟨_, zw_X67.1 o, rfl⟩) (lw_V q4138 q4140 qs175 q294 q4141) dX67_statement_42 zy_X67_next rfl (by omega) (by decide) (Nat.le_of_ble_eq_true rfl) (by decide) (fun l G => k_fX67_next l G) (fun _ => ?_)
    refine r_aload_n E dX67_statement_45 rfl 1 rfl ?_
    refine r_get E zc_69 zt_6910 dX67_statement_46 q3324 zr_69 (zg_6910 _) (by decide) (fun v22 => ?_)
    refine r_iconst E dX67_statement_49 (zkI (by decide) (by decide)) ?_
    refine r_icmp_lt E 62 (by decide) dX67_statement_50 (fun _ => ?_) (fun _ => ?_)
    · refine r_pick E [1] rfl ?_
      exact w_fX67_statement_J62 E hN hT
    · refine r_aload_n E dX67_statement_53 rfl 1 rfl ?_
      refine r_get E zc_69 zt_6910 dX67_statement_54 q3324 zr_69 (zg_6910 _) (by decide) (fun v25 => ?_)
      refine r_bipush E dX67_statement_57 (by decide) (zkI (by decide) (by decide)) ?_
      refine r_icmp_le E 77 (by decide) dX67_statement_59 (fun _ => ?_) (fun _ => ?_)
      · refine r_aload_n E dX67_statement_77 rfl 1 rfl ?_
        refine r_callV E [] [] rfl zc_69 zr_69 (fun o _ => ⟨_, zw_X67.1 o, rfl⟩) (lw_V q4202 q4204 qs185 q294 q4205) dX67_statement_78 zy_X67_operand rfl (by omega) (by decide) (Nat.le_of_ble_eq_true rfl) (by decide) (fun l G => k_fX67_operand l G) (fun _ => ?_)
        refine r_goto E 216 (by decide) dX67_statement_81 ?_
        exact r_return E rfl hT dX67_statement_216
      · refine r_pick E [1] rfl ?_
        exact w_fX67_statement_J62 E hN hT
theorem w_fX67_statement {K : zK} (E : zE K cX67_statement "RingHouseModel" none 9) (hN : zNl K = 7) (hT : zTr K = none) : zR K 0 [(0, 69, 0)] [] (fX67_statement) := by
  refine r_aload_n E dX67_statement_0 rfl 0 rfl ?_
  refine r_get E zc_69 zt_6887 dX67_statement_1 q3302 zr_69 (zg_6887 _) (by decide) (fun v1 => ?_)
  refine r_iconst E dX67_statement_4 (zkI (by decide) (by decide)) ?_
  refine r_icmp_eq E 18 (by decide) dX67_statement_5 (fun _ => ?_) (fun _ => ?_)
  · refine r_aload_n E dX67_statement_18 rfl 0 rfl ?_
    refine r_callV E [] [] rfl zc_69 zr_69 (fun o _ => ⟨_, zw_X67.1 o, rfl⟩) (lw_V q4167 q4169 qs179 q294 q4170) dX67_statement_19 zy_X67_isShort rfl (by omega) (by decide) (Nat.le_of_ble_eq_true rfl) (by decide) (fun l G => k_fX67_isShort l G) (fun v2 => ?_)
    refine r_if_eq E 32 (by decide) dX67_statement_22 (fun _ => ?_) (fun _ => ?_)
    · refine r_lconst (v := 0) E dX67_statement_32 (by decide) (zkJ (by decide) (by decide)) ?_
      exact w_fX67_statement_J33 E hN hT 0
    · refine r_aload_n E dX67_statement_25 rfl 0 rfl ?_
      refine r_callV E [] [] rfl zc_69 zr_69 (fun o _ => ⟨_, zw_X67.1 o, rfl⟩) (lw_V q4171 q4173 qs180 q294 q4174) dX67_statement_26 zy_X67_nameOfToken rfl (by omega) (by decide) (Nat.le_of_ble_eq_true rfl) (by decide) (fun l G => k_fX67_nameOfToken l G) (fun v27 => ?_)
      refine r_goto E 33 (by decide) dX67_statement_29 ?_
      exact w_fX67_statement_J33 E hN hT v27
  · refine r_aload_n E dX67_statement_8 rfl 0 rfl ?_
    refine r_iconst E dX67_statement_9 (zkI (by decide) (by decide)) ?_
    refine r_aload_n E dX67_statement_10 rfl 0 rfl ?_
    refine r_get E zc_69 zt_6888 dX67_statement_11 q3303 zr_69 (zg_6888 _) (by decide) (fun v28 => ?_)
    refine r_callV E [(0, 1), (0, v28)] [] rfl zc_69 zr_69 (fun o _ => ⟨_, zw_X67.1 o, rfl⟩) (lw_V q4163 q4165 qs178 q294 q4166) dX67_statement_14 zy_X67_wrong rfl (by omega) (by decide) (Nat.le_of_ble_eq_true rfl) (by decide) (fun l G => k_fX67_wrong l G 1 v28) (fun _ => ?_)
    exact r_return E rfl hT dX67_statement_17
theorem k_fX67_statement (l : Launch) (G : zG) : zCt l G yX67_statement cX67_statement 7 none 9 [(69, 0)] none (fX67_statement) := zCt.of (by decide) (Nat.le_of_ble_eq_true rfl) (fun K E _ _ hN hT => w_fX67_statement E hN hT)
