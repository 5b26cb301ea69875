set_option maxRecDepth 100000
theorem dX64_operand_0 : decode cX64_operand 0 = .ok (.aload_n 0, 1) := by decide +kernel
theorem dX64_operand_1 : decode cX64_operand 1 = .ok (.aload_n 1, 1) := by decide +kernel
theorem dX64_operand_2 : decode cX64_operand 2 = .ok (.invokevirtual 175, 3) := by decide +kernel
theorem dX64_operand_5 : decode cX64_operand 5 = .ok (.i2l, 1) := by decide +kernel
theorem dX64_operand_6 : decode cX64_operand 6 = .ok (.bipush 30, 2) := by decide +kernel
theorem dX64_operand_8 : decode cX64_operand 8 = .ok (.lshl, 1) := by decide +kernel
theorem dX64_operand_9 : decode cX64_operand 9 = .ok (.iload_n 2, 1) := by decide +kernel
theorem dX64_operand_10 : decode cX64_operand 10 = .ok (.i2l, 1) := by decide +kernel
theorem dX64_operand_11 : decode cX64_operand 11 = .ok (.bipush 21, 2) := by decide +kernel
theorem dX64_operand_13 : decode cX64_operand 13 = .ok (.lshl, 1) := by decide +kernel
theorem dX64_operand_14 : decode cX64_operand 14 = .ok (.lor, 1) := by decide +kernel
theorem dX64_operand_15 : decode cX64_operand 15 = .ok (.lstore_n 3, 1) := by decide +kernel
theorem dX64_operand_16 : decode cX64_operand 16 = .ok (.aload_n 1, 1) := by decide +kernel
theorem dX64_operand_17 : decode cX64_operand 17 = .ok (.getfield 179, 3) := by decide +kernel
theorem dX64_operand_20 : decode cX64_operand 20 = .ok (.ifCond .ne 13, 3) := by decide +kernel
theorem dX64_operand_23 : decode cX64_operand 23 = .ok (.aload_n 0, 1) := by decide +kernel
theorem dX64_operand_24 : decode cX64_operand 24 = .ok (.lload_n 3, 1) := by decide +kernel
theorem dX64_operand_25 : decode cX64_operand 25 = .ok (.invokevirtual 182, 3) := by decide +kernel
theorem dX64_operand_28 : decode cX64_operand 28 = .ok (.aload_n 0, 1) := by decide +kernel
theorem dX64_operand_29 : decode cX64_operand 29 = .ok (.invokevirtual 186, 3) := by decide +kernel
theorem dX64_operand_32 : decode cX64_operand 32 = .ok (.ireturn, 1) := by decide +kernel
theorem dX64_operand_33 : decode cX64_operand 33 = .ok (.aload_n 0, 1) := by decide +kernel
theorem dX64_operand_34 : decode cX64_operand 34 = .ok (.invokevirtual 189, 3) := by decide +kernel
theorem dX64_operand_37 : decode cX64_operand 37 = .ok (.ifCond .ne 5, 3) := by decide +kernel
theorem dX64_operand_40 : decode cX64_operand 40 = .ok (.iconst 0, 1) := by decide +kernel
theorem dX64_operand_41 : decode cX64_operand 41 = .ok (.ireturn, 1) := by decide +kernel
theorem dX64_operand_42 : decode cX64_operand 42 = .ok (.aload_n 0, 1) := by decide +kernel
theorem dX64_operand_43 : decode cX64_operand 43 = .ok (.getfield 106, 3) := by decide +kernel
theorem dX64_operand_46 : decode cX64_operand 46 = .ok (.ldc2_w 127, 3) := by decide +kernel
theorem dX64_operand_49 : decode cX64_operand 49 = .ok (.land, 1) := by decide +kernel
theorem dX64_operand_50 : decode cX64_operand 50 = .ok (.lstore 5, 2) := by decide +kernel
theorem dX64_operand_52 : decode cX64_operand 52 = .ok (.aload_n 0, 1) := by decide +kernel
theorem dX64_operand_53 : decode cX64_operand 53 = .ok (.getfield 159, 3) := by decide +kernel
theorem dX64_operand_56 : decode cX64_operand 56 = .ok (.iconst 2, 1) := by decide +kernel
theorem dX64_operand_57 : decode cX64_operand 57 = .ok (.if_icmp .eq 39, 3) := by decide +kernel
theorem dX64_operand_60 : decode cX64_operand 60 = .ok (.aload_n 0, 1) := by decide +kernel
theorem dX64_operand_61 : decode cX64_operand 61 = .ok (.bipush 42, 2) := by decide +kernel
theorem dX64_operand_63 : decode cX64_operand 63 = .ok (.invokevirtual 72, 3) := by decide +kernel
theorem dX64_operand_66 : decode cX64_operand 66 = .ok (.ifCond .eq 30, 3) := by decide +kernel
theorem dX64_operand_69 : decode cX64_operand 69 = .ok (.aload_n 0, 1) := by decide +kernel
theorem dX64_operand_70 : decode cX64_operand 70 = .ok (.aload_n 0, 1) := by decide +kernel
theorem dX64_operand_71 : decode cX64_operand 71 = .ok (.getfield 159, 3) := by decide +kernel
theorem dX64_operand_74 : decode cX64_operand 74 = .ok (.iconst 3, 1) := by decide +kernel
theorem dX64_operand_75 : decode cX64_operand 75 = .ok (.if_icmp .ne 8, 3) := by decide +kernel
theorem dX64_operand_78 : decode cX64_operand 78 = .ok (.bipush 6, 2) := by decide +kernel
theorem dX64_operand_80 : decode cX64_operand 80 = .ok (.goto 9, 3) := by decide +kernel
theorem dX64_operand_83 : decode cX64_operand 83 = .ok (.aload_n 0, 1) := by decide +kernel
theorem dX64_operand_84 : decode cX64_operand 84 = .ok (.getfield 159, 3) := by decide +kernel
theorem dX64_operand_87 : decode cX64_operand 87 = .ok (.iconst 4, 1) := by decide +kernel
theorem dX64_operand_88 : decode cX64_operand 88 = .ok (.iadd, 1) := by decide +kernel
theorem dX64_operand_89 : decode cX64_operand 89 = .ok (.putfield 159, 3) := by decide +kernel
theorem dX64_operand_92 : decode cX64_operand 92 = .ok (.aload_n 0, 1) := by decide +kernel
theorem dX64_operand_93 : decode cX64_operand 93 = .ok (.invokevirtual 76, 3) := by decide +kernel
theorem dX64_operand_96 : decode cX64_operand 96 = .ok (.iconst 0, 1) := by decide +kernel
theorem dX64_operand_97 : decode cX64_operand 97 = .ok (.istore 7, 2) := by decide +kernel
theorem dX64_operand_99 : decode cX64_operand 99 = .ok (.aload_n 0, 1) := by decide +kernel
theorem dX64_operand_100 : decode cX64_operand 100 = .ok (.bipush 44, 2) := by decide +kernel
theorem dX64_operand_102 : decode cX64_operand 102 = .ok (.invokevirtual 72, 3) := by decide +kernel
theorem dX64_operand_105 : decode cX64_operand 105 = .ok (.ifCond .eq 106, 3) := by decide +kernel
theorem dX64_operand_108 : decode cX64_operand 108 = .ok (.aload_n 0, 1) := by decide +kernel
theorem dX64_operand_109 : decode cX64_operand 109 = .ok (.invokevirtual 76, 3) := by decide +kernel
theorem dX64_operand_112 : decode cX64_operand 112 = .ok (.aload_n 0, 1) := by decide +kernel
theorem dX64_operand_113 : decode cX64_operand 113 = .ok (.getfield 61, 3) := by decide +kernel
theorem dX64_operand_116 : decode cX64_operand 116 = .ok (.iconst 1, 1) := by decide +kernel
theorem dX64_operand_117 : decode cX64_operand 117 = .ok (.if_icmp .ne 62, 3) := by decide +kernel
theorem dX64_operand_120 : decode cX64_operand 120 = .ok (.aload_n 0, 1) := by decide +kernel
theorem dX64_operand_121 : decode cX64_operand 121 = .ok (.getfield 52, 3) := by decide +kernel
theorem dX64_operand_124 : decode cX64_operand 124 = .ok (.aload_n 0, 1) := by decide +kernel
theorem dX64_operand_125 : decode cX64_operand 125 = .ok (.getfield 55, 3) := by decide +kernel
theorem dX64_operand_128 : decode cX64_operand 128 = .ok (.isub, 1) := by decide +kernel
theorem dX64_operand_129 : decode cX64_operand 129 = .ok (.iconst 2, 1) := by decide +kernel
theorem dX64_operand_130 : decode cX64_operand 130 = .ok (.if_icmp .ne 49, 3) := by decide +kernel
theorem dX64_operand_133 : decode cX64_operand 133 = .ok (.aload_n 0, 1) := by decide +kernel
theorem dX64_operand_134 : decode cX64_operand 134 = .ok (.getfield 9, 3) := by decide +kernel
theorem dX64_operand_137 : decode cX64_operand 137 = .ok (.aload_n 0, 1) := by decide +kernel
theorem dX64_operand_138 : decode cX64_operand 138 = .ok (.getfield 55, 3) := by decide +kernel
theorem dX64_operand_141 : decode cX64_operand 141 = .ok (.iaload, 1) := by decide +kernel
theorem dX64_operand_142 : decode cX64_operand 142 = .ok (.bipush 120, 2) := by decide +kernel
theorem dX64_operand_144 : decode cX64_operand 144 = .ok (.if_icmp .ne 35, 3) := by decide +kernel
theorem dX64_operand_147 : decode cX64_operand 147 = .ok (.aload_n 0, 1) := by decide +kernel
theorem dX64_operand_148 : decode cX64_operand 148 = .ok (.getfield 9, 3) := by decide +kernel
theorem dX64_operand_151 : decode cX64_operand 151 = .ok (.aload_n 0, 1) := by decide +kernel
theorem dX64_operand_152 : decode cX64_operand 152 = .ok (.getfield 55, 3) := by decide +kernel
theorem dX64_operand_155 : decode cX64_operand 155 = .ok (.iconst 1, 1) := by decide +kernel
theorem dX64_operand_156 : decode cX64_operand 156 = .ok (.iadd, 1) := by decide +kernel
theorem dX64_operand_157 : decode cX64_operand 157 = .ok (.iaload, 1) := by decide +kernel
theorem dX64_operand_158 : decode cX64_operand 158 = .ok (.bipush 48, 2) := by decide +kernel
theorem dX64_operand_160 : decode cX64_operand 160 = .ok (.if_icmp .lt 19, 3) := by decide +kernel
theorem dX64_operand_163 : decode cX64_operand 163 = .ok (.aload_n 0, 1) := by decide +kernel
theorem dX64_operand_164 : decode cX64_operand 164 = .ok (.getfield 9, 3) := by decide +kernel
theorem dX64_operand_167 : decode cX64_operand 167 = .ok (.aload_n 0, 1) := by decide +kernel
theorem dX64_operand_168 : decode cX64_operand 168 = .ok (.getfield 55, 3) := by decide +kernel
theorem dX64_operand_171 : decode cX64_operand 171 = .ok (.iconst 1, 1) := by decide +kernel
theorem dX64_operand_172 : decode cX64_operand 172 = .ok (.iadd, 1) := by decide +kernel
theorem dX64_operand_173 : decode cX64_operand 173 = .ok (.iaload, 1) := by decide +kernel
theorem dX64_operand_174 : decode cX64_operand 174 = .ok (.bipush 51, 2) := by decide +kernel
theorem dX64_operand_176 : decode cX64_operand 176 = .ok (.if_icmp .le 13, 3) := by decide +kernel
theorem dX64_operand_179 : decode cX64_operand 179 = .ok (.aload_n 0, 1) := by decide +kernel
theorem dX64_operand_180 : decode cX64_operand 180 = .ok (.iconst 1, 1) := by decide +kernel
theorem dX64_operand_181 : decode cX64_operand 181 = .ok (.aload_n 0, 1) := by decide +kernel
theorem dX64_operand_182 : decode cX64_operand 182 = .ok (.getfield 55, 3) := by decide +kernel
theorem dX64_operand_185 : decode cX64_operand 185 = .ok (.invokevirtual 68, 3) := by decide +kernel
theorem dX64_operand_188 : decode cX64_operand 188 = .ok (.ireturn, 1) := by decide +kernel
theorem dX64_operand_189 : decode cX64_operand 189 = .ok (.aload_n 0, 1) := by decide +kernel
theorem dX64_operand_190 : decode cX64_operand 190 = .ok (.getfield 9, 3) := by decide +kernel
theorem dX64_operand_193 : decode cX64_operand 193 = .ok (.aload_n 0, 1) := by decide +kernel
theorem dX64_operand_194 : decode cX64_operand 194 = .ok (.getfield 55, 3) := by decide +kernel
theorem dX64_operand_197 : decode cX64_operand 197 = .ok (.iconst 1, 1) := by decide +kernel
theorem dX64_operand_198 : decode cX64_operand 198 = .ok (.iadd, 1) := by decide +kernel
theorem dX64_operand_199 : decode cX64_operand 199 = .ok (.iaload, 1) := by decide +kernel
theorem dX64_operand_200 : decode cX64_operand 200 = .ok (.bipush 48, 2) := by decide +kernel
theorem dX64_operand_202 : decode cX64_operand 202 = .ok (.isub, 1) := by decide +kernel
theorem dX64_operand_203 : decode cX64_operand 203 = .ok (.iconst 1, 1) := by decide +kernel
theorem dX64_operand_204 : decode cX64_operand 204 = .ok (.iadd, 1) := by decide +kernel
theorem dX64_operand_205 : decode cX64_operand 205 = .ok (.istore 7, 2) := by decide +kernel
theorem dX64_operand_207 : decode cX64_operand 207 = .ok (.aload_n 0, 1) := by decide +kernel
theorem dX64_operand_208 : decode cX64_operand 208 = .ok (.invokevirtual 76, 3) := by decide +kernel
theorem dX64_operand_211 : decode cX64_operand 211 = .ok (.aload_n 0, 1) := by decide +kernel
theorem dX64_operand_212 : decode cX64_operand 212 = .ok (.lload_n 3, 1) := by decide +kernel
theorem dX64_operand_213 : decode cX64_operand 213 = .ok (.aload_n 0, 1) := by decide +kernel
theorem dX64_operand_214 : decode cX64_operand 214 = .ok (.getfield 159, 3) := by decide +kernel
theorem dX64_operand_217 : decode cX64_operand 217 = .ok (.i2l, 1) := by decide +kernel
theorem dX64_operand_218 : decode cX64_operand 218 = .ok (.bipush 27, 2) := by decide +kernel
theorem dX64_operand_220 : decode cX64_operand 220 = .ok (.lshl, 1) := by decide +kernel
theorem dX64_operand_221 : decode cX64_operand 221 = .ok (.lor, 1) := by decide +kernel
theorem dX64_operand_222 : decode cX64_operand 222 = .ok (.aload_n 0, 1) := by decide +kernel
theorem dX64_operand_223 : decode cX64_operand 223 = .ok (.getfield 162, 3) := by decide +kernel
theorem dX64_operand_226 : decode cX64_operand 226 = .ok (.i2l, 1) := by decide +kernel
theorem dX64_operand_227 : decode cX64_operand 227 = .ok (.bipush 24, 2) := by decide +kernel
theorem dX64_operand_229 : decode cX64_operand 229 = .ok (.lshl, 1) := by decide +kernel
theorem dX64_operand_230 : decode cX64_operand 230 = .ok (.lor, 1) := by decide +kernel
theorem dX64_operand_231 : decode cX64_operand 231 = .ok (.iload 7, 2) := by decide +kernel
theorem dX64_operand_233 : decode cX64_operand 233 = .ok (.i2l, 1) := by decide +kernel
theorem dX64_operand_234 : decode cX64_operand 234 = .ok (.bipush 18, 2) := by decide +kernel
theorem dX64_operand_236 : decode cX64_operand 236 = .ok (.lshl, 1) := by decide +kernel
theorem dX64_operand_237 : decode cX64_operand 237 = .ok (.lor, 1) := by decide +kernel
theorem dX64_operand_238 : decode cX64_operand 238 = .ok (.lload 5, 2) := by decide +kernel
theorem dX64_operand_240 : decode cX64_operand 240 = .ok (.lor, 1) := by decide +kernel
theorem dX64_operand_241 : decode cX64_operand 241 = .ok (.invokevirtual 182, 3) := by decide +kernel
theorem dX64_operand_244 : decode cX64_operand 244 = .ok (.aload_n 0, 1) := by decide +kernel
theorem dX64_operand_245 : decode cX64_operand 245 = .ok (.invokevirtual 186, 3) := by decide +kernel
theorem dX64_operand_248 : decode cX64_operand 248 = .ok (.ireturn, 1) := by decide +kernel
theorem zy_X64_operand : yX64_operand.cls ≠ "java/lang/invoke/MethodHandle" ∧ yX64_operand.cls ≠ "java/lang/invoke/VarHandle" ∧ (parseMethodDescriptor yX64_operand.desc).map (fun d => d.parameters.length) = some 2 := by decide +kernel
theorem w_fX64_operand_J211 {K : zK} (E : zE K cX64_operand "RingHouse$Assembler" (some .boolean) 7) (hN : zNl K = 8) (hT : zTr K = (some 0)) (x3 : Int) (x5 : Int) (x7 : Int) : zR K 211 [(0, 66, 0), (3, 1, x3), (5, 1, x5), (7, 0, x7)] [] (fX64_operand_J211 x3 x5 x7) := by
  refine r_aload_n E dX64_operand_211 rfl 0 rfl ?_
  refine r_lload_n E dX64_operand_212 rfl 1 rfl ?_
  refine r_aload_n E dX64_operand_213 rfl 0 rfl ?_
  refine r_get E zc_66 zt_6523 dX64_operand_214 q1653 zr_66 (zg_6523 _) (by decide) (fun v9 => ?_)
  refine r_i2l E dX64_operand_217 ?_
  refine r_bipush E dX64_operand_218 (by decide) (zkI (by decide) (by decide)) ?_
  refine r_lshl (P := 134217728) E (by decide) dX64_operand_220 ?_
  refine r_lor E dX64_operand_221 ?_
  refine r_aload_n E dX64_operand_222 rfl 0 rfl ?_
  refine r_get E zc_66 zt_6524 dX64_operand_223 q1654 zr_66 (zg_6524 _) (by decide) (fun v10 => ?_)
  refine r_i2l E dX64_operand_226 ?_
  refine r_bipush E dX64_operand_227 (by decide) (zkI (by decide) (by decide)) ?_
  refine r_lshl (P := 16777216) E (by decide) dX64_operand_229 ?_
  refine r_lor E dX64_operand_230 ?_
  refine r_iload E dX64_operand_231 3 rfl ?_
  refine r_i2l E dX64_operand_233 ?_
  refine r_bipush E dX64_operand_234 (by decide) (zkI (by decide) (by decide)) ?_
  refine r_lshl (P := 262144) E (by decide) dX64_operand_236 ?_
  refine r_lor E dX64_operand_237 ?_
  refine r_lload E dX64_operand_238 2 rfl ?_
  refine r_lor E dX64_operand_240 ?_
  refine r_callV E [(1, (zoR (zoR (zoR (zoR x3 (zl (v9 * 134217728))) (zl (v10 * 16777216))) (zl (x7 * 262144))) x5))] [] rfl zc_66 zr_66 (fun o _ => ⟨_, zw_X64.1 o, rfl⟩) (lw_V q2887 q2889 qs47 q291 q2890) dX64_operand_241 zy_X64_put rfl (by omega) (by decide) (Nat.le_of_ble_eq_true rfl) (by decide) (fun l G => k_fX64_put l G (zoR (zoR (zoR (zoR x3 (zl (v9 * 134217728))) (zl (v10 * 16777216))) (zl (x7 * 262144))) x5)) (fun _ => ?_)
  refine r_aload_n E dX64_operand_244 rfl 0 rfl ?_
  refine r_callV E [] [] rfl zc_66 zr_66 (fun o _ => ⟨_, zw_X64.1 o, rfl⟩) (lw_V q2892 q2894 qs48 q291 q2895) dX64_operand_245 zy_X64_isEnd rfl (by omega) (by decide) (Nat.le_of_ble_eq_true rfl) (by decide) (fun l G => k_fX64_isEnd l G) (fun v12 => ?_)
  exact r_zreturnb E rfl hT dX64_operand_248
theorem w_fX64_operand_J179 {K : zK} (E : zE K cX64_operand "RingHouse$Assembler" (some .boolean) 7) (hN : zNl K = 8) (hT : zTr K = (some 0)) : zR K 179 [(0, 66, 0)] [] (fX64_operand_J179) := by
  refine r_aload_n E dX64_operand_179 rfl 0 rfl ?_
  refine r_iconst E dX64_operand_180 (zkI (by decide) (by decide)) ?_
  refine r_aload_n E dX64_operand_181 rfl 0 rfl ?_
  refine r_get E zc_66 zt_6505 dX64_operand_182 q1634 zr_66 (zg_6505 _) (by decide) (fun v15 => ?_)
  refine r_callV E [(0, 1), (0, v15)] [] rfl zc_66 zr_66 (fun o _ => ⟨_, zw_X64.1 o, rfl⟩) (lw_V q2803 q2805 qs38 q291 q2806) dX64_operand_185 zy_X64_wrong rfl (by omega) (by decide) (Nat.le_of_ble_eq_true rfl) (by decide) (fun l G => k_fX64_wrong l G 1 v15) (fun v16 => ?_)
  exact r_zreturnb E rfl hT dX64_operand_188
theorem w_fX64_operand_J96 {K : zK} (E : zE K cX64_operand "RingHouse$Assembler" (some .boolean) 7) (hN : zNl K = 8) (hT : zTr K = (some 0)) (x3 : Int) (x5 : Int) : zR K 96 [(0, 66, 0), (3, 1, x3), (5, 1, x5)] [] (fX64_operand_J96 x3 x5) := by
  refine r_iconst E dX64_operand_96 (zkI (by decide) (by decide)) ?_
  refine r_istore (ls' := [(7, 0, 0), (0, 66, 0), (3, 1, x3), (5, 1, x5)]) E dX64_operand_97 (by rw [hN]; decide) rfl ?_
  refine r_aload_n E dX64_operand_99 rfl 1 rfl ?_
  refine r_bipush E dX64_operand_100 (by decide) (zkI (by decide) (by decide)) ?_
  refine r_callV E [(0, 44)] [] rfl zc_66 zr_66 (fun o _ => ⟨_, zw_X64.1 o, rfl⟩) (lw_V q2807 q2809 qs39 q291 q2810) dX64_operand_102 zy_X64_is rfl (by omega) (by decide) (Nat.le_of_ble_eq_true rfl) (by decide) (fun l G => k_fX64_is l G 44) (fun v8 => ?_)
  refine r_if_eq E 211 (by decide) dX64_operand_105 (fun _ => ?_) (fun _ => ?_)
  · refine r_pick E [1, 2, 3, 0] rfl ?_
    exact w_fX64_operand_J211 E hN hT x3 x5 0
  · refine r_aload_n E dX64_operand_108 rfl 1 rfl ?_
    refine r_callV E [] [] rfl zc_66 zr_66 (fun o _ => ⟨_, zw_X64.1 o, rfl⟩) (lw_V q2796 q2798 qs37 q291 q2799) dX64_operand_109 zy_X64_next rfl (by omega) (by decide) (Nat.le_of_ble_eq_true rfl) (by decide) (fun l G => k_fX64_next l G) (fun _ => ?_)
    refine r_aload_n E dX64_operand_112 rfl 1 rfl ?_
    refine r_get E zc_66 zt_6504 dX64_operand_113 q1633 zr_66 (zg_6504 _) (by decide) (fun v14 => ?_)
    refine r_iconst E dX64_operand_116 (zkI (by decide) (by decide)) ?_
    refine r_icmp_ne E 179 (by decide) dX64_operand_117 (fun _ => ?_) (fun _ => ?_)
    · refine r_pick E [1] rfl ?_
      exact w_fX64_operand_J179 E hN hT
    · refine r_aload_n E dX64_operand_120 rfl 1 rfl ?_
      refine r_get E zc_66 zt_6506 dX64_operand_121 q1635 zr_66 (zg_6506 _) (by decide) (fun v17 => ?_)
      refine r_aload_n E dX64_operand_124 rfl 1 rfl ?_
      refine r_get E zc_66 zt_6505 dX64_operand_125 q1634 zr_66 (zg_6505 _) (by decide) (fun v18 => ?_)
      refine r_isub E dX64_operand_128 ?_
      refine r_iconst E dX64_operand_129 (zkI (by decide) (by decide)) ?_
      refine r_icmp_ne E 179 (by decide) dX64_operand_130 (fun _ => ?_) (fun _ => ?_)
      · refine r_pick E [1] rfl ?_
        exact w_fX64_operand_J179 E hN hT
      · refine r_aload_n E dX64_operand_133 rfl 1 rfl ?_
        refine r_gec (y := 0) E zc_66 dX64_operand_134 q1629 zr_66 (zh_6502 (by decide)) (by decide) ?_
        refine r_aload_n E dX64_operand_137 rfl 1 rfl ?_
        refine r_get E zc_66 zt_6505 dX64_operand_138 q1634 zr_66 (zg_6505 _) (by decide) (fun v19 => ?_)
        refine r_iaload E zc_6502 za_6502 zt_6502 zx_6502 rfl rfl dX64_operand_141 (by decide) (fun v20 => ?_)
        refine r_bipush E dX64_operand_142 (by decide) (zkI (by decide) (by decide)) ?_
        refine r_icmp_ne E 179 (by decide) dX64_operand_144 (fun _ => ?_) (fun _ => ?_)
        · refine r_pick E [1] rfl ?_
          exact w_fX64_operand_J179 E hN hT
        · refine r_aload_n E dX64_operand_147 rfl 1 rfl ?_
          refine r_gec (y := 0) E zc_66 dX64_operand_148 q1629 zr_66 (zh_6502 (by decide)) (by decide) ?_
          refine r_aload_n E dX64_operand_151 rfl 1 rfl ?_
          refine r_get E zc_66 zt_6505 dX64_operand_152 q1634 zr_66 (zg_6505 _) (by decide) (fun v21 => ?_)
          refine r_iconst E dX64_operand_155 (zkI (by decide) (by decide)) ?_
          refine r_iadd E dX64_operand_156 ?_
          refine r_iaload E zc_6502 za_6502 zt_6502 zx_6502 rfl rfl dX64_operand_157 (by decide) (fun v22 => ?_)
          refine r_bipush E dX64_operand_158 (by decide) (zkI (by decide) (by decide)) ?_
          refine r_icmp_lt E 179 (by decide) dX64_operand_160 (fun _ => ?_) (fun _ => ?_)
          · refine r_pick E [1] rfl ?_
            exact w_fX64_operand_J179 E hN hT
          · refine r_aload_n E dX64_operand_163 rfl 1 rfl ?_
            refine r_gec (y := 0) E zc_66 dX64_operand_164 q1629 zr_66 (zh_6502 (by decide)) (by decide) ?_
            refine r_aload_n E dX64_operand_167 rfl 1 rfl ?_
            refine r_get E zc_66 zt_6505 dX64_operand_168 q1634 zr_66 (zg_6505 _) (by decide) (fun v23 => ?_)
            refine r_iconst E dX64_operand_171 (zkI (by decide) (by decide)) ?_
            refine r_iadd E dX64_operand_172 ?_
            refine r_iaload E zc_6502 za_6502 zt_6502 zx_6502 rfl rfl dX64_operand_173 (by decide) (fun v24 => ?_)
            refine r_bipush E dX64_operand_174 (by decide) (zkI (by decide) (by decide)) ?_
            refine r_icmp_le E 189 (by decide) dX64_operand_176 (fun _ => ?_) (fun _ => ?_)
            · refine r_aload_n E dX64_operand_189 rfl 1 rfl ?_
              refine r_gec (y := 0) E zc_66 dX64_operand_190 q1629 zr_66 (zh_6502 (by decide)) (by decide) ?_
              refine r_aload_n E dX64_operand_193 rfl 1 rfl ?_
              refine r_get E zc_66 zt_6505 dX64_operand_194 q1634 zr_66 (zg_6505 _) (by decide) (fun v25 => ?_)
              refine r_iconst E dX64_operand_197 (zkI (by decide) (by decide)) ?_
              refine r_iadd E dX64_operand_198 ?_
              refine r_iaload E zc_6502 za_6502 zt_6502 zx_6502 rfl rfl dX64_operand_199 (by decide) (fun v26 => ?_)
              refine r_bipush E dX64_operand_200 (by decide) (zkI (by decide) (by decide)) ?_
              refine r_isub E dX64_operand_202 ?_
              refine r_iconst E dX64_operand_203 (zkI (by decide) (by decide)) ?_
              refine r_iadd E dX64_operand_204 ?_
              refine r_let E (fun v27 ev27 => ?_)
              refine r_istore (ls' := [(7, 0, v27), (0, 66, 0), (3, 1, x3), (5, 1, x5)]) E dX64_operand_205 (by rw [hN]; decide) rfl ?_
              refine r_aload_n E dX64_operand_207 rfl 1 rfl ?_
              refine r_callV E [] [] rfl zc_66 zr_66 (fun o _ => ⟨_, zw_X64.1 o, rfl⟩) (lw_V q2796 q2798 qs37 q291 q2799) dX64_operand_208 zy_X64_next rfl (by omega) (by decide) (Nat.le_of_ble_eq_true rfl) (by decide) (fun l G => k_fX64_next l G) (fun _ => ?_)
              refine r_pick E [1, 2, 3, 0] rfl ?_
              exact w_fX64_operand_J211 E hN hT x3 x5 v27
            · refine r_pick E [1] rfl ?_
              exact w_fX64_operand_J179 E hN hT
theorem w_fX64_operand_J89 {K : zK} (E : zE K cX64_operand "RingHouse$Assembler" (some .boolean) 7) (hN : zNl K = 8) (hT : zTr K = (some 0)) (x3 : Int) (x5 : Int) (s1 : Int) : zR K 89 [(0, 66, 0), (3, 1, x3), (5, 1, x5)] [(0, s1), (66, 0)] (fX64_operand_J89 x3 x5 s1) := by
  refine r_put E zc_66 zt_6523 zo_6523 dX64_operand_89 q1653 zr_66 zw_X64 zp_6523 (fun _ => rfl) (fun _ => rfl) (by decide) ?_
  refine r_aload_n E dX64_operand_92 rfl 0 rfl ?_
  refine r_callV E [] [] rfl zc_66 zr_66 (fun o _ => ⟨_, zw_X64.1 o, rfl⟩) (lw_V q2796 q2798 qs37 q291 q2799) dX64_operand_93 zy_X64_next rfl (by omega) (by decide) (Nat.le_of_ble_eq_true rfl) (by decide) (fun l G => k_fX64_next l G) (fun _ => ?_)
  exact w_fX64_operand_J96 E hN hT x3 x5
theorem w_fX64_operand {K : zK} (E : zE K cX64_operand "RingHouse$Assembler" (some .boolean) 7) (hN : zNl K = 8) (hT : zTr K = (some 0)) (x1 : Int) (x2 : Int) : zR K 0 [(0, 66, 0), (1, 16, x1), (2, 0, x2)] [] (fX64_operand x1 x2) := by
  refine r_aload_n E dX64_operand_0 rfl 0 rfl ?_
  refine r_aload_n E dX64_operand_1 rfl 1 rfl ?_
  refine r_callV E [(16, x1)] [] rfl zc_66 zr_66 (fun o _ => ⟨_, zw_X64.1 o, rfl⟩) (lw_V q2883 q2885 qs46 q291 q2886) dX64_operand_2 zy_X64_which rfl (by omega) (by decide) (Nat.le_of_ble_eq_true rfl) (by decide) (fun l G => k_fX64_which l G x1) (fun v1 => ?_)
  refine r_i2l E dX64_operand_5 ?_
  refine r_bipush E dX64_operand_6 (by decide) (zkI (by decide) (by decide)) ?_
  refine r_lshl (P := 1073741824) E (by decide) dX64_operand_8 ?_
  refine r_iload_n E dX64_operand_9 rfl 2 rfl ?_
  refine r_i2l E dX64_operand_10 ?_
  refine r_bipush E dX64_operand_11 (by decide) (zkI (by decide) (by decide)) ?_
  refine r_lshl (P := 2097152) E (by decide) dX64_operand_13 ?_
  refine r_lor E dX64_operand_14 ?_
  refine r_let E (fun v2 ev2 => ?_)
  refine r_lstore_n (ls' := [(3, 1, v2), (0, 66, 0), (1, 16, x1), (2, 0, x2)]) E dX64_operand_15 rfl (by rw [hN]; decide) rfl ?_
  refine r_aload_n E dX64_operand_16 rfl 2 rfl ?_
  refine r_nn E (fun hn3 => ?_)
  refine r_gecN (y := (zsort x1)) E zc_16 dX64_operand_17 q1041 zr_16 (zhv_sort _) hn3 ?_
  refine r_if_ne E 33 (by decide) dX64_operand_20 (fun _ => ?_) (fun _ => ?_)
  · refine r_aload_n E dX64_operand_33 rfl 1 rfl ?_
    refine r_callV E [] [] rfl zc_66 zr_66 (fun o _ => ⟨_, zw_X64.1 o, rfl⟩) (lw_V q2896 q2898 qs49 q291 q2899) dX64_operand_34 zy_X64_addressed rfl (by omega) (by decide) (Nat.le_of_ble_eq_true rfl) (by decide) (fun l G => k_fX64_addressed l G) (fun v4 => ?_)
    refine r_if_ne E 42 (by decide) dX64_operand_37 (fun _ => ?_) (fun _ => ?_)
    · refine r_aload_n E dX64_operand_42 rfl 1 rfl ?_
      refine r_get E zc_66 zt_6522 dX64_operand_43 q1652 zr_66 (zg_6522 _) (by decide) (fun v5 => ?_)
      refine r_ldc2 (v := 262143) E dX64_operand_46 q2905 (by decide) (zkJ (by decide) (by decide)) ?_
      refine r_lmask (P := 262144) E 18 (by decide) (by decide) (by decide) dX64_operand_49 ?_
      refine r_let E (fun v6 ev6 => ?_)
      refine r_lstore (ls' := [(5, 1, v6), (3, 1, v2), (0, 66, 0), (1, 16, x1), (2, 0, x2)]) E dX64_operand_50 (by rw [hN]; decide) rfl ?_
      refine r_aload_n E dX64_operand_52 rfl 2 rfl ?_
      refine r_get E zc_66 zt_6523 dX64_operand_53 q1653 zr_66 (zg_6523 _) (by decide) (fun v7 => ?_)
      refine r_iconst E dX64_operand_56 (zkI (by decide) (by decide)) ?_
      refine r_icmp_eq E 96 (by decide) dX64_operand_57 (fun _ => ?_) (fun _ => ?_)
      · refine r_pick E [2, 1, 0] rfl ?_
        exact w_fX64_operand_J96 E hN hT v2 v6
      · refine r_aload_n E dX64_operand_60 rfl 2 rfl ?_
        refine r_bipush E dX64_operand_61 (by decide) (zkI (by decide) (by decide)) ?_
        refine r_callV E [(0, 42)] [] rfl zc_66 zr_66 (fun o _ => ⟨_, zw_X64.1 o, rfl⟩) (lw_V q2807 q2809 qs39 q291 q2810) dX64_operand_63 zy_X64_is rfl (by omega) (by decide) (Nat.le_of_ble_eq_true rfl) (by decide) (fun l G => k_fX64_is l G 42) (fun v29 => ?_)
        refine r_if_eq E 96 (by decide) dX64_operand_66 (fun _ => ?_) (fun _ => ?_)
        · refine r_pick E [2, 1, 0] rfl ?_
          exact w_fX64_operand_J96 E hN hT v2 v6
        · refine r_aload_n E dX64_operand_69 rfl 2 rfl ?_
          refine r_aload_n E dX64_operand_70 rfl 2 rfl ?_
          refine r_get E zc_66 zt_6523 dX64_operand_71 q1653 zr_66 (zg_6523 _) (by decide) (fun v30 => ?_)
          refine r_iconst E dX64_operand_74 (zkI (by decide) (by decide)) ?_
          refine r_icmp_ne E 83 (by decide) dX64_operand_75 (fun _ => ?_) (fun _ => ?_)
          · refine r_aload_n E dX64_operand_83 rfl 2 rfl ?_
            refine r_get E zc_66 zt_6523 dX64_operand_84 q1653 zr_66 (zg_6523 _) (by decide) (fun v31 => ?_)
            refine r_iconst E dX64_operand_87 (zkI (by decide) (by decide)) ?_
            refine r_iadd E dX64_operand_88 ?_
            refine r_pick E [2, 1, 0] rfl ?_
            exact w_fX64_operand_J89 E hN hT v2 v6 (zi (v31 + 4))
          · refine r_bipush E dX64_operand_78 (by decide) (zkI (by decide) (by decide)) ?_
            refine r_goto E 89 (by decide) dX64_operand_80 ?_
            refine r_pick E [2, 1, 0] rfl ?_
            exact w_fX64_operand_J89 E hN hT v2 v6 6
    · refine r_iconst E dX64_operand_40 (zkI (by decide) (by decide)) ?_
      exact r_zreturn E rfl hT (by decide) dX64_operand_41
  · refine r_aload_n E dX64_operand_23 rfl 1 rfl ?_
    refine r_lload_n E dX64_operand_24 rfl 0 rfl ?_
    refine r_callV E [(1, v2)] [] rfl zc_66 zr_66 (fun o _ => ⟨_, zw_X64.1 o, rfl⟩) (lw_V q2887 q2889 qs47 q291 q2890) dX64_operand_25 zy_X64_put rfl (by omega) (by decide) (Nat.le_of_ble_eq_true rfl) (by decide) (fun l G => k_fX64_put l G v2) (fun _ => ?_)
    refine r_aload_n E dX64_operand_28 rfl 1 rfl ?_
    refine r_callV E [] [] rfl zc_66 zr_66 (fun o _ => ⟨_, zw_X64.1 o, rfl⟩) (lw_V q2892 q2894 qs48 q291 q2895) dX64_operand_29 zy_X64_isEnd rfl (by omega) (by decide) (Nat.le_of_ble_eq_true rfl) (by decide) (fun l G => k_fX64_isEnd l G) (fun v34 => ?_)
    exact r_zreturnb E rfl hT dX64_operand_32
theorem k_fX64_operand (l : Launch) (G : zG) (x1 : Int) (x2 : Int) : zCt l G yX64_operand cX64_operand 8 (some .boolean) 7 [(66, 0), (16, x1), (0, x2)] (some 0) (fX64_operand x1 x2) := zCt.of (by decide) (Nat.le_of_ble_eq_true rfl) (fun K E _ _ hN hT => w_fX64_operand E hN hT x1 x2)
theorem dX64_statement_0 : decode cX64_statement 0 = .ok (.aload_n 0, 1) := by decide +kernel
theorem dX64_statement_1 : decode cX64_statement 1 = .ok (.getfield 9, 3) := by decide +kernel
theorem dX64_statement_4 : decode cX64_statement 4 = .ok (.iload_n 1, 1) := by decide +kernel
theorem dX64_statement_5 : decode cX64_statement 5 = .ok (.iaload, 1) := by decide +kernel
theorem dX64_statement_6 : decode cX64_statement 6 = .ok (.bipush 46, 2) := by decide +kernel
theorem dX64_statement_8 : decode cX64_statement 8 = .ok (.if_icmp .eq 51, 3) := by decide +kernel
theorem dX64_statement_11 : decode cX64_statement 11 = .ok (.aload_n 0, 1) := by decide +kernel
theorem dX64_statement_12 : decode cX64_statement 12 = .ok (.iload_n 1, 1) := by decide +kernel
theorem dX64_statement_13 : decode cX64_statement 13 = .ok (.iload_n 2, 1) := by decide +kernel
theorem dX64_statement_14 : decode cX64_statement 14 = .ok (.invokevirtual 209, 3) := by decide +kernel
theorem dX64_statement_17 : decode cX64_statement 17 = .ok (.astore_n 3, 1) := by decide +kernel
theorem dX64_statement_18 : decode cX64_statement 18 = .ok (.aload_n 3, 1) := by decide +kernel
theorem dX64_statement_19 : decode cX64_statement 19 = .ok (.ifnonnull 12, 3) := by decide +kernel
theorem dX64_statement_22 : decode cX64_statement 22 = .ok (.aload_n 0, 1) := by decide +kernel
theorem dX64_statement_23 : decode cX64_statement 23 = .ok (.iconst 2, 1) := by decide +kernel
theorem dX64_statement_24 : decode cX64_statement 24 = .ok (.iload_n 1, 1) := by decide +kernel
theorem dX64_statement_25 : decode cX64_statement 25 = .ok (.invokevirtual 68, 3) := by decide +kernel
theorem dX64_statement_28 : decode cX64_statement 28 = .ok (.goto 30, 3) := by decide +kernel
theorem dX64_statement_31 : decode cX64_statement 31 = .ok (.aload_n 0, 1) := by decide +kernel
theorem dX64_statement_32 : decode cX64_statement 32 = .ok (.aload_n 3, 1) := by decide +kernel
theorem dX64_statement_33 : decode cX64_statement 33 = .ok (.aload_n 3, 1) := by decide +kernel
theorem dX64_statement_34 : decode cX64_statement 34 = .ok (.getfield 149, 3) := by decide +kernel
theorem dX64_statement_37 : decode cX64_statement 37 = .ok (.ifCond .le 17, 3) := by decide +kernel
theorem dX64_statement_40 : decode cX64_statement 40 = .ok (.aload_n 0, 1) := by decide +kernel
theorem dX64_statement_41 : decode cX64_statement 41 = .ok (.getfield 9, 3) := by decide +kernel
theorem dX64_statement_44 : decode cX64_statement 44 = .ok (.iload_n 2, 1) := by decide +kernel
theorem dX64_statement_45 : decode cX64_statement 45 = .ok (.iconst 1, 1) := by decide +kernel
theorem dX64_statement_46 : decode cX64_statement 46 = .ok (.isub, 1) := by decide +kernel
theorem dX64_statement_47 : decode cX64_statement 47 = .ok (.iaload, 1) := by decide +kernel
theorem dX64_statement_48 : decode cX64_statement 48 = .ok (.bipush 48, 2) := by decide +kernel
theorem dX64_statement_50 : decode cX64_statement 50 = .ok (.isub, 1) := by decide +kernel
theorem dX64_statement_51 : decode cX64_statement 51 = .ok (.goto 4, 3) := by decide +kernel
theorem dX64_statement_54 : decode cX64_statement 54 = .ok (.iconst 0, 1) := by decide +kernel
theorem dX64_statement_55 : decode cX64_statement 55 = .ok (.invokevirtual 213, 3) := by decide +kernel
theorem dX64_statement_58 : decode cX64_statement 58 = .ok (.ireturn, 1) := by decide +kernel
theorem dX64_statement_59 : decode cX64_statement 59 = .ok (.aload_n 0, 1) := by decide +kernel
theorem dX64_statement_60 : decode cX64_statement 60 = .ok (.iload_n 1, 1) := by decide +kernel
theorem dX64_statement_61 : decode cX64_statement 61 = .ok (.iload_n 2, 1) := by decide +kernel
theorem dX64_statement_62 : decode cX64_statement 62 = .ok (.ldc 217, 2) := by decide +kernel
theorem dX64_statement_64 : decode cX64_statement 64 = .ok (.invokevirtual 219, 3) := by decide +kernel
theorem dX64_statement_67 : decode cX64_statement 67 = .ok (.ifCond .eq 10, 3) := by decide +kernel
theorem dX64_statement_70 : decode cX64_statement 70 = .ok (.aload_n 0, 1) := by decide +kernel
theorem dX64_statement_71 : decode cX64_statement 71 = .ok (.invokevirtual 223, 3) := by decide +kernel
theorem dX64_statement_74 : decode cX64_statement 74 = .ok (.goto 63, 3) := by decide +kernel
theorem dX64_statement_77 : decode cX64_statement 77 = .ok (.aload_n 0, 1) := by decide +kernel
theorem dX64_statement_78 : decode cX64_statement 78 = .ok (.iload_n 1, 1) := by decide +kernel
theorem dX64_statement_79 : decode cX64_statement 79 = .ok (.iload_n 2, 1) := by decide +kernel
theorem dX64_statement_80 : decode cX64_statement 80 = .ok (.ldc 226, 2) := by decide +kernel
theorem dX64_statement_82 : decode cX64_statement 82 = .ok (.invokevirtual 219, 3) := by decide +kernel
theorem dX64_statement_85 : decode cX64_statement 85 = .ok (.ifCond .eq 10, 3) := by decide +kernel
theorem dX64_statement_88 : decode cX64_statement 88 = .ok (.aload_n 0, 1) := by decide +kernel
theorem dX64_statement_89 : decode cX64_statement 89 = .ok (.invokevirtual 228, 3) := by decide +kernel
theorem dX64_statement_92 : decode cX64_statement 92 = .ok (.goto 45, 3) := by decide +kernel
theorem dX64_statement_95 : decode cX64_statement 95 = .ok (.aload_n 0, 1) := by decide +kernel
theorem dX64_statement_96 : decode cX64_statement 96 = .ok (.iload_n 1, 1) := by decide +kernel
theorem dX64_statement_97 : decode cX64_statement 97 = .ok (.iload_n 2, 1) := by decide +kernel
theorem dX64_statement_98 : decode cX64_statement 98 = .ok (.ldc 231, 2) := by decide +kernel
theorem dX64_statement_100 : decode cX64_statement 100 = .ok (.invokevirtual 219, 3) := by decide +kernel
theorem dX64_statement_103 : decode cX64_statement 103 = .ok (.ifCond .eq 10, 3) := by decide +kernel
theorem dX64_statement_106 : decode cX64_statement 106 = .ok (.aload_n 0, 1) := by decide +kernel
theorem dX64_statement_107 : decode cX64_statement 107 = .ok (.invokevirtual 233, 3) := by decide +kernel
theorem dX64_statement_110 : decode cX64_statement 110 = .ok (.goto 27, 3) := by decide +kernel
theorem dX64_statement_113 : decode cX64_statement 113 = .ok (.aload_n 0, 1) := by decide +kernel
theorem dX64_statement_114 : decode cX64_statement 114 = .ok (.iload_n 1, 1) := by decide +kernel
theorem dX64_statement_115 : decode cX64_statement 115 = .ok (.iload_n 2, 1) := by decide +kernel
theorem dX64_statement_116 : decode cX64_statement 116 = .ok (.ldc 236, 2) := by decide +kernel
theorem dX64_statement_118 : decode cX64_statement 118 = .ok (.invokevirtual 219, 3) := by decide +kernel
theorem dX64_statement_121 : decode cX64_statement 121 = .ok (.ifCond .eq 10, 3) := by decide +kernel
theorem dX64_statement_124 : decode cX64_statement 124 = .ok (.aload_n 0, 1) := by decide +kernel
theorem dX64_statement_125 : decode cX64_statement 125 = .ok (.invokevirtual 238, 3) := by decide +kernel
theorem dX64_statement_128 : decode cX64_statement 128 = .ok (.goto 9, 3) := by decide +kernel
theorem dX64_statement_131 : decode cX64_statement 131 = .ok (.aload_n 0, 1) := by decide +kernel
theorem dX64_statement_132 : decode cX64_statement 132 = .ok (.iconst 2, 1) := by decide +kernel
theorem dX64_statement_133 : decode cX64_statement 133 = .ok (.iload_n 1, 1) := by decide +kernel
theorem dX64_statement_134 : decode cX64_statement 134 = .ok (.invokevirtual 68, 3) := by decide +kernel
theorem dX64_statement_137 : decode cX64_statement 137 = .ok (.ireturn, 1) := by decide +kernel
theorem zy_X64_statement : yX64_statement.cls ≠ "java/lang/invoke/MethodHandle" ∧ yX64_statement.cls ≠ "java/lang/invoke/VarHandle" ∧ (parseMethodDescriptor yX64_statement.desc).map (fun d => d.parameters.length) = some 2 := by decide +kernel
theorem w_fX64_statement_J55 {K : zK} (E : zE K cX64_statement "RingHouse$Assembler" (some .boolean) 9) (hN : zNl K = 4) (hT : zTr K = (some 0)) (s1 : Int) (s2 : Int) : zR K 55 [] [(0, s2), (16, s1), (66, 0)] (fX64_statement_J55 s1 s2) := by
  refine r_callV E [(16, s1), (0, s2)] [] rfl zc_66 zr_66 (fun o _ => ⟨_, zw_X64.1 o, rfl⟩) (lw_V q2879 q2881 qs45 q291 q2882) dX64_statement_55 zy_X64_operand rfl (by omega) (by decide) (Nat.le_of_ble_eq_true rfl) (by decide) (fun l G => k_fX64_operand l G s1 s2) (fun v14 => ?_)
  exact r_zreturnb E rfl hT dX64_statement_58
theorem w_fX64_statement {K : zK} (E : zE K cX64_statement "RingHouse$Assembler" (some .boolean) 9) (hN : zNl K = 4) (hT : zTr K = (some 0)) (x1 : Int) (x2 : Int) : zR K 0 [(0, 66, 0), (1, 0, x1), (2, 0, x2)] [] (fX64_statement x1 x2) := by
  refine r_aload_n E dX64_statement_0 rfl 0 rfl ?_
  refine r_gec (y := 0) E zc_66 dX64_statement_1 q1629 zr_66 (zh_6502 (by decide)) (by decide) ?_
  refine r_iload_n E dX64_statement_4 rfl 1 rfl ?_
  refine r_iaload E zc_6502 za_6502 zt_6502 zx_6502 rfl rfl dX64_statement_5 (by decide) (fun v1 => ?_)
  refine r_bipush E dX64_statement_6 (by decide) (zkI (by decide) (by decide)) ?_
  refine r_icmp_eq E 59 (by decide) dX64_statement_8 (fun _ => ?_) (fun _ => ?_)
  · refine r_aload_n E dX64_statement_59 rfl 0 rfl ?_
    refine r_iload_n E dX64_statement_60 rfl 1 rfl ?_
    refine r_iload_n E dX64_statement_61 rfl 2 rfl ?_
    refine r_ldcS (i := 38) E dX64_statement_62 38 rfl (by decide) ?_
    refine r_callV E [(0, x1), (0, x2), (70, 38)] [] rfl zc_66 zr_66 (fun o _ => ⟨_, zw_X64.1 o, rfl⟩) (lw_V q2946 q2948 qs60 q291 q2949) dX64_statement_64 zy_X64_isDirective rfl (by omega) (by decide) (Nat.le_of_ble_eq_true rfl) (by decide) (fun l G => k_fX64_isDirective l G x1 x2 38) (fun v2 => ?_)
    refine r_if_eq E 77 (by decide) dX64_statement_67 (fun _ => ?_) (fun _ => ?_)
    · refine r_aload_n E dX64_statement_77 rfl 0 rfl ?_
      refine r_iload_n E dX64_statement_78 rfl 1 rfl ?_
      refine r_iload_n E dX64_statement_79 rfl 2 rfl ?_
      refine r_ldcS (i := 39) E dX64_statement_80 39 rfl (by decide) ?_
      refine r_callV E [(0, x1), (0, x2), (70, 39)] [] rfl zc_66 zr_66 (fun o _ => ⟨_, zw_X64.1 o, rfl⟩) (lw_V q2946 q2948 qs60 q291 q2949) dX64_statement_82 zy_X64_isDirective rfl (by omega) (by decide) (Nat.le_of_ble_eq_true rfl) (by decide) (fun l G => k_fX64_isDirective l G x1 x2 39) (fun v3 => ?_)
      refine r_if_eq E 95 (by decide) dX64_statement_85 (fun _ => ?_) (fun _ => ?_)
      · refine r_aload_n E dX64_statement_95 rfl 0 rfl ?_
        refine r_iload_n E dX64_statement_96 rfl 1 rfl ?_
        refine r_iload_n E dX64_statement_97 rfl 2 rfl ?_
        refine r_ldcS (i := 40) E dX64_statement_98 40 rfl (by decide) ?_
        refine r_callV E [(0, x1), (0, x2), (70, 40)] [] rfl zc_66 zr_66 (fun o _ => ⟨_, zw_X64.1 o, rfl⟩) (lw_V q2946 q2948 qs60 q291 q2949) dX64_statement_100 zy_X64_isDirective rfl (by omega) (by decide) (Nat.le_of_ble_eq_true rfl) (by decide) (fun l G => k_fX64_isDirective l G x1 x2 40) (fun v4 => ?_)
        refine r_if_eq E 113 (by decide) dX64_statement_103 (fun _ => ?_) (fun _ => ?_)
        · refine r_aload_n E dX64_statement_113 rfl 0 rfl ?_
          refine r_iload_n E dX64_statement_114 rfl 1 rfl ?_
          refine r_iload_n E dX64_statement_115 rfl 2 rfl ?_
          refine r_ldcS (i := 41) E dX64_statement_116 41 rfl (by decide) ?_
          refine r_callV E [(0, x1), (0, x2), (70, 41)] [] rfl zc_66 zr_66 (fun o _ => ⟨_, zw_X64.1 o, rfl⟩) (lw_V q2946 q2948 qs60 q291 q2949) dX64_statement_118 zy_X64_isDirective rfl (by omega) (by decide) (Nat.le_of_ble_eq_true rfl) (by decide) (fun l G => k_fX64_isDirective l G x1 x2 41) (fun v5 => ?_)
          refine r_if_eq E 131 (by decide) dX64_statement_121 (fun _ => ?_) (fun _ => ?_)
          · refine r_aload_n E dX64_statement_131 rfl 0 rfl ?_
            refine r_iconst E dX64_statement_132 (zkI (by decide) (by decide)) ?_
            refine r_iload_n E dX64_statement_133 rfl 1 rfl ?_
            refine r_callV E [(0, 2), (0, x1)] [] rfl zc_66 zr_66 (fun o _ => ⟨_, zw_X64.1 o, rfl⟩) (lw_V q2803 q2805 qs38 q291 q2806) dX64_statement_134 zy_X64_wrong rfl (by omega) (by decide) (Nat.le_of_ble_eq_true rfl) (by decide) (fun l G => k_fX64_wrong l G 2 x1) (fun v6 => ?_)
            exact r_zreturnb E rfl hT dX64_statement_137
          · refine r_aload_n E dX64_statement_124 rfl 0 rfl ?_
            refine r_callV E [] [] rfl zc_66 zr_66 (fun o _ => ⟨_, zw_X64.1 o, rfl⟩) (lw_V q2976 q2978 qs66 q291 q2979) dX64_statement_125 zy_X64_define rfl (by omega) (by decide) (Nat.le_of_ble_eq_true rfl) (by decide) (fun l G => k_fX64_define l G) (fun v7 => ?_)
            refine r_goto E 137 (by decide) dX64_statement_128 ?_
            exact r_zreturnb E rfl hT dX64_statement_137
        · refine r_aload_n E dX64_statement_106 rfl 0 rfl ?_
          refine r_callV E [] [] rfl zc_66 zr_66 (fun o _ => ⟨_, zw_X64.1 o, rfl⟩) (lw_V q2971 q2973 qs65 q291 q2974) dX64_statement_107 zy_X64_space rfl (by omega) (by decide) (Nat.le_of_ble_eq_true rfl) (by decide) (fun l G => k_fX64_space l G) (fun v8 => ?_)
          refine r_goto E 137 (by decide) dX64_statement_110 ?_
          exact r_zreturnb E rfl hT dX64_statement_137
      · refine r_aload_n E dX64_statement_88 rfl 0 rfl ?_
        refine r_callV E [] [] rfl zc_66 zr_66 (fun o _ => ⟨_, zw_X64.1 o, rfl⟩) (lw_V q2956 q2958 qs62 q291 q2959) dX64_statement_89 zy_X64_pointer rfl (by omega) (by decide) (Nat.le_of_ble_eq_true rfl) (by decide) (fun l G => k_fX64_pointer l G) (fun v9 => ?_)
        refine r_goto E 137 (by decide) dX64_statement_92 ?_
        exact r_zreturnb E rfl hT dX64_statement_137
    · refine r_aload_n E dX64_statement_70 rfl 0 rfl ?_
      refine r_callV E [] [] rfl zc_66 zr_66 (fun o _ => ⟨_, zw_X64.1 o, rfl⟩) (lw_V q2950 q2952 qs61 q291 q2953) dX64_statement_71 zy_X64_wordList rfl (by omega) (by decide) (Nat.le_of_ble_eq_true rfl) (by decide) (fun l G => k_fX64_wordList l G) (fun v10 => ?_)
      refine r_goto E 137 (by decide) dX64_statement_74 ?_
      exact r_zreturnb E rfl hT dX64_statement_137
  · refine r_aload_n E dX64_statement_11 rfl 0 rfl ?_
    refine r_iload_n E dX64_statement_12 rfl 1 rfl ?_
    refine r_iload_n E dX64_statement_13 rfl 2 rfl ?_
    refine r_callV E [(0, x1), (0, x2)] [] rfl zc_66 zr_66 (fun o _ => ⟨_, zw_X64.1 o, rfl⟩) (lw_V q2827 q2829 qs44 q291 q2830) dX64_statement_14 zy_X64_operation rfl (by omega) (by decide) (Nat.le_of_ble_eq_true rfl) (by decide) (fun l G => k_fX64_operation l G x1 x2) (fun v11 => ?_)
    refine r_astore_n (ls' := [(3, 16, v11), (0, 66, 0), (1, 0, x1), (2, 0, x2)]) E dX64_statement_17 rfl (by rw [hN]; decide) rfl ?_
    refine r_aload_n E dX64_statement_18 rfl 0 rfl ?_
    refine r_ifnonnull E 31 (by decide) dX64_statement_19 (fun _ => ?_) (fun hz12 => ?_)
    · refine r_aload_n E dX64_statement_22 rfl 1 rfl ?_
      refine r_iconst E dX64_statement_23 (zkI (by decide) (by decide)) ?_
      refine r_iload_n E dX64_statement_24 rfl 2 rfl ?_
      refine r_callV E [(0, 2), (0, x1)] [] rfl zc_66 zr_66 (fun o _ => ⟨_, zw_X64.1 o, rfl⟩) (lw_V q2803 q2805 qs38 q291 q2806) dX64_statement_25 zy_X64_wrong rfl (by omega) (by decide) (Nat.le_of_ble_eq_true rfl) (by decide) (fun l G => k_fX64_wrong l G 2 x1) (fun v13 => ?_)
      refine r_goto E 58 (by decide) dX64_statement_28 ?_
      exact r_zreturnb E rfl hT dX64_statement_58
    · refine r_aload_n E dX64_statement_31 rfl 1 rfl ?_
      refine r_aload_n E dX64_statement_32 rfl 0 rfl ?_
      refine r_aload_n E dX64_statement_33 rfl 0 rfl ?_
      refine r_gecN (y := (zregs v11)) E zc_16 dX64_statement_34 q1045 zr_16 (zhv_registers _) (Int.not_lt.mp hz12) ?_
      refine r_if_le E 54 (by decide) dX64_statement_37 (fun _ => ?_) (fun _ => ?_)
      · refine r_iconst E dX64_statement_54 (zkI (by decide) (by decide)) ?_
        refine r_pick E [] rfl ?_
        exact w_fX64_statement_J55 E hN hT v11 0
      · refine r_aload_n E dX64_statement_40 rfl 1 rfl ?_
        refine r_gec (y := 0) E zc_66 dX64_statement_41 q1629 zr_66 (zh_6502 (by decide)) (by decide) ?_
        refine r_iload_n E dX64_statement_44 rfl 3 rfl ?_
        refine r_iconst E dX64_statement_45 (zkI (by decide) (by decide)) ?_
        refine r_isub E dX64_statement_46 ?_
        refine r_iaload E zc_6502 za_6502 zt_6502 zx_6502 rfl rfl dX64_statement_47 (by decide) (fun v15 => ?_)
        refine r_bipush E dX64_statement_48 (by decide) (zkI (by decide) (by decide)) ?_
        refine r_isub E dX64_statement_50 ?_
        refine r_goto E 55 (by decide) dX64_statement_51 ?_
        refine r_pick E [] rfl ?_
        exact w_fX64_statement_J55 E hN hT v11 (zi (v15 - 48))
theorem k_fX64_statement (l : Launch) (G : zG) (x1 : Int) (x2 : Int) : zCt l G yX64_statement cX64_statement 4 (some .boolean) 9 [(66, 0), (0, x1), (0, x2)] (some 0) (fX64_statement x1 x2) := zCt.of (by decide) (Nat.le_of_ble_eq_true rfl) (fun K E _ _ hN hT => w_fX64_statement E hN hT x1 x2)
theorem dX64_labelHere_0 : decode cX64_labelHere 0 = .ok (.aload_n 0, 1) := by decide +kernel
theorem dX64_labelHere_1 : decode cX64_labelHere 1 = .ok (.getfield 9, 3) := by decide +kernel
theorem dX64_labelHere_4 : decode cX64_labelHere 4 = .ok (.iload_n 1, 1) := by decide +kernel
theorem dX64_labelHere_5 : decode cX64_labelHere 5 = .ok (.iaload, 1) := by decide +kernel
theorem dX64_labelHere_6 : decode cX64_labelHere 6 = .ok (.bipush 97, 2) := by decide +kernel
theorem dX64_labelHere_8 : decode cX64_labelHere 8 = .ok (.if_icmp .lt 22, 3) := by decide +kernel
theorem dX64_labelHere_11 : decode cX64_labelHere 11 = .ok (.aload_n 0, 1) := by decide +kernel
theorem dX64_labelHere_12 : decode cX64_labelHere 12 = .ok (.getfield 9, 3) := by decide +kernel
theorem dX64_labelHere_15 : decode cX64_labelHere 15 = .ok (.iload_n 1, 1) := by decide +kernel
theorem dX64_labelHere_16 : decode cX64_labelHere 16 = .ok (.iaload, 1) := by decide +kernel
theorem dX64_labelHere_17 : decode cX64_labelHere 17 = .ok (.bipush 122, 2) := by decide +kernel
theorem dX64_labelHere_19 : decode cX64_labelHere 19 = .ok (.if_icmp .gt 11, 3) := by decide +kernel
theorem dX64_labelHere_22 : decode cX64_labelHere 22 = .ok (.iload_n 2, 1) := by decide +kernel
theorem dX64_labelHere_23 : decode cX64_labelHere 23 = .ok (.iload_n 1, 1) := by decide +kernel
theorem dX64_labelHere_24 : decode cX64_labelHere 24 = .ok (.isub, 1) := by decide +kernel
theorem dX64_labelHere_25 : decode cX64_labelHere 25 = .ok (.bipush 6, 2) := by decide +kernel
theorem dX64_labelHere_27 : decode cX64_labelHere 27 = .ok (.if_icmp .le 10, 3) := by decide +kernel
theorem dX64_labelHere_30 : decode cX64_labelHere 30 = .ok (.aload_n 0, 1) := by decide +kernel
theorem dX64_labelHere_31 : decode cX64_labelHere 31 = .ok (.iconst 2, 1) := by decide +kernel
theorem dX64_labelHere_32 : decode cX64_labelHere 32 = .ok (.iload_n 1, 1) := by decide +kernel
theorem dX64_labelHere_33 : decode cX64_labelHere 33 = .ok (.invokevirtual 68, 3) := by decide +kernel
theorem dX64_labelHere_36 : decode cX64_labelHere 36 = .ok (.ireturn, 1) := by decide +kernel
theorem dX64_labelHere_37 : decode cX64_labelHere 37 = .ok (.aload_n 0, 1) := by decide +kernel
theorem dX64_labelHere_38 : decode cX64_labelHere 38 = .ok (.getfield 117, 3) := by decide +kernel
theorem dX64_labelHere_41 : decode cX64_labelHere 41 = .ok (.ifCond .eq 5, 3) := by decide +kernel
theorem dX64_labelHere_44 : decode cX64_labelHere 44 = .ok (.iconst 1, 1) := by decide +kernel
theorem dX64_labelHere_45 : decode cX64_labelHere 45 = .ok (.ireturn, 1) := by decide +kernel
theorem dX64_labelHere_46 : decode cX64_labelHere 46 = .ok (.aload_n 0, 1) := by decide +kernel
theorem dX64_labelHere_47 : decode cX64_labelHere 47 = .ok (.iload_n 1, 1) := by decide +kernel
theorem dX64_labelHere_48 : decode cX64_labelHere 48 = .ok (.iload_n 2, 1) := by decide +kernel
theorem dX64_labelHere_49 : decode cX64_labelHere 49 = .ok (.invokevirtual 86, 3) := by decide +kernel
theorem dX64_labelHere_52 : decode cX64_labelHere 52 = .ok (.lstore_n 3, 1) := by decide +kernel
theorem dX64_labelHere_53 : decode cX64_labelHere 53 = .ok (.aload_n 0, 1) := by decide +kernel
theorem dX64_labelHere_54 : decode cX64_labelHere 54 = .ok (.lload_n 3, 1) := by decide +kernel
theorem dX64_labelHere_55 : decode cX64_labelHere 55 = .ok (.invokevirtual 113, 3) := by decide +kernel
theorem dX64_labelHere_58 : decode cX64_labelHere 58 = .ok (.ifCond .lt 10, 3) := by decide +kernel
theorem dX64_labelHere_61 : decode cX64_labelHere 61 = .ok (.aload_n 0, 1) := by decide +kernel
theorem dX64_labelHere_62 : decode cX64_labelHere 62 = .ok (.iconst 4, 1) := by decide +kernel
theorem dX64_labelHere_63 : decode cX64_labelHere 63 = .ok (.iload_n 1, 1) := by decide +kernel
theorem dX64_labelHere_64 : decode cX64_labelHere 64 = .ok (.invokevirtual 68, 3) := by decide +kernel
theorem dX64_labelHere_67 : decode cX64_labelHere 67 = .ok (.ireturn, 1) := by decide +kernel
theorem dX64_labelHere_68 : decode cX64_labelHere 68 = .ok (.aload_n 0, 1) := by decide +kernel
theorem dX64_labelHere_69 : decode cX64_labelHere 69 = .ok (.getfield 103, 3) := by decide +kernel
theorem dX64_labelHere_72 : decode cX64_labelHere 72 = .ok (.bipush 64, 2) := by decide +kernel
theorem dX64_labelHere_74 : decode cX64_labelHere 74 = .ok (.if_icmp .ne 11, 3) := by decide +kernel
theorem dX64_labelHere_77 : decode cX64_labelHere 77 = .ok (.aload_n 0, 1) := by decide +kernel
theorem dX64_labelHere_78 : decode cX64_labelHere 78 = .ok (.bipush 6, 2) := by decide +kernel
theorem dX64_labelHere_80 : decode cX64_labelHere 80 = .ok (.iload_n 1, 1) := by decide +kernel
theorem dX64_labelHere_81 : decode cX64_labelHere 81 = .ok (.invokevirtual 68, 3) := by decide +kernel
theorem dX64_labelHere_84 : decode cX64_labelHere 84 = .ok (.ireturn, 1) := by decide +kernel
theorem dX64_labelHere_85 : decode cX64_labelHere 85 = .ok (.aload_n 0, 1) := by decide +kernel
theorem dX64_labelHere_86 : decode cX64_labelHere 86 = .ok (.getfield 19, 3) := by decide +kernel
theorem dX64_labelHere_89 : decode cX64_labelHere 89 = .ok (.aload_n 0, 1) := by decide +kernel
theorem dX64_labelHere_90 : decode cX64_labelHere 90 = .ok (.getfield 103, 3) := by decide +kernel
theorem dX64_labelHere_93 : decode cX64_labelHere 93 = .ok (.lload_n 3, 1) := by decide +kernel
theorem dX64_labelHere_94 : decode cX64_labelHere 94 = .ok (.lastore, 1) := by decide +kernel
theorem dX64_labelHere_95 : decode cX64_labelHere 95 = .ok (.aload_n 0, 1) := by decide +kernel
theorem dX64_labelHere_96 : decode cX64_labelHere 96 = .ok (.getfield 23, 3) := by decide +kernel
theorem dX64_labelHere_99 : decode cX64_labelHere 99 = .ok (.aload_n 0, 1) := by decide +kernel
theorem dX64_labelHere_100 : decode cX64_labelHere 100 = .ok (.getfield 103, 3) := by decide +kernel
theorem dX64_labelHere_103 : decode cX64_labelHere 103 = .ok (.aload_n 0, 1) := by decide +kernel
theorem dX64_labelHere_104 : decode cX64_labelHere 104 = .ok (.getfield 133, 3) := by decide +kernel
theorem dX64_labelHere_107 : decode cX64_labelHere 107 = .ok (.iastore, 1) := by decide +kernel
theorem dX64_labelHere_108 : decode cX64_labelHere 108 = .ok (.aload_n 0, 1) := by decide +kernel
theorem dX64_labelHere_109 : decode cX64_labelHere 109 = .ok (.dup, 1) := by decide +kernel
theorem dX64_labelHere_110 : decode cX64_labelHere 110 = .ok (.getfield 103, 3) := by decide +kernel
theorem dX64_labelHere_113 : decode cX64_labelHere 113 = .ok (.iconst 1, 1) := by decide +kernel
theorem dX64_labelHere_114 : decode cX64_labelHere 114 = .ok (.iadd, 1) := by decide +kernel
theorem dX64_labelHere_115 : decode cX64_labelHere 115 = .ok (.putfield 103, 3) := by decide +kernel
theorem dX64_labelHere_118 : decode cX64_labelHere 118 = .ok (.iconst 1, 1) := by decide +kernel
theorem dX64_labelHere_119 : decode cX64_labelHere 119 = .ok (.ireturn, 1) := by decide +kernel
theorem zy_X64_labelHere : yX64_labelHere.cls ≠ "java/lang/invoke/MethodHandle" ∧ yX64_labelHere.cls ≠ "java/lang/invoke/VarHandle" ∧ (parseMethodDescriptor yX64_labelHere.desc).map (fun d => d.parameters.length) = some 2 := by decide +kernel
theorem w_fX64_labelHere_J30 {K : zK} (E : zE K cX64_labelHere "RingHouse$Assembler" (some .boolean) 2) (hN : zNl K = 5) (hT : zTr K = (some 0)) (x1 : Int) : zR K 30 [(0, 66, 0), (1, 0, x1)] [] (fX64_labelHere_J30 x1) := by
  refine r_aload_n E dX64_labelHere_30 rfl 0 rfl ?_
  refine r_iconst E dX64_labelHere_31 (zkI (by decide) (by decide)) ?_
  refine r_iload_n E dX64_labelHere_32 rfl 1 rfl ?_
  refine r_callV E [(0, 2), (0, x1)] [] rfl zc_66 zr_66 (fun o _ => ⟨_, zw_X64.1 o, rfl⟩) (lw_V q2803 q2805 qs38 q291 q2806) dX64_labelHere_33 zy_X64_wrong rfl (by omega) (by decide) (Nat.le_of_ble_eq_true rfl) (by decide) (fun l G => k_fX64_wrong l G 2 x1) (fun v2 => ?_)
  exact r_zreturnb E rfl hT dX64_labelHere_36
theorem w_fX64_labelHere {K : zK} (E : zE K cX64_labelHere "RingHouse$Assembler" (some .boolean) 2) (hN : zNl K = 5) (hT : zTr K = (some 0)) (x1 : Int) (x2 : Int) : zR K 0 [(0, 66, 0), (1, 0, x1), (2, 0, x2)] [] (fX64_labelHere x1 x2) := by
  refine r_aload_n E dX64_labelHere_0 rfl 0 rfl ?_
  refine r_gec (y := 0) E zc_66 dX64_labelHere_1 q1629 zr_66 (zh_6502 (by decide)) (by decide) ?_
  refine r_iload_n E dX64_labelHere_4 rfl 1 rfl ?_
  refine r_iaload E zc_6502 za_6502 zt_6502 zx_6502 rfl rfl dX64_labelHere_5 (by decide) (fun v1 => ?_)
  refine r_bipush E dX64_labelHere_6 (by decide) (zkI (by decide) (by decide)) ?_
  refine r_icmp_lt E 30 (by decide) dX64_labelHere_8 (fun _ => ?_) (fun _ => ?_)
  · refine r_pick E [0, 1] rfl ?_
    exact w_fX64_labelHere_J30 E hN hT x1
  · refine r_aload_n E dX64_labelHere_11 rfl 0 rfl ?_
    refine r_gec (y := 0) E zc_66 dX64_labelHere_12 q1629 zr_66 (zh_6502 (by decide)) (by decide) ?_
    refine r_iload_n E dX64_labelHere_15 rfl 1 rfl ?_
    refine r_iaload E zc_6502 za_6502 zt_6502 zx_6502 rfl rfl dX64_labelHere_16 (by decide) (fun v3 => ?_)
    refine r_bipush E dX64_labelHere_17 (by decide) (zkI (by decide) (by decide)) ?_
    refine r_icmp_gt E 30 (by decide) dX64_labelHere_19 (fun _ => ?_) (fun _ => ?_)
    · refine r_pick E [0, 1] rfl ?_
      exact w_fX64_labelHere_J30 E hN hT x1
    · refine r_iload_n E dX64_labelHere_22 rfl 2 rfl ?_
      refine r_iload_n E dX64_labelHere_23 rfl 1 rfl ?_
      refine r_isub E dX64_labelHere_24 ?_
      refine r_bipush E dX64_labelHere_25 (by decide) (zkI (by decide) (by decide)) ?_
      refine r_icmp_le E 37 (by decide) dX64_labelHere_27 (fun _ => ?_) (fun _ => ?_)
      · refine r_aload_n E dX64_labelHere_37 rfl 0 rfl ?_
        refine r_get E zc_66 zt_6519 dX64_labelHere_38 q1649 zr_66 (zg_6519 _) (by decide) (fun v4 => ?_)
        refine r_if_eq E 46 (by decide) dX64_labelHere_41 (fun _ => ?_) (fun _ => ?_)
        · refine r_aload_n E dX64_labelHere_46 rfl 0 rfl ?_
          refine r_iload_n E dX64_labelHere_47 rfl 1 rfl ?_
          refine r_iload_n E dX64_labelHere_48 rfl 2 rfl ?_
          refine r_callV E [(0, x1), (0, x2)] [] rfl zc_66 zr_66 (fun o _ => ⟨_, zw_X64.1 o, rfl⟩) (lw_V q2815 q2817 qs41 q291 q2818) dX64_labelHere_49 zy_X64_packed rfl (by omega) (by decide) (Nat.le_of_ble_eq_true rfl) (by decide) (fun l G => k_fX64_packed l G x1 x2) (fun v5 => ?_)
          refine r_lstore_n (ls' := [(3, 1, v5), (0, 66, 0), (1, 0, x1), (2, 0, x2)]) E dX64_labelHere_52 rfl (by rw [hN]; decide) rfl ?_
          refine r_aload_n E dX64_labelHere_53 rfl 1 rfl ?_
          refine r_lload_n E dX64_labelHere_54 rfl 0 rfl ?_
          refine r_callV E [(1, v5)] [] rfl zc_66 zr_66 (fun o _ => ⟨_, zw_X64.1 o, rfl⟩) (lw_V q2819 q2821 qs42 q291 q2822) dX64_labelHere_55 zy_X64_findLabel rfl (by omega) (by decide) (Nat.le_of_ble_eq_true rfl) (by decide) (fun l G => k_fX64_findLabel l G v5) (fun v6 => ?_)
          refine r_if_lt E 68 (by decide) dX64_labelHere_58 (fun _ => ?_) (fun _ => ?_)
          · refine r_aload_n E dX64_labelHere_68 rfl 1 rfl ?_
            refine r_get E zc_66 zt_6512 dX64_labelHere_69 q1642 zr_66 (zg_6512 _) (by decide) (fun v7 => ?_)
            refine r_bipush E dX64_labelHere_72 (by decide) (zkI (by decide) (by decide)) ?_
            refine r_icmp_ne E 85 (by decide) dX64_labelHere_74 (fun _ => ?_) (fun _ => ?_)
            · refine r_aload_n E dX64_labelHere_85 rfl 1 rfl ?_
              refine r_gec (y := 0) E zc_66 dX64_labelHere_86 q1640 zr_66 (zh_6510 (by decide)) (by decide) ?_
              refine r_aload_n E dX64_labelHere_89 rfl 1 rfl ?_
              refine r_get E zc_66 zt_6512 dX64_labelHere_90 q1642 zr_66 (zg_6512 _) (by decide) (fun v8 => ?_)
              refine r_lload_n E dX64_labelHere_93 rfl 0 rfl ?_
              refine r_lastore E zc_6510 za_6510 zt_6510 zo_6510 zx_6510 rfl rfl dX64_labelHere_94 (by decide) ?_
              refine r_aload_n E dX64_labelHere_95 rfl 1 rfl ?_
              refine r_gec (y := 0) E zc_66 dX64_labelHere_96 q1641 zr_66 (zh_6511 (by decide)) (by decide) ?_
              refine r_aload_n E dX64_labelHere_99 rfl 1 rfl ?_
              refine r_get E zc_66 zt_6512 dX64_labelHere_100 q1642 zr_66 (zg_6512 _) (by decide) (fun v9 => ?_)
              refine r_aload_n E dX64_labelHere_103 rfl 1 rfl ?_
              refine r_get E zc_66 zt_6520 dX64_labelHere_104 q1650 zr_66 (zg_6520 _) (by decide) (fun v10 => ?_)
              refine r_iastore E zc_6511 za_6511 zt_6511 zo_6511 zx_6511 rfl rfl dX64_labelHere_107 (by decide) ?_
              refine r_aload_n E dX64_labelHere_108 rfl 1 rfl ?_
              refine r_dup E (zn1 rfl) dX64_labelHere_109 ?_
              refine r_get E zc_66 zt_6512 dX64_labelHere_110 q1642 zr_66 (zg_6512 _) (by decide) (fun v11 => ?_)
              refine r_iconst E dX64_labelHere_113 (zkI (by decide) (by decide)) ?_
              refine r_iadd E dX64_labelHere_114 ?_
              refine r_put E zc_66 zt_6512 zo_6512 dX64_labelHere_115 q1642 zr_66 zw_X64 zp_6512 (fun _ => rfl) (fun _ => rfl) (by decide) ?_
              refine r_iconst E dX64_labelHere_118 (zkI (by decide) (by decide)) ?_
              exact r_zreturn E rfl hT (by decide) dX64_labelHere_119
            · refine r_aload_n E dX64_labelHere_77 rfl 1 rfl ?_
              refine r_bipush E dX64_labelHere_78 (by decide) (zkI (by decide) (by decide)) ?_
              refine r_iload_n E dX64_labelHere_80 rfl 2 rfl ?_
              refine r_callV E [(0, 6), (0, x1)] [] rfl zc_66 zr_66 (fun o _ => ⟨_, zw_X64.1 o, rfl⟩) (lw_V q2803 q2805 qs38 q291 q2806) dX64_labelHere_81 zy_X64_wrong rfl (by omega) (by decide) (Nat.le_of_ble_eq_true rfl) (by decide) (fun l G => k_fX64_wrong l G 6 x1) (fun v12 => ?_)
              exact r_zreturnb E rfl hT dX64_labelHere_84
          · refine r_aload_n E dX64_labelHere_61 rfl 1 rfl ?_
            refine r_iconst E dX64_labelHere_62 (zkI (by decide) (by decide)) ?_
            refine r_iload_n E dX64_labelHere_63 rfl 2 rfl ?_
            refine r_callV E [(0, 4), (0, x1)] [] rfl zc_66 zr_66 (fun o _ => ⟨_, zw_X64.1 o, rfl⟩) (lw_V q2803 q2805 qs38 q291 q2806) dX64_labelHere_64 zy_X64_wrong rfl (by omega) (by decide) (Nat.le_of_ble_eq_true rfl) (by decide) (fun l G => k_fX64_wrong l G 4 x1) (fun v13 => ?_)
            exact r_zreturnb E rfl hT dX64_labelHere_67
        · refine r_iconst E dX64_labelHere_44 (zkI (by decide) (by decide)) ?_
          exact r_zreturn E rfl hT (by decide) dX64_labelHere_45
      · refine r_pick E [0, 1] rfl ?_
        exact w_fX64_labelHere_J30 E hN hT x1
theorem k_fX64_labelHere (l : Launch) (G : zG) (x1 : Int) (x2 : Int) : zCt l G yX64_labelHere cX64_labelHere 5 (some .boolean) 2 [(66, 0), (0, x1), (0, x2)] (some 0) (fX64_labelHere x1 x2) := zCt.of (by decide) (Nat.le_of_ble_eq_true rfl) (fun K E _ _ hN hT => w_fX64_labelHere E hN hT x1 x2)
theorem dX64_line_0 : decode cX64_line 0 = .ok (.aload_n 0, 1) := by decide +kernel
theorem dX64_line_1 : decode cX64_line 1 = .ok (.invokevirtual 76, 3) := by decide +kernel
theorem dX64_line_4 : decode cX64_line 4 = .ok (.aload_n 0, 1) := by decide +kernel
theorem dX64_line_5 : decode cX64_line 5 = .ok (.getfield 61, 3) := by decide +kernel
theorem dX64_line_8 : decode cX64_line 8 = .ok (.ifCond .ne 4, 3) := by decide +kernel
theorem dX64_line_11 : decode cX64_line 11 = .ok (.return_, 1) := by decide +kernel
theorem dX64_line_12 : decode cX64_line 12 = .ok (.aload_n 0, 1) := by decide +kernel
theorem dX64_line_13 : decode cX64_line 13 = .ok (.getfield 61, 3) := by decide +kernel
theorem dX64_line_16 : decode cX64_line 16 = .ok (.iconst 1, 1) := by decide +kernel
theorem dX64_line_17 : decode cX64_line 17 = .ok (.if_icmp .eq 14, 3) := by decide +kernel
theorem dX64_line_20 : decode cX64_line 20 = .ok (.aload_n 0, 1) := by decide +kernel
theorem dX64_line_21 : decode cX64_line 21 = .ok (.iconst 1, 1) := by decide +kernel
theorem dX64_line_22 : decode cX64_line 22 = .ok (.aload_n 0, 1) := by decide +kernel
theorem dX64_line_23 : decode cX64_line 23 = .ok (.getfield 55, 3) := by decide +kernel
theorem dX64_line_26 : decode cX64_line 26 = .ok (.invokevirtual 68, 3) := by decide +kernel
theorem dX64_line_29 : decode cX64_line 29 = .ok (.pop, 1) := by decide +kernel
theorem dX64_line_30 : decode cX64_line 30 = .ok (.return_, 1) := by decide +kernel
theorem dX64_line_31 : decode cX64_line 31 = .ok (.aload_n 0, 1) := by decide +kernel
theorem dX64_line_32 : decode cX64_line 32 = .ok (.getfield 55, 3) := by decide +kernel
theorem dX64_line_35 : decode cX64_line 35 = .ok (.istore_n 1, 1) := by decide +kernel
theorem dX64_line_36 : decode cX64_line 36 = .ok (.aload_n 0, 1) := by decide +kernel
theorem dX64_line_37 : decode cX64_line 37 = .ok (.getfield 52, 3) := by decide +kernel
theorem dX64_line_40 : decode cX64_line 40 = .ok (.istore_n 2, 1) := by decide +kernel
theorem dX64_line_41 : decode cX64_line 41 = .ok (.aload_n 0, 1) := by decide +kernel
theorem dX64_line_42 : decode cX64_line 42 = .ok (.invokevirtual 76, 3) := by decide +kernel
theorem dX64_line_45 : decode cX64_line 45 = .ok (.aload_n 0, 1) := by decide +kernel
theorem dX64_line_46 : decode cX64_line 46 = .ok (.bipush 58, 2) := by decide +kernel
theorem dX64_line_48 : decode cX64_line 48 = .ok (.invokevirtual 72, 3) := by decide +kernel
theorem dX64_line_51 : decode cX64_line 51 = .ok (.ifCond .eq 58, 3) := by decide +kernel
theorem dX64_line_54 : decode cX64_line 54 = .ok (.aload_n 0, 1) := by decide +kernel
theorem dX64_line_55 : decode cX64_line 55 = .ok (.iload_n 1, 1) := by decide +kernel
theorem dX64_line_56 : decode cX64_line 56 = .ok (.iload_n 2, 1) := by decide +kernel
theorem dX64_line_57 : decode cX64_line 57 = .ok (.invokevirtual 241, 3) := by decide +kernel
theorem dX64_line_60 : decode cX64_line 60 = .ok (.ifCond .ne 4, 3) := by decide +kernel
theorem dX64_line_63 : decode cX64_line 63 = .ok (.return_, 1) := by decide +kernel
theorem dX64_line_64 : decode cX64_line 64 = .ok (.aload_n 0, 1) := by decide +kernel
theorem dX64_line_65 : decode cX64_line 65 = .ok (.invokevirtual 76, 3) := by decide +kernel
theorem dX64_line_68 : decode cX64_line 68 = .ok (.aload_n 0, 1) := by decide +kernel
theorem dX64_line_69 : decode cX64_line 69 = .ok (.getfield 61, 3) := by decide +kernel
theorem dX64_line_72 : decode cX64_line 72 = .ok (.ifCond .ne 4, 3) := by decide +kernel
theorem dX64_line_75 : decode cX64_line 75 = .ok (.return_, 1) := by decide +kernel
theorem dX64_line_76 : decode cX64_line 76 = .ok (.aload_n 0, 1) := by decide +kernel
theorem dX64_line_77 : decode cX64_line 77 = .ok (.getfield 61, 3) := by decide +kernel
theorem dX64_line_80 : decode cX64_line 80 = .ok (.iconst 1, 1) := by decide +kernel
theorem dX64_line_81 : decode cX64_line 81 = .ok (.if_icmp .eq 14, 3) := by decide +kernel
theorem dX64_line_84 : decode cX64_line 84 = .ok (.aload_n 0, 1) := by decide +kernel
theorem dX64_line_85 : decode cX64_line 85 = .ok (.iconst 1, 1) := by decide +kernel
theorem dX64_line_86 : decode cX64_line 86 = .ok (.aload_n 0, 1) := by decide +kernel
theorem dX64_line_87 : decode cX64_line 87 = .ok (.getfield 55, 3) := by decide +kernel
theorem dX64_line_90 : decode cX64_line 90 = .ok (.invokevirtual 68, 3) := by decide +kernel
theorem dX64_line_93 : decode cX64_line 93 = .ok (.pop, 1) := by decide +kernel
theorem dX64_line_94 : decode cX64_line 94 = .ok (.return_, 1) := by decide +kernel
theorem dX64_line_95 : decode cX64_line 95 = .ok (.aload_n 0, 1) := by decide +kernel
theorem dX64_line_96 : decode cX64_line 96 = .ok (.getfield 55, 3) := by decide +kernel
theorem dX64_line_99 : decode cX64_line 99 = .ok (.istore_n 1, 1) := by decide +kernel
theorem dX64_line_100 : decode cX64_line 100 = .ok (.aload_n 0, 1) := by decide +kernel
theorem dX64_line_101 : decode cX64_line 101 = .ok (.getfield 52, 3) := by decide +kernel
theorem dX64_line_104 : decode cX64_line 104 = .ok (.istore_n 2, 1) := by decide +kernel
theorem dX64_line_105 : decode cX64_line 105 = .ok (.aload_n 0, 1) := by decide +kernel
theorem dX64_line_106 : decode cX64_line 106 = .ok (.invokevirtual 76, 3) := by decide +kernel
theorem dX64_line_109 : decode cX64_line 109 = .ok (.aload_n 0, 1) := by decide +kernel
theorem dX64_line_110 : decode cX64_line 110 = .ok (.iload_n 1, 1) := by decide +kernel
theorem dX64_line_111 : decode cX64_line 111 = .ok (.iload_n 2, 1) := by decide +kernel
theorem dX64_line_112 : decode cX64_line 112 = .ok (.invokevirtual 244, 3) := by decide +kernel
theorem dX64_line_115 : decode cX64_line 115 = .ok (.pop, 1) := by decide +kernel
theorem dX64_line_116 : decode cX64_line 116 = .ok (.return_, 1) := by decide +kernel
theorem zy_X64_line : yX64_line.cls ≠ "java/lang/invoke/MethodHandle" ∧ yX64_line.cls ≠ "java/lang/invoke/VarHandle" ∧ (parseMethodDescriptor yX64_line.desc).map (fun d => d.parameters.length) = some 0 := by decide +kernel
theorem w_fX64_line_J109 {K : zK} (E : zE K cX64_line "RingHouse$Assembler" none 10) (hN : zNl K = 3) (hT : zTr K = none) (x1 : Int) (x2 : Int) : zR K 109 [(0, 66, 0), (1, 0, x1), (2, 0, x2)] [] (fX64_line_J109 x1 x2) := by
  refine r_aload_n E dX64_line_109 rfl 0 rfl ?_
  refine r_iload_n E dX64_line_110 rfl 1 rfl ?_
  refine r_iload_n E dX64_line_111 rfl 2 rfl ?_
  refine r_callV E [(0, x1), (0, x2)] [] rfl zc_66 zr_66 (fun o _ => ⟨_, zw_X64.1 o, rfl⟩) (lw_V q2823 q2825 qs43 q291 q2826) dX64_line_112 zy_X64_statement rfl (by omega) (by decide) (Nat.le_of_ble_eq_true rfl) (by decide) (fun l G => k_fX64_statement l G x1 x2) (fun v8 => ?_)
  refine r_pop E (zn1 rfl) dX64_line_115 ?_
  exact r_return E rfl hT dX64_line_116
theorem w_fX64_line {K : zK} (E : zE K cX64_line "RingHouse$Assembler" none 10) (hN : zNl K = 3) (hT : zTr K = none) : zR K 0 [(0, 66, 0)] [] (fX64_line) := by
  refine r_aload_n E dX64_line_0 rfl 0 rfl ?_
  refine r_callV E [] [] rfl zc_66 zr_66 (fun o _ => ⟨_, zw_X64.1 o, rfl⟩) (lw_V q2796 q2798 qs37 q291 q2799) dX64_line_1 zy_X64_next rfl (by omega) (by decide) (Nat.le_of_ble_eq_true rfl) (by decide) (fun l G => k_fX64_next l G) (fun _ => ?_)
  refine r_aload_n E dX64_line_4 rfl 0 rfl ?_
  refine r_get E zc_66 zt_6504 dX64_line_5 q1633 zr_66 (zg_6504 _) (by decide) (fun v2 => ?_)
  refine r_if_ne E 12 (by decide) dX64_line_8 (fun _ => ?_) (fun _ => ?_)
  · refine r_aload_n E dX64_line_12 rfl 0 rfl ?_
    refine r_get E zc_66 zt_6504 dX64_line_13 q1633 zr_66 (zg_6504 _) (by decide) (fun v3 => ?_)
    refine r_iconst E dX64_line_16 (zkI (by decide) (by decide)) ?_
    refine r_icmp_eq E 31 (by decide) dX64_line_17 (fun _ => ?_) (fun _ => ?_)
    · refine r_aload_n E dX64_line_31 rfl 0 rfl ?_
      refine r_get E zc_66 zt_6505 dX64_line_32 q1634 zr_66 (zg_6505 _) (by decide) (fun v4 => ?_)
      refine r_istore_n (ls' := [(1, 0, v4), (0, 66, 0)]) E dX64_line_35 rfl (by rw [hN]; decide) rfl ?_
      refine r_aload_n E dX64_line_36 rfl 1 rfl ?_
      refine r_get E zc_66 zt_6506 dX64_line_37 q1635 zr_66 (zg_6506 _) (by decide) (fun v5 => ?_)
      refine r_istore_n (ls' := [(2, 0, v5), (1, 0, v4), (0, 66, 0)]) E dX64_line_40 rfl (by rw [hN]; decide) rfl ?_
      refine r_aload_n E dX64_line_41 rfl 2 rfl ?_
      refine r_callV E [] [] rfl zc_66 zr_66 (fun o _ => ⟨_, zw_X64.1 o, rfl⟩) (lw_V q2796 q2798 qs37 q291 q2799) dX64_line_42 zy_X64_next rfl (by omega) (by decide) (Nat.le_of_ble_eq_true rfl) (by decide) (fun l G => k_fX64_next l G) (fun _ => ?_)
      refine r_aload_n E dX64_line_45 rfl 2 rfl ?_
      refine r_bipush E dX64_line_46 (by decide) (zkI (by decide) (by decide)) ?_
      refine r_callV E [(0, 58)] [] rfl zc_66 zr_66 (fun o _ => ⟨_, zw_X64.1 o, rfl⟩) (lw_V q2807 q2809 qs39 q291 q2810) dX64_line_48 zy_X64_is rfl (by omega) (by decide) (Nat.le_of_ble_eq_true rfl) (by decide) (fun l G => k_fX64_is l G 58) (fun v7 => ?_)
      refine r_if_eq E 109 (by decide) dX64_line_51 (fun _ => ?_) (fun _ => ?_)
      · refine r_pick E [2, 1, 0] rfl ?_
        exact w_fX64_line_J109 E hN hT v4 v5
      · refine r_aload_n E dX64_line_54 rfl 2 rfl ?_
        refine r_iload_n E dX64_line_55 rfl 1 rfl ?_
        refine r_iload_n E dX64_line_56 rfl 0 rfl ?_
        refine r_callV E [(0, v4), (0, v5)] [] rfl zc_66 zr_66 (fun o _ => ⟨_, zw_X64.1 o, rfl⟩) (lw_V q2811 q2813 qs40 q291 q2814) dX64_line_57 zy_X64_labelHere rfl (by omega) (by decide) (Nat.le_of_ble_eq_true rfl) (by decide) (fun l G => k_fX64_labelHere l G v4 v5) (fun v9 => ?_)
        refine r_if_ne E 64 (by decide) dX64_line_60 (fun _ => ?_) (fun _ => ?_)
        · refine r_aload_n E dX64_line_64 rfl 2 rfl ?_
          refine r_callV E [] [] rfl zc_66 zr_66 (fun o _ => ⟨_, zw_X64.1 o, rfl⟩) (lw_V q2796 q2798 qs37 q291 q2799) dX64_line_65 zy_X64_next rfl (by omega) (by decide) (Nat.le_of_ble_eq_true rfl) (by decide) (fun l G => k_fX64_next l G) (fun _ => ?_)
          refine r_aload_n E dX64_line_68 rfl 2 rfl ?_
          refine r_get E zc_66 zt_6504 dX64_line_69 q1633 zr_66 (zg_6504 _) (by decide) (fun v11 => ?_)
          refine r_if_ne E 76 (by decide) dX64_line_72 (fun _ => ?_) (fun _ => ?_)
          · refine r_aload_n E dX64_line_76 rfl 2 rfl ?_
            refine r_get E zc_66 zt_6504 dX64_line_77 q1633 zr_66 (zg_6504 _) (by decide) (fun v12 => ?_)
            refine r_iconst E dX64_line_80 (zkI (by decide) (by decide)) ?_
            refine r_icmp_eq E 95 (by decide) dX64_line_81 (fun _ => ?_) (fun _ => ?_)
            · refine r_aload_n E dX64_line_95 rfl 2 rfl ?_
              refine r_get E zc_66 zt_6505 dX64_line_96 q1634 zr_66 (zg_6505 _) (by decide) (fun v13 => ?_)
              refine r_istore_n (ls' := [(1, 0, v13), (2, 0, v5), (0, 66, 0)]) E dX64_line_99 rfl (by rw [hN]; decide) rfl ?_
              refine r_aload_n E dX64_line_100 rfl 2 rfl ?_
              refine r_get E zc_66 zt_6506 dX64_line_101 q1635 zr_66 (zg_6506 _) (by decide) (fun v14 => ?_)
              refine r_istore_n (ls' := [(2, 0, v14), (1, 0, v13), (0, 66, 0)]) E dX64_line_104 rfl (by rw [hN]; decide) rfl ?_
              refine r_aload_n E dX64_line_105 rfl 2 rfl ?_
              refine r_callV E [] [] rfl zc_66 zr_66 (fun o _ => ⟨_, zw_X64.1 o, rfl⟩) (lw_V q2796 q2798 qs37 q291 q2799) dX64_line_106 zy_X64_next rfl (by omega) (by decide) (Nat.le_of_ble_eq_true rfl) (by decide) (fun l G => k_fX64_next l G) (fun _ => ?_)
              refine r_pick E [2, 1, 0] rfl ?_
              exact w_fX64_line_J109 E hN hT v13 v14
            · refine r_aload_n E dX64_line_84 rfl 2 rfl ?_
              refine r_iconst E dX64_line_85 (zkI (by decide) (by decide)) ?_
              refine r_aload_n E dX64_line_86 rfl 2 rfl ?_
              refine r_get E zc_66 zt_6505 dX64_line_87 q1634 zr_66 (zg_6505 _) (by decide) (fun v16 => ?_)
              refine r_callV E [(0, 1), (0, v16)] [] rfl zc_66 zr_66 (fun o _ => ⟨_, zw_X64.1 o, rfl⟩) (lw_V q2803 q2805 qs38 q291 q2806) dX64_line_90 zy_X64_wrong rfl (by omega) (by decide) (Nat.le_of_ble_eq_true rfl) (by decide) (fun l G => k_fX64_wrong l G 1 v16) (fun v17 => ?_)
              refine r_pop E (zn1 rfl) dX64_line_93 ?_
              exact r_return E rfl hT dX64_line_94
          · exact r_return E rfl hT dX64_line_75
        · exact r_return E rfl hT dX64_line_63
    · refine r_aload_n E dX64_line_20 rfl 0 rfl ?_
      refine r_iconst E dX64_line_21 (zkI (by decide) (by decide)) ?_
      refine r_aload_n E dX64_line_22 rfl 0 rfl ?_
      refine r_get E zc_66 zt_6505 dX64_line_23 q1634 zr_66 (zg_6505 _) (by decide) (fun v18 => ?_)
      refine r_callV E [(0, 1), (0, v18)] [] rfl zc_66 zr_66 (fun o _ => ⟨_, zw_X64.1 o, rfl⟩) (lw_V q2803 q2805 qs38 q291 q2806) dX64_line_26 zy_X64_wrong rfl (by omega) (by decide) (Nat.le_of_ble_eq_true rfl) (by decide) (fun l G => k_fX64_wrong l G 1 v18) (fun v19 => ?_)
      refine r_pop E (zn1 rfl) dX64_line_29 ?_
      exact r_return E rfl hT dX64_line_30
  · exact r_return E rfl hT dX64_line_11
theorem k_fX64_line (l : Launch) (G : zG) : zCt l G yX64_line cX64_line 3 none 10 [(66, 0)] none (fX64_line) := zCt.of (by decide) (Nat.le_of_ble_eq_true rfl) (fun K E _ _ hN hT => w_fX64_line E hN hT)
theorem dX64_goOver_0 : decode cX64_goOver 0 = .ok (.aload_n 0, 1) := by decide +kernel
theorem dX64_goOver_1 : decode cX64_goOver 1 = .ok (.iconst 2, 1) := by decide +kernel
theorem dX64_goOver_2 : decode cX64_goOver 2 = .ok (.putfield 133, 3) := by decide +kernel
theorem dX64_goOver_5 : decode cX64_goOver 5 = .ok (.iconst 0, 1) := by decide +kernel
theorem dX64_goOver_6 : decode cX64_goOver 6 = .ok (.istore_n 1, 1) := by decide +kernel
theorem dX64_goOver_7 : decode cX64_goOver 7 = .ok (.iload_n 1, 1) := by decide +kernel
theorem dX64_goOver_8 : decode cX64_goOver 8 = .ok (.aload_n 0, 1) := by decide +kernel
theorem dX64_goOver_9 : decode cX64_goOver 9 = .ok (.getfield 247, 3) := by decide +kernel
theorem dX64_goOver_12 : decode cX64_goOver 12 = .ok (.if_icmp .ge 93, 3) := by decide +kernel
theorem dX64_goOver_15 : decode cX64_goOver 15 = .ok (.aload_n 0, 1) := by decide +kernel
theorem dX64_goOver_16 : decode cX64_goOver 16 = .ok (.getfield 49, 3) := by decide +kernel
theorem dX64_goOver_19 : decode cX64_goOver 19 = .ok (.ifCond .ne 86, 3) := by decide +kernel
theorem dX64_goOver_22 : decode cX64_goOver 22 = .ok (.iload_n 1, 1) := by decide +kernel
theorem dX64_goOver_23 : decode cX64_goOver 23 = .ok (.istore_n 2, 1) := by decide +kernel
theorem dX64_goOver_24 : decode cX64_goOver 24 = .ok (.iload_n 2, 1) := by decide +kernel
theorem dX64_goOver_25 : decode cX64_goOver 25 = .ok (.aload_n 0, 1) := by decide +kernel
theorem dX64_goOver_26 : decode cX64_goOver 26 = .ok (.getfield 247, 3) := by decide +kernel
theorem dX64_goOver_29 : decode cX64_goOver 29 = .ok (.if_icmp .ge 20, 3) := by decide +kernel
theorem dX64_goOver_32 : decode cX64_goOver 32 = .ok (.aload_n 0, 1) := by decide +kernel
theorem dX64_goOver_33 : decode cX64_goOver 33 = .ok (.getfield 9, 3) := by decide +kernel
theorem dX64_goOver_36 : decode cX64_goOver 36 = .ok (.iload_n 2, 1) := by decide +kernel
theorem dX64_goOver_37 : decode cX64_goOver 37 = .ok (.iaload, 1) := by decide +kernel
theorem dX64_goOver_38 : decode cX64_goOver 38 = .ok (.bipush 10, 2) := by decide +kernel
theorem dX64_goOver_40 : decode cX64_goOver 40 = .ok (.if_icmp .eq 9, 3) := by decide +kernel
theorem dX64_goOver_43 : decode cX64_goOver 43 = .ok (.iinc 2 1, 3) := by decide +kernel
theorem dX64_goOver_46 : decode cX64_goOver 46 = .ok (.goto (-22), 3) := by decide +kernel
theorem dX64_goOver_49 : decode cX64_goOver 49 = .ok (.aload_n 0, 1) := by decide +kernel
theorem dX64_goOver_50 : decode cX64_goOver 50 = .ok (.iload_n 1, 1) := by decide +kernel
theorem dX64_goOver_51 : decode cX64_goOver 51 = .ok (.putfield 58, 3) := by decide +kernel
theorem dX64_goOver_54 : decode cX64_goOver 54 = .ok (.aload_n 0, 1) := by decide +kernel
theorem dX64_goOver_55 : decode cX64_goOver 55 = .ok (.getfield 58, 3) := by decide +kernel
theorem dX64_goOver_58 : decode cX64_goOver 58 = .ok (.iload_n 2, 1) := by decide +kernel
theorem dX64_goOver_59 : decode cX64_goOver 59 = .ok (.if_icmp .ge 30, 3) := by decide +kernel
theorem dX64_goOver_62 : decode cX64_goOver 62 = .ok (.aload_n 0, 1) := by decide +kernel
theorem dX64_goOver_63 : decode cX64_goOver 63 = .ok (.getfield 9, 3) := by decide +kernel
theorem dX64_goOver_66 : decode cX64_goOver 66 = .ok (.aload_n 0, 1) := by decide +kernel
theorem dX64_goOver_67 : decode cX64_goOver 67 = .ok (.getfield 58, 3) := by decide +kernel
theorem dX64_goOver_70 : decode cX64_goOver 70 = .ok (.iaload, 1) := by decide +kernel
theorem dX64_goOver_71 : decode cX64_goOver 71 = .ok (.bipush 59, 2) := by decide +kernel
theorem dX64_goOver_73 : decode cX64_goOver 73 = .ok (.if_icmp .eq 16, 3) := by decide +kernel
theorem dX64_goOver_76 : decode cX64_goOver 76 = .ok (.aload_n 0, 1) := by decide +kernel
theorem dX64_goOver_77 : decode cX64_goOver 77 = .ok (.dup, 1) := by decide +kernel
theorem dX64_goOver_78 : decode cX64_goOver 78 = .ok (.getfield 58, 3) := by decide +kernel
theorem dX64_goOver_81 : decode cX64_goOver 81 = .ok (.iconst 1, 1) := by decide +kernel
theorem dX64_goOver_82 : decode cX64_goOver 82 = .ok (.iadd, 1) := by decide +kernel
theorem dX64_goOver_83 : decode cX64_goOver 83 = .ok (.putfield 58, 3) := by decide +kernel
theorem dX64_goOver_86 : decode cX64_goOver 86 = .ok (.goto (-32), 3) := by decide +kernel
theorem dX64_goOver_89 : decode cX64_goOver 89 = .ok (.aload_n 0, 1) := by decide +kernel
theorem dX64_goOver_90 : decode cX64_goOver 90 = .ok (.iload_n 1, 1) := by decide +kernel
theorem dX64_goOver_91 : decode cX64_goOver 91 = .ok (.putfield 52, 3) := by decide +kernel
theorem dX64_goOver_94 : decode cX64_goOver 94 = .ok (.aload_n 0, 1) := by decide +kernel
theorem dX64_goOver_95 : decode cX64_goOver 95 = .ok (.invokevirtual 250, 3) := by decide +kernel
theorem dX64_goOver_98 : decode cX64_goOver 98 = .ok (.iload_n 2, 1) := by decide +kernel
theorem dX64_goOver_99 : decode cX64_goOver 99 = .ok (.iconst 1, 1) := by decide +kernel
theorem dX64_goOver_100 : decode cX64_goOver 100 = .ok (.iadd, 1) := by decide +kernel
theorem dX64_goOver_101 : decode cX64_goOver 101 = .ok (.istore_n 1, 1) := by decide +kernel
theorem dX64_goOver_102 : decode cX64_goOver 102 = .ok (.goto (-95), 3) := by decide +kernel
theorem dX64_goOver_105 : decode cX64_goOver 105 = .ok (.return_, 1) := by decide +kernel
theorem zy_X64_goOver : yX64_goOver.cls ≠ "java/lang/invoke/MethodHandle" ∧ yX64_goOver.cls ≠ "java/lang/invoke/VarHandle" ∧ (parseMethodDescriptor yX64_goOver.desc).map (fun d => d.parameters.length) = some 0 := by decide +kernel
theorem w_fX64_goOver_J89 {K : zK} (E : zE K cX64_goOver "RingHouse$Assembler" none 11) (hN : zNl K = 3) (hT : zTr K = none) (x1 : Int) (x2 : Int) {r7 : Int → zX} (hr7 : ∀ s : Int, zR K 7 [(0, 66, 0), (1, 0, s)] [] (r7 s)) : zR K 89 [(0, 66, 0), (1, 0, x1), (2, 0, x2)] [] (fX64_goOver_J89 r7 x1 x2) := by
  refine r_aload_n E dX64_goOver_89 rfl 0 rfl ?_
  refine r_iload_n E dX64_goOver_90 rfl 1 rfl ?_
  refine r_put E zc_66 zt_6506 zo_6506 dX64_goOver_91 q1635 zr_66 zw_X64 zp_6506 (fun _ => rfl) (fun _ => rfl) (by decide) ?_
  refine r_aload_n E dX64_goOver_94 rfl 0 rfl ?_
  refine r_callV E [] [] rfl zc_66 zr_66 (fun o _ => ⟨_, zw_X64.1 o, rfl⟩) (lw_V q2792 q2794 qs36 q291 q2795) dX64_goOver_95 zy_X64_line rfl (by omega) (by decide) (Nat.le_of_ble_eq_true rfl) (by decide) (fun l G => k_fX64_line l G) (fun _ => ?_)
  refine r_iload_n E dX64_goOver_98 rfl 2 rfl ?_
  refine r_iconst E dX64_goOver_99 (zkI (by decide) (by decide)) ?_
  refine r_iadd E dX64_goOver_100 ?_
  refine r_let E (fun v6 ev6 => ?_)
  refine r_istore_n (ls' := [(1, 0, v6), (0, 66, 0), (2, 0, x2)]) E dX64_goOver_101 rfl (by rw [hN]; decide) rfl ?_
  refine r_goto E 7 (by decide) dX64_goOver_102 ?_
  refine r_pick E [1, 0] rfl ?_
  exact hr7 v6
theorem w_fX64_goOver_B54 {K : zK} (E : zE K cX64_goOver "RingHouse$Assembler" none 11) (hN : zNl K = 3) (hT : zTr K = none) (x1 : Int) (x2 : Int) {r7 : Int → zX} (hr7 : ∀ s : Int, zR K 7 [(0, 66, 0), (1, 0, s)] [] (r7 s)) : ∀ r54 : Int → zX, (∀ s : Int, zR K 54 [(0, 66, 0), (1, 0, x1), (2, 0, x2)] [] (r54 s)) → ∀ s : Int, zR K 54 [(0, 66, 0), (1, 0, x1), (2, 0, x2)] [] (fX64_goOver_B54 r7 x1 x2 r54 s) := by
  intro r54 hr54 s
  refine r_aload_n E dX64_goOver_54 rfl 0 rfl ?_
  refine r_get E zc_66 zt_6507 dX64_goOver_55 q1636 zr_66 (zg_6507 _) (by decide) (fun v4 => ?_)
  refine r_iload_n E dX64_goOver_58 rfl 2 rfl ?_
  refine r_icmp_ge E 89 (by decide) dX64_goOver_59 (fun _ => ?_) (fun _ => ?_)
  · exact w_fX64_goOver_J89 E hN hT x1 x2 hr7
  · refine r_aload_n E dX64_goOver_62 rfl 0 rfl ?_
    refine r_gec (y := 0) E zc_66 dX64_goOver_63 q1629 zr_66 (zh_6502 (by decide)) (by decide) ?_
    refine r_aload_n E dX64_goOver_66 rfl 0 rfl ?_
    refine r_get E zc_66 zt_6507 dX64_goOver_67 q1636 zr_66 (zg_6507 _) (by decide) (fun v7 => ?_)
    refine r_iaload E zc_6502 za_6502 zt_6502 zx_6502 rfl rfl dX64_goOver_70 (by decide) (fun v8 => ?_)
    refine r_bipush E dX64_goOver_71 (by decide) (zkI (by decide) (by decide)) ?_
    refine r_icmp_eq E 89 (by decide) dX64_goOver_73 (fun _ => ?_) (fun _ => ?_)
    · exact w_fX64_goOver_J89 E hN hT x1 x2 hr7
    · refine r_aload_n E dX64_goOver_76 rfl 0 rfl ?_
      refine r_dup E (zn1 rfl) dX64_goOver_77 ?_
      refine r_get E zc_66 zt_6507 dX64_goOver_78 q1636 zr_66 (zg_6507 _) (by decide) (fun v9 => ?_)
      refine r_iconst E dX64_goOver_81 (zkI (by decide) (by decide)) ?_
      refine r_iadd E dX64_goOver_82 ?_
      refine r_put E zc_66 zt_6507 zo_6507 dX64_goOver_83 q1636 zr_66 zw_X64 zp_6507 (fun _ => rfl) (fun _ => rfl) (by decide) ?_
      refine r_goto E 54 (by decide) dX64_goOver_86 ?_
      exact hr54 0
theorem w_fX64_goOver_J49 {K : zK} (E : zE K cX64_goOver "RingHouse$Assembler" none 11) (hN : zNl K = 3) (hT : zTr K = none) (x1 : Int) (x2 : Int) {r7 : Int → zX} (hr7 : ∀ s : Int, zR K 7 [(0, 66, 0), (1, 0, s)] [] (r7 s)) : zR K 49 [(0, 66, 0), (1, 0, x1), (2, 0, x2)] [] (fX64_goOver_J49 r7 x1 x2) := by
  refine r_aload_n E dX64_goOver_49 rfl 0 rfl ?_
  refine r_iload_n E dX64_goOver_50 rfl 1 rfl ?_
  refine r_put E zc_66 zt_6507 zo_6507 dX64_goOver_51 q1636 zr_66 zw_X64 zp_6507 (fun _ => rfl) (fun _ => rfl) (by decide) ?_
  exact r_loop (L := fun s => [(0, 66, 0), (1, 0, x1), (2, 0, x2)]) (w_fX64_goOver_B54 E hN hT x1 x2 hr7) zBIG 0
theorem w_fX64_goOver_B24 {K : zK} (E : zE K cX64_goOver "RingHouse$Assembler" none 11) (hN : zNl K = 3) (hT : zTr K = none) (x1 : Int) {r7 : Int → zX} (hr7 : ∀ s : Int, zR K 7 [(0, 66, 0), (1, 0, s)] [] (r7 s)) : ∀ r24 : Int → zX, (∀ s : Int, zR K 24 [(0, 66, 0), (1, 0, x1), (2, 0, s)] [] (r24 s)) → ∀ s : Int, zR K 24 [(0, 66, 0), (1, 0, x1), (2, 0, s)] [] (fX64_goOver_B24 r7 x1 r24 s) := by
  intro r24 hr24 x2
  refine r_iload_n E dX64_goOver_24 rfl 2 rfl ?_
  refine r_aload_n E dX64_goOver_25 rfl 0 rfl ?_
  refine r_get E zc_66 zt_6503 dX64_goOver_26 q1631 zr_66 (zg_6503 _) (by decide) (fun v3 => ?_)
  refine r_icmp_ge E 49 (by decide) dX64_goOver_29 (fun _ => ?_) (fun _ => ?_)
  · exact w_fX64_goOver_J49 E hN hT x1 x2 hr7
  · refine r_aload_n E dX64_goOver_32 rfl 0 rfl ?_
    refine r_gec (y := 0) E zc_66 dX64_goOver_33 q1629 zr_66 (zh_6502 (by decide)) (by decide) ?_
    refine r_iload_n E dX64_goOver_36 rfl 2 rfl ?_
    refine r_iaload E zc_6502 za_6502 zt_6502 zx_6502 rfl rfl dX64_goOver_37 (by decide) (fun v10 => ?_)
    refine r_bipush E dX64_goOver_38 (by decide) (zkI (by decide) (by decide)) ?_
    refine r_icmp_eq E 49 (by decide) dX64_goOver_40 (fun _ => ?_) (fun _ => ?_)
    · exact w_fX64_goOver_J49 E hN hT x1 x2 hr7
    · refine r_iinc (ls' := fun v11 => [(2, 0, v11), (0, 66, 0), (1, 0, x1)]) E 2 rfl (by rw [hN]; decide) (fun _ => rfl) dX64_goOver_43 (fun v11 _ => ?_)
      refine r_goto E 24 (by decide) dX64_goOver_46 ?_
      refine r_pick E [1, 2, 0] rfl ?_
      exact hr24 v11
theorem w_fX64_goOver_B7 {K : zK} (E : zE K cX64_goOver "RingHouse$Assembler" none 11) (hN : zNl K = 3) (hT : zTr K = none) : ∀ r7 : Int → zX, (∀ s : Int, zR K 7 [(0, 66, 0), (1, 0, s)] [] (r7 s)) → ∀ s : Int, zR K 7 [(0, 66, 0), (1, 0, s)] [] (fX64_goOver_B7 r7 s) := by
  intro r7 hr7 x1
  refine r_iload_n E dX64_goOver_7 rfl 1 rfl ?_
  refine r_aload_n E dX64_goOver_8 rfl 0 rfl ?_
  refine r_get E zc_66 zt_6503 dX64_goOver_9 q1631 zr_66 (zg_6503 _) (by decide) (fun v1 => ?_)
  refine r_icmp_ge E 105 (by decide) dX64_goOver_12 (fun _ => ?_) (fun _ => ?_)
  · exact r_return E rfl hT dX64_goOver_105
  · refine r_aload_n E dX64_goOver_15 rfl 0 rfl ?_
    refine r_get E zc_66 zt_6508 dX64_goOver_16 q1637 zr_66 (zg_6508 _) (by decide) (fun v2 => ?_)
    refine r_if_ne E 105 (by decide) dX64_goOver_19 (fun _ => ?_) (fun _ => ?_)
    · exact r_return E rfl hT dX64_goOver_105
    · refine r_iload_n E dX64_goOver_22 rfl 1 rfl ?_
      refine r_istore_n (ls' := [(2, 0, x1), (0, 66, 0), (1, 0, x1)]) E dX64_goOver_23 rfl (by rw [hN]; decide) rfl ?_
      refine r_pick E [1, 2, 0] rfl ?_
      exact r_loop (L := fun s => [(0, 66, 0), (1, 0, x1), (2, 0, s)]) (w_fX64_goOver_B24 E hN hT x1 hr7) zBIG x1
theorem w_fX64_goOver {K : zK} (E : zE K cX64_goOver "RingHouse$Assembler" none 11) (hN : zNl K = 3) (hT : zTr K = none) : zR K 0 [(0, 66, 0)] [] (fX64_goOver) := by
  refine r_aload_n E dX64_goOver_0 rfl 0 rfl ?_
  refine r_iconst E dX64_goOver_1 (zkI (by decide) (by decide)) ?_
  refine r_put E zc_66 zt_6520 zo_6520 dX64_goOver_2 q1650 zr_66 zw_X64 zp_6520 (fun _ => rfl) (fun _ => rfl) (by decide) ?_
  refine r_iconst E dX64_goOver_5 (zkI (by decide) (by decide)) ?_
  refine r_istore_n (ls' := [(1, 0, 0), (0, 66, 0)]) E dX64_goOver_6 rfl (by rw [hN]; decide) rfl ?_
  refine r_pick E [1, 0] rfl ?_
  exact r_loop (L := fun s => [(0, 66, 0), (1, 0, s)]) (w_fX64_goOver_B7 E hN hT) zBIG 0
theorem k_fX64_goOver (l : Launch) (G : zG) : zCt l G yX64_goOver cX64_goOver 3 none 11 [(66, 0)] none (fX64_goOver) := zCt.of (by decide) (Nat.le_of_ble_eq_true rfl) (fun K E _ _ hN hT => w_fX64_goOver E hN hT)
theorem dX64_putTables_0 : decode cX64_putTables 0 = .ok (.aload_n 0, 1) := by decide +kernel
theorem dX64_putTables_1 : decode cX64_putTables 1 = .ok (.getfield 133, 3) := by decide +kernel
theorem dX64_putTables_4 : decode cX64_putTables 4 = .ok (.istore_n 1, 1) := by decide +kernel
theorem dX64_putTables_5 : decode cX64_putTables 5 = .ok (.iconst 0, 1) := by decide +kernel
theorem dX64_putTables_6 : decode cX64_putTables 6 = .ok (.istore_n 2, 1) := by decide +kernel
theorem dX64_putTables_7 : decode cX64_putTables 7 = .ok (.iload_n 2, 1) := by decide +kernel
theorem dX64_putTables_8 : decode cX64_putTables 8 = .ok (.aload_n 0, 1) := by decide +kernel
theorem dX64_putTables_9 : decode cX64_putTables 9 = .ok (.getfield 156, 3) := by decide +kernel
theorem dX64_putTables_12 : decode cX64_putTables 12 = .ok (.if_icmp .ge 29, 3) := by decide +kernel
theorem dX64_putTables_15 : decode cX64_putTables 15 = .ok (.aload_n 0, 1) := by decide +kernel
theorem dX64_putTables_16 : decode cX64_putTables 16 = .ok (.aload_n 0, 1) := by decide +kernel
theorem dX64_putTables_17 : decode cX64_putTables 17 = .ok (.getfield 26, 3) := by decide +kernel
theorem dX64_putTables_20 : decode cX64_putTables 20 = .ok (.iload_n 2, 1) := by decide +kernel
theorem dX64_putTables_21 : decode cX64_putTables 21 = .ok (.laload, 1) := by decide +kernel
theorem dX64_putTables_22 : decode cX64_putTables 22 = .ok (.invokevirtual 182, 3) := by decide +kernel
theorem dX64_putTables_25 : decode cX64_putTables 25 = .ok (.aload_n 0, 1) := by decide +kernel
theorem dX64_putTables_26 : decode cX64_putTables 26 = .ok (.aload_n 0, 1) := by decide +kernel
theorem dX64_putTables_27 : decode cX64_putTables 27 = .ok (.getfield 29, 3) := by decide +kernel
theorem dX64_putTables_30 : decode cX64_putTables 30 = .ok (.iload_n 2, 1) := by decide +kernel
theorem dX64_putTables_31 : decode cX64_putTables 31 = .ok (.laload, 1) := by decide +kernel
theorem dX64_putTables_32 : decode cX64_putTables 32 = .ok (.invokevirtual 182, 3) := by decide +kernel
theorem dX64_putTables_35 : decode cX64_putTables 35 = .ok (.iinc 2 1, 3) := by decide +kernel
theorem dX64_putTables_38 : decode cX64_putTables 38 = .ok (.goto (-31), 3) := by decide +kernel
theorem dX64_putTables_41 : decode cX64_putTables 41 = .ok (.aload_n 0, 1) := by decide +kernel
theorem dX64_putTables_42 : decode cX64_putTables 42 = .ok (.getfield 133, 3) := by decide +kernel
theorem dX64_putTables_45 : decode cX64_putTables 45 = .ok (.istore_n 2, 1) := by decide +kernel
theorem dX64_putTables_46 : decode cX64_putTables 46 = .ok (.iconst 0, 1) := by decide +kernel
theorem dX64_putTables_47 : decode cX64_putTables 47 = .ok (.istore_n 3, 1) := by decide +kernel
theorem dX64_putTables_48 : decode cX64_putTables 48 = .ok (.iload_n 3, 1) := by decide +kernel
theorem dX64_putTables_49 : decode cX64_putTables 49 = .ok (.aload_n 0, 1) := by decide +kernel
theorem dX64_putTables_50 : decode cX64_putTables 50 = .ok (.getfield 206, 3) := by decide +kernel
theorem dX64_putTables_53 : decode cX64_putTables 53 = .ok (.if_icmp .ge 39, 3) := by decide +kernel
theorem dX64_putTables_56 : decode cX64_putTables 56 = .ok (.aload_n 0, 1) := by decide +kernel
theorem dX64_putTables_57 : decode cX64_putTables 57 = .ok (.aload_n 0, 1) := by decide +kernel
theorem dX64_putTables_58 : decode cX64_putTables 58 = .ok (.getfield 35, 3) := by decide +kernel
theorem dX64_putTables_61 : decode cX64_putTables 61 = .ok (.iload_n 3, 1) := by decide +kernel
theorem dX64_putTables_62 : decode cX64_putTables 62 = .ok (.laload, 1) := by decide +kernel
theorem dX64_putTables_63 : decode cX64_putTables 63 = .ok (.invokevirtual 182, 3) := by decide +kernel
theorem dX64_putTables_66 : decode cX64_putTables 66 = .ok (.aload_n 0, 1) := by decide +kernel
theorem dX64_putTables_67 : decode cX64_putTables 67 = .ok (.aload_n 0, 1) := by decide +kernel
theorem dX64_putTables_68 : decode cX64_putTables 68 = .ok (.getfield 23, 3) := by decide +kernel
theorem dX64_putTables_71 : decode cX64_putTables 71 = .ok (.aload_n 0, 1) := by decide +kernel
theorem dX64_putTables_72 : decode cX64_putTables 72 = .ok (.aload_n 0, 1) := by decide +kernel
theorem dX64_putTables_73 : decode cX64_putTables 73 = .ok (.getfield 35, 3) := by decide +kernel
theorem dX64_putTables_76 : decode cX64_putTables 76 = .ok (.iload_n 3, 1) := by decide +kernel
theorem dX64_putTables_77 : decode cX64_putTables 77 = .ok (.laload, 1) := by decide +kernel
theorem dX64_putTables_78 : decode cX64_putTables 78 = .ok (.invokevirtual 113, 3) := by decide +kernel
theorem dX64_putTables_81 : decode cX64_putTables 81 = .ok (.iaload, 1) := by decide +kernel
theorem dX64_putTables_82 : decode cX64_putTables 82 = .ok (.i2l, 1) := by decide +kernel
theorem dX64_putTables_83 : decode cX64_putTables 83 = .ok (.invokevirtual 182, 3) := by decide +kernel
theorem dX64_putTables_86 : decode cX64_putTables 86 = .ok (.iinc 3 1, 3) := by decide +kernel
theorem dX64_putTables_89 : decode cX64_putTables 89 = .ok (.goto (-41), 3) := by decide +kernel
theorem dX64_putTables_92 : decode cX64_putTables 92 = .ok (.aload_n 0, 1) := by decide +kernel
theorem dX64_putTables_93 : decode cX64_putTables 93 = .ok (.getfield 38, 3) := by decide +kernel
theorem dX64_putTables_96 : decode cX64_putTables 96 = .ok (.iconst 0, 1) := by decide +kernel
theorem dX64_putTables_97 : decode cX64_putTables 97 = .ok (.ldc2_w 253, 3) := by decide +kernel
theorem dX64_putTables_100 : decode cX64_putTables 100 = .ok (.aload_n 0, 1) := by decide +kernel
theorem dX64_putTables_101 : decode cX64_putTables 101 = .ok (.getfield 156, 3) := by decide +kernel
theorem dX64_putTables_104 : decode cX64_putTables 104 = .ok (.i2l, 1) := by decide +kernel
theorem dX64_putTables_105 : decode cX64_putTables 105 = .ok (.bipush 18, 2) := by decide +kernel
theorem dX64_putTables_107 : decode cX64_putTables 107 = .ok (.lshl, 1) := by decide +kernel
theorem dX64_putTables_108 : decode cX64_putTables 108 = .ok (.lor, 1) := by decide +kernel
theorem dX64_putTables_109 : decode cX64_putTables 109 = .ok (.iload_n 1, 1) := by decide +kernel
theorem dX64_putTables_110 : decode cX64_putTables 110 = .ok (.ldc 255, 2) := by decide +kernel
theorem dX64_putTables_112 : decode cX64_putTables 112 = .ok (.iand, 1) := by decide +kernel
theorem dX64_putTables_113 : decode cX64_putTables 113 = .ok (.i2l, 1) := by decide +kernel
theorem dX64_putTables_114 : decode cX64_putTables 114 = .ok (.lor, 1) := by decide +kernel
theorem dX64_putTables_115 : decode cX64_putTables 115 = .ok (.lastore, 1) := by decide +kernel
theorem dX64_putTables_116 : decode cX64_putTables 116 = .ok (.aload_n 0, 1) := by decide +kernel
theorem dX64_putTables_117 : decode cX64_putTables 117 = .ok (.getfield 38, 3) := by decide +kernel
theorem dX64_putTables_120 : decode cX64_putTables 120 = .ok (.iconst 1, 1) := by decide +kernel
theorem dX64_putTables_121 : decode cX64_putTables 121 = .ok (.aload_n 0, 1) := by decide +kernel
theorem dX64_putTables_122 : decode cX64_putTables 122 = .ok (.getfield 206, 3) := by decide +kernel
theorem dX64_putTables_125 : decode cX64_putTables 125 = .ok (.i2l, 1) := by decide +kernel
theorem dX64_putTables_126 : decode cX64_putTables 126 = .ok (.bipush 18, 2) := by decide +kernel
theorem dX64_putTables_128 : decode cX64_putTables 128 = .ok (.lshl, 1) := by decide +kernel
theorem dX64_putTables_129 : decode cX64_putTables 129 = .ok (.iload_n 2, 1) := by decide +kernel
theorem dX64_putTables_130 : decode cX64_putTables 130 = .ok (.ldc 255, 2) := by decide +kernel
theorem dX64_putTables_132 : decode cX64_putTables 132 = .ok (.iand, 1) := by decide +kernel
theorem dX64_putTables_133 : decode cX64_putTables 133 = .ok (.i2l, 1) := by decide +kernel
theorem dX64_putTables_134 : decode cX64_putTables 134 = .ok (.lor, 1) := by decide +kernel
theorem dX64_putTables_135 : decode cX64_putTables 135 = .ok (.lastore, 1) := by decide +kernel
theorem dX64_putTables_136 : decode cX64_putTables 136 = .ok (.return_, 1) := by decide +kernel
theorem zy_X64_putTables : yX64_putTables.cls ≠ "java/lang/invoke/MethodHandle" ∧ yX64_putTables.cls ≠ "java/lang/invoke/VarHandle" ∧ (parseMethodDescriptor yX64_putTables.desc).map (fun d => d.parameters.length) = some 0 := by decide +kernel
theorem w_fX64_putTables_J92 {K : zK} (E : zE K cX64_putTables "RingHouse$Assembler" none 1) (hN : zNl K = 4) (hT : zTr K = none) (x1 : Int) (x2 : Int) : zR K 92 [(0, 66, 0), (1, 0, x1), (2, 0, x2)] [] (fX64_putTables_J92 x1 x2) := by
  refine r_aload_n E dX64_putTables_92 rfl 0 rfl ?_
  refine r_gec (y := 0) E zc_66 dX64_putTables_93 q1651 zr_66 (zh_6521 (by decide)) (by decide) ?_
  refine r_iconst E dX64_putTables_96 (zkI (by decide) (by decide)) ?_
  refine r_ldc2 (v := 48989470720) E dX64_putTables_97 q2984 (by decide) (zkJ (by decide) (by decide)) ?_
  refine r_aload_n E dX64_putTables_100 rfl 0 rfl ?_
  refine r_get E zc_66 zt_6515 dX64_putTables_101 q1645 zr_66 (zg_6515 _) (by decide) (fun v5 => ?_)
  refine r_i2l E dX64_putTables_104 ?_
  refine r_bipush E dX64_putTables_105 (by decide) (zkI (by decide) (by decide)) ?_
  refine r_lshl (P := 262144) E (by decide) dX64_putTables_107 ?_
  refine r_lor E dX64_putTables_108 ?_
  refine r_iload_n E dX64_putTables_109 rfl 1 rfl ?_
  refine r_ldc (v := 262143) E dX64_putTables_110 q2985 (by decide) (zkI (by decide) (by decide)) ?_
  refine r_imask (P := 262144) E 18 (by decide) (by decide) (by decide) dX64_putTables_112 ?_
  refine r_i2l E dX64_putTables_113 ?_
  refine r_lor E dX64_putTables_114 ?_
  refine r_lastore E zc_6521 za_6521 zt_6521 zo_6521 zx_6521 rfl rfl dX64_putTables_115 (by decide) ?_
  refine r_aload_n E dX64_putTables_116 rfl 0 rfl ?_
  refine r_gec (y := 0) E zc_66 dX64_putTables_117 q1651 zr_66 (zh_6521 (by decide)) (by decide) ?_
  refine r_iconst E dX64_putTables_120 (zkI (by decide) (by decide)) ?_
  refine r_aload_n E dX64_putTables_121 rfl 0 rfl ?_
  refine r_get E zc_66 zt_6518 dX64_putTables_122 q1648 zr_66 (zg_6518 _) (by decide) (fun v6 => ?_)
  refine r_i2l E dX64_putTables_125 ?_
  refine r_bipush E dX64_putTables_126 (by decide) (zkI (by decide) (by decide)) ?_
  refine r_lshl (P := 262144) E (by decide) dX64_putTables_128 ?_
  refine r_iload_n E dX64_putTables_129 rfl 2 rfl ?_
  refine r_ldc (v := 262143) E dX64_putTables_130 q2985 (by decide) (zkI (by decide) (by decide)) ?_
  refine r_imask (P := 262144) E 18 (by decide) (by decide) (by decide) dX64_putTables_132 ?_
  refine r_i2l E dX64_putTables_133 ?_
  refine r_lor E dX64_putTables_134 ?_
  refine r_lastore E zc_6521 za_6521 zt_6521 zo_6521 zx_6521 rfl rfl dX64_putTables_135 (by decide) ?_
  exact r_return E rfl hT dX64_putTables_136
theorem w_fX64_putTables_B48 {K : zK} (E : zE K cX64_putTables "RingHouse$Assembler" none 1) (hN : zNl K = 4) (hT : zTr K = none) (x1 : Int) (x2 : Int) : ∀ r48 : Int → zX, (∀ s : Int, zR K 48 [(0, 66, 0), (1, 0, x1), (2, 0, x2), (3, 0, s)] [] (r48 s)) → ∀ s : Int, zR K 48 [(0, 66, 0), (1, 0, x1), (2, 0, x2), (3, 0, s)] [] (fX64_putTables_B48 x1 x2 r48 s) := by
  intro r48 hr48 x3
  refine r_iload_n E dX64_putTables_48 rfl 3 rfl ?_
  refine r_aload_n E dX64_putTables_49 rfl 0 rfl ?_
  refine r_get E zc_66 zt_6518 dX64_putTables_50 q1648 zr_66 (zg_6518 _) (by decide) (fun v4 => ?_)
  refine r_icmp_ge E 92 (by decide) dX64_putTables_53 (fun _ => ?_) (fun _ => ?_)
  · refine r_pick E [0, 1, 2] rfl ?_
    exact w_fX64_putTables_J92 E hN hT x1 x2
  · refine r_aload_n E dX64_putTables_56 rfl 0 rfl ?_
    refine r_aload_n E dX64_putTables_57 rfl 0 rfl ?_
    refine r_gec (y := 0) E zc_66 dX64_putTables_58 q1647 zr_66 (zh_6517 (by decide)) (by decide) ?_
    refine r_iload_n E dX64_putTables_61 rfl 3 rfl ?_
    refine r_laload E zc_6517 za_6517 zt_6517 zx_6517 rfl rfl dX64_putTables_62 (by decide) (fun v7 => ?_)
    refine r_callV E [(1, v7)] [] rfl zc_66 zr_66 (fun o _ => ⟨_, zw_X64.1 o, rfl⟩) (lw_V q2887 q2889 qs47 q291 q2890) dX64_putTables_63 zy_X64_put rfl (by omega) (by decide) (Nat.le_of_ble_eq_true rfl) (by decide) (fun l G => k_fX64_put l G v7) (fun _ => ?_)
    refine r_aload_n E dX64_putTables_66 rfl 0 rfl ?_
    refine r_aload_n E dX64_putTables_67 rfl 0 rfl ?_
    refine r_gec (y := 0) E zc_66 dX64_putTables_68 q1641 zr_66 (zh_6511 (by decide)) (by decide) ?_
    refine r_aload_n E dX64_putTables_71 rfl 0 rfl ?_
    refine r_aload_n E dX64_putTables_72 rfl 0 rfl ?_
    refine r_gec (y := 0) E zc_66 dX64_putTables_73 q1647 zr_66 (zh_6517 (by decide)) (by decide) ?_
    refine r_iload_n E dX64_putTables_76 rfl 3 rfl ?_
    refine r_laload E zc_6517 za_6517 zt_6517 zx_6517 rfl rfl dX64_putTables_77 (by decide) (fun v9 => ?_)
    refine r_callV E [(1, v9)] [(6511, 0), (66, 0)] rfl zc_66 zr_66 (fun o _ => ⟨_, zw_X64.1 o, rfl⟩) (lw_V q2819 q2821 qs42 q291 q2822) dX64_putTables_78 zy_X64_findLabel rfl (by omega) (by decide) (Nat.le_of_ble_eq_true rfl) (by decide) (fun l G => k_fX64_findLabel l G v9) (fun v10 => ?_)
    refine r_iaload E zc_6511 za_6511 zt_6511 zx_6511 rfl rfl dX64_putTables_81 (by decide) (fun v11 => ?_)
    refine r_i2l E dX64_putTables_82 ?_
    refine r_callV E [(1, v11)] [] rfl zc_66 zr_66 (fun o _ => ⟨_, zw_X64.1 o, rfl⟩) (lw_V q2887 q2889 qs47 q291 q2890) dX64_putTables_83 zy_X64_put rfl (by omega) (by decide) (Nat.le_of_ble_eq_true rfl) (by decide) (fun l G => k_fX64_put l G v11) (fun _ => ?_)
    refine r_iinc (ls' := fun v13 => [(3, 0, v13), (0, 66, 0), (1, 0, x1), (2, 0, x2)]) E 3 rfl (by rw [hN]; decide) (fun _ => rfl) dX64_putTables_86 (fun v13 _ => ?_)
    refine r_goto E 48 (by decide) dX64_putTables_89 ?_
    refine r_pick E [1, 2, 3, 0] rfl ?_
    exact hr48 v13
theorem w_fX64_putTables_J41 {K : zK} (E : zE K cX64_putTables "RingHouse$Assembler" none 1) (hN : zNl K = 4) (hT : zTr K = none) (x1 : Int) : zR K 41 [(0, 66, 0), (1, 0, x1)] [] (fX64_putTables_J41 x1) := by
  refine r_aload_n E dX64_putTables_41 rfl 0 rfl ?_
  refine r_get E zc_66 zt_6520 dX64_putTables_42 q1650 zr_66 (zg_6520 _) (by decide) (fun v3 => ?_)
  refine r_istore_n (ls' := [(2, 0, v3), (0, 66, 0), (1, 0, x1)]) E dX64_putTables_45 rfl (by rw [hN]; decide) rfl ?_
  refine r_iconst E dX64_putTables_46 (zkI (by decide) (by decide)) ?_
  refine r_istore_n (ls' := [(3, 0, 0), (2, 0, v3), (0, 66, 0), (1, 0, x1)]) E dX64_putTables_47 rfl (by rw [hN]; decide) rfl ?_
  refine r_pick E [2, 3, 1, 0] rfl ?_
  exact r_loop (L := fun s => [(0, 66, 0), (1, 0, x1), (2, 0, v3), (3, 0, s)]) (w_fX64_putTables_B48 E hN hT x1 v3) zBIG 0
theorem w_fX64_putTables_B7 {K : zK} (E : zE K cX64_putTables "RingHouse$Assembler" none 1) (hN : zNl K = 4) (hT : zTr K = none) (x1 : Int) : ∀ r7 : Int → zX, (∀ s : Int, zR K 7 [(0, 66, 0), (1, 0, x1), (2, 0, s)] [] (r7 s)) → ∀ s : Int, zR K 7 [(0, 66, 0), (1, 0, x1), (2, 0, s)] [] (fX64_putTables_B7 x1 r7 s) := by
  intro r7 hr7 x2
  refine r_iload_n E dX64_putTables_7 rfl 2 rfl ?_
  refine r_aload_n E dX64_putTables_8 rfl 0 rfl ?_
  refine r_get E zc_66 zt_6515 dX64_putTables_9 q1645 zr_66 (zg_6515 _) (by decide) (fun v2 => ?_)
  refine r_icmp_ge E 41 (by decide) dX64_putTables_12 (fun _ => ?_) (fun _ => ?_)
  · refine r_pick E [0, 1] rfl ?_
    exact w_fX64_putTables_J41 E hN hT x1
  · refine r_aload_n E dX64_putTables_15 rfl 0 rfl ?_
    refine r_aload_n E dX64_putTables_16 rfl 0 rfl ?_
    refine r_gec (y := 0) E zc_66 dX64_putTables_17 q1643 zr_66 (zh_6513 (by decide)) (by decide) ?_
    refine r_iload_n E dX64_putTables_20 rfl 2 rfl ?_
    refine r_laload E zc_6513 za_6513 zt_6513 zx_6513 rfl rfl dX64_putTables_21 (by decide) (fun v14 => ?_)
    refine r_callV E [(1, v14)] [] rfl zc_66 zr_66 (fun o _ => ⟨_, zw_X64.1 o, rfl⟩) (lw_V q2887 q2889 qs47 q291 q2890) dX64_putTables_22 zy_X64_put rfl (by omega) (by decide) (Nat.le_of_ble_eq_true rfl) (by decide) (fun l G => k_fX64_put l G v14) (fun _ => ?_)
    refine r_aload_n E dX64_putTables_25 rfl 0 rfl ?_
    refine r_aload_n E dX64_putTables_26 rfl 0 rfl ?_
    refine r_gec (y := 0) E zc_66 dX64_putTables_27 q1644 zr_66 (zh_6514 (by decide)) (by decide) ?_
    refine r_iload_n E dX64_putTables_30 rfl 2 rfl ?_
    refine r_laload E zc_6514 za_6514 zt_6514 zx_6514 rfl rfl dX64_putTables_31 (by decide) (fun v16 => ?_)
    refine r_callV E [(1, v16)] [] rfl zc_66 zr_66 (fun o _ => ⟨_, zw_X64.1 o, rfl⟩) (lw_V q2887 q2889 qs47 q291 q2890) dX64_putTables_32 zy_X64_put rfl (by omega) (by decide) (Nat.le_of_ble_eq_true rfl) (by decide) (fun l G => k_fX64_put l G v16) (fun _ => ?_)
    refine r_iinc (ls' := fun v18 => [(2, 0, v18), (0, 66, 0), (1, 0, x1)]) E 2 rfl (by rw [hN]; decide) (fun _ => rfl) dX64_putTables_35 (fun v18 _ => ?_)
    refine r_goto E 7 (by decide) dX64_putTables_38 ?_
    refine r_pick E [1, 2, 0] rfl ?_
    exact hr7 v18
theorem w_fX64_putTables {K : zK} (E : zE K cX64_putTables "RingHouse$Assembler" none 1) (hN : zNl K = 4) (hT : zTr K = none) : zR K 0 [(0, 66, 0)] [] (fX64_putTables) := by
  refine r_aload_n E dX64_putTables_0 rfl 0 rfl ?_
  refine r_get E zc_66 zt_6520 dX64_putTables_1 q1650 zr_66 (zg_6520 _) (by decide) (fun v1 => ?_)
  refine r_istore_n (ls' := [(1, 0, v1), (0, 66, 0)]) E dX64_putTables_4 rfl (by rw [hN]; decide) rfl ?_
  refine r_iconst E dX64_putTables_5 (zkI (by decide) (by decide)) ?_
  refine r_istore_n (ls' := [(2, 0, 0), (1, 0, v1), (0, 66, 0)]) E dX64_putTables_6 rfl (by rw [hN]; decide) rfl ?_
  refine r_pick E [2, 1, 0] rfl ?_
  exact r_loop (L := fun s => [(0, 66, 0), (1, 0, v1), (2, 0, s)]) (w_fX64_putTables_B7 E hN hT v1) zBIG 0
theorem k_fX64_putTables (l : Launch) (G : zG) : zCt l G yX64_putTables cX64_putTables 4 none 1 [(66, 0)] none (fX64_putTables) := zCt.of (by decide) (Nat.le_of_ble_eq_true rfl) (fun K E _ _ hN hT => w_fX64_putTables E hN hT)
theorem dX64_into_0 : decode cX64_into 0 = .ok (.aload_n 0, 1) := by decide +kernel
theorem dX64_into_1 : decode cX64_into 1 = .ok (.iconst 0, 1) := by decide +kernel
theorem dX64_into_2 : decode cX64_into 2 = .ok (.putfield 49, 3) := by decide +kernel
theorem dX64_into_5 : decode cX64_into 5 = .ok (.aload_n 0, 1) := by decide +kernel
theorem dX64_into_6 : decode cX64_into 6 = .ok (.iconst (-1), 1) := by decide +kernel
theorem dX64_into_7 : decode cX64_into 7 = .ok (.putfield 15, 3) := by decide +kernel
theorem dX64_into_10 : decode cX64_into 10 = .ok (.aload_n 0, 1) := by decide +kernel
theorem dX64_into_11 : decode cX64_into 11 = .ok (.iconst 0, 1) := by decide +kernel
theorem dX64_into_12 : decode cX64_into 12 = .ok (.putfield 103, 3) := by decide +kernel
theorem dX64_into_15 : decode cX64_into 15 = .ok (.aload_n 0, 1) := by decide +kernel
theorem dX64_into_16 : decode cX64_into 16 = .ok (.iconst 0, 1) := by decide +kernel
theorem dX64_into_17 : decode cX64_into 17 = .ok (.putfield 156, 3) := by decide +kernel
theorem dX64_into_20 : decode cX64_into 20 = .ok (.aload_n 0, 1) := by decide +kernel
theorem dX64_into_21 : decode cX64_into 21 = .ok (.iconst 0, 1) := by decide +kernel
theorem dX64_into_22 : decode cX64_into 22 = .ok (.putfield 206, 3) := by decide +kernel
theorem dX64_into_25 : decode cX64_into 25 = .ok (.aload_n 0, 1) := by decide +kernel
theorem dX64_into_26 : decode cX64_into 26 = .ok (.iconst 0, 1) := by decide +kernel
theorem dX64_into_27 : decode cX64_into 27 = .ok (.putfield 117, 3) := by decide +kernel
theorem dX64_into_30 : decode cX64_into 30 = .ok (.aload_n 0, 1) := by decide +kernel
theorem dX64_into_31 : decode cX64_into 31 = .ok (.invokevirtual 256, 3) := by decide +kernel
theorem dX64_into_34 : decode cX64_into 34 = .ok (.aload_n 0, 1) := by decide +kernel
theorem dX64_into_35 : decode cX64_into 35 = .ok (.iconst 1, 1) := by decide +kernel
theorem dX64_into_36 : decode cX64_into 36 = .ok (.putfield 117, 3) := by decide +kernel
theorem dX64_into_39 : decode cX64_into 39 = .ok (.aload_n 0, 1) := by decide +kernel
theorem dX64_into_40 : decode cX64_into 40 = .ok (.getfield 49, 3) := by decide +kernel
theorem dX64_into_43 : decode cX64_into 43 = .ok (.ifCond .ne 7, 3) := by decide +kernel
theorem dX64_into_46 : decode cX64_into 46 = .ok (.aload_n 0, 1) := by decide +kernel
theorem dX64_into_47 : decode cX64_into 47 = .ok (.invokevirtual 256, 3) := by decide +kernel
theorem dX64_into_50 : decode cX64_into 50 = .ok (.aload_n 0, 1) := by decide +kernel
theorem dX64_into_51 : decode cX64_into 51 = .ok (.getfield 49, 3) := by decide +kernel
theorem dX64_into_54 : decode cX64_into 54 = .ok (.ifCond .ne 29, 3) := by decide +kernel
theorem dX64_into_57 : decode cX64_into 57 = .ok (.aload_n 0, 1) := by decide +kernel
theorem dX64_into_58 : decode cX64_into 58 = .ok (.invokevirtual 259, 3) := by decide +kernel
theorem dX64_into_61 : decode cX64_into 61 = .ok (.aload_n 0, 1) := by decide +kernel
theorem dX64_into_62 : decode cX64_into 62 = .ok (.getfield 133, 3) := by decide +kernel
theorem dX64_into_65 : decode cX64_into 65 = .ok (.aload_n 1, 1) := by decide +kernel
theorem dX64_into_66 : decode cX64_into 66 = .ok (.getfield 262, 3) := by decide +kernel
theorem dX64_into_69 : decode cX64_into 69 = .ok (.if_icmp .le 14, 3) := by decide +kernel
theorem dX64_into_72 : decode cX64_into 72 = .ok (.aload_n 0, 1) := by decide +kernel
theorem dX64_into_73 : decode cX64_into 73 = .ok (.bipush 6, 2) := by decide +kernel
theorem dX64_into_75 : decode cX64_into 75 = .ok (.aload_n 0, 1) := by decide +kernel
theorem dX64_into_76 : decode cX64_into 76 = .ok (.getfield 247, 3) := by decide +kernel
theorem dX64_into_79 : decode cX64_into 79 = .ok (.invokevirtual 68, 3) := by decide +kernel
theorem dX64_into_82 : decode cX64_into 82 = .ok (.pop, 1) := by decide +kernel
theorem dX64_into_83 : decode cX64_into 83 = .ok (.aload_n 0, 1) := by decide +kernel
theorem dX64_into_84 : decode cX64_into 84 = .ok (.iconst 0, 1) := by decide +kernel
theorem dX64_into_85 : decode cX64_into 85 = .ok (.putfield 247, 3) := by decide +kernel
theorem dX64_into_88 : decode cX64_into 88 = .ok (.aload_n 0, 1) := by decide +kernel
theorem dX64_into_89 : decode cX64_into 89 = .ok (.getfield 49, 3) := by decide +kernel
theorem dX64_into_92 : decode cX64_into 92 = .ok (.ifCond .le 11, 3) := by decide +kernel
theorem dX64_into_95 : decode cX64_into 95 = .ok (.bipush (-10), 2) := by decide +kernel
theorem dX64_into_97 : decode cX64_into 97 = .ok (.aload_n 0, 1) := by decide +kernel
theorem dX64_into_98 : decode cX64_into 98 = .ok (.getfield 49, 3) := by decide +kernel
theorem dX64_into_101 : decode cX64_into 101 = .ok (.isub, 1) := by decide +kernel
theorem dX64_into_102 : decode cX64_into 102 = .ok (.ireturn, 1) := by decide +kernel
theorem dX64_into_103 : decode cX64_into 103 = .ok (.iconst 0, 1) := by decide +kernel
theorem dX64_into_104 : decode cX64_into 104 = .ok (.istore_n 2, 1) := by decide +kernel
theorem dX64_into_105 : decode cX64_into 105 = .ok (.iload_n 2, 1) := by decide +kernel
theorem dX64_into_106 : decode cX64_into 106 = .ok (.aload_n 1, 1) := by decide +kernel
theorem dX64_into_107 : decode cX64_into 107 = .ok (.getfield 262, 3) := by decide +kernel
theorem dX64_into_110 : decode cX64_into 110 = .ok (.if_icmp .ge 36, 3) := by decide +kernel
theorem dX64_into_113 : decode cX64_into 113 = .ok (.aload_n 0, 1) := by decide +kernel
theorem dX64_into_114 : decode cX64_into 114 = .ok (.getfield 41, 3) := by decide +kernel
theorem dX64_into_117 : decode cX64_into 117 = .ok (.aload_n 1, 1) := by decide +kernel
theorem dX64_into_118 : decode cX64_into 118 = .ok (.iload_n 2, 1) := by decide +kernel
theorem dX64_into_119 : decode cX64_into 119 = .ok (.iload_n 2, 1) := by decide +kernel
theorem dX64_into_120 : decode cX64_into 120 = .ok (.aload_n 0, 1) := by decide +kernel
theorem dX64_into_121 : decode cX64_into 121 = .ok (.getfield 133, 3) := by decide +kernel
theorem dX64_into_124 : decode cX64_into 124 = .ok (.if_icmp .ge 12, 3) := by decide +kernel
theorem dX64_into_127 : decode cX64_into 127 = .ok (.aload_n 0, 1) := by decide +kernel
theorem dX64_into_128 : decode cX64_into 128 = .ok (.getfield 38, 3) := by decide +kernel
theorem dX64_into_131 : decode cX64_into 131 = .ok (.iload_n 2, 1) := by decide +kernel
theorem dX64_into_132 : decode cX64_into 132 = .ok (.laload, 1) := by decide +kernel
theorem dX64_into_133 : decode cX64_into 133 = .ok (.goto 4, 3) := by decide +kernel
theorem dX64_into_136 : decode cX64_into 136 = .ok (.lconst 0, 1) := by decide +kernel
theorem dX64_into_137 : decode cX64_into 137 = .ok (.invokevirtual 266, 3) := by decide +kernel
theorem dX64_into_140 : decode cX64_into 140 = .ok (.iinc 2 1, 3) := by decide +kernel
theorem dX64_into_143 : decode cX64_into 143 = .ok (.goto (-38), 3) := by decide +kernel
theorem dX64_into_146 : decode cX64_into 146 = .ok (.aload_n 0, 1) := by decide +kernel
theorem dX64_into_147 : decode cX64_into 147 = .ok (.getfield 133, 3) := by decide +kernel
theorem dX64_into_150 : decode cX64_into 150 = .ok (.ireturn, 1) := by decide +kernel
theorem zy_X64_into : yX64_into.cls ≠ "java/lang/invoke/MethodHandle" ∧ yX64_into.cls ≠ "java/lang/invoke/VarHandle" ∧ (parseMethodDescriptor yX64_into.desc).map (fun d => d.parameters.length) = some 1 := by decide +kernel
theorem w_fX64_into_J146 {K : zK} (E : zE K cX64_into "RingHouse$Assembler" (some .int) 12) (hN : zNl K = 3) (hT : zTr K = (some 0)) : zR K 146 [(0, 66, 0)] [] (fX64_into_J146) := by
  refine r_aload_n E dX64_into_146 rfl 0 rfl ?_
  refine r_get E zc_66 zt_6520 dX64_into_147 q1650 zr_66 (zg_6520 _) (by decide) (fun v7 => ?_)
  exact r_ireturn E rfl hT dX64_into_150
theorem w_fX64_into_J137 {K : zK} (E : zE K cX64_into "RingHouse$Assembler" (some .int) 12) (hN : zNl K = 3) (hT : zTr K = (some 0)) (x1 : Int) (x2 : Int) (s1 : Int) (s2 : Int) (s3 : Int) {r105 : Int → zX} (hr105 : ∀ s : Int, zR K 105 [(0, 66, 0), (1, 6, x1), (2, 0, s)] [] (r105 s)) : zR K 137 [(0, 66, 0), (1, 6, x1), (2, 0, x2)] [(1, s3), (0, s2), (6, s1), (3, 0)] (fX64_into_J137 r105 x1 x2 s1 s2 s3) := by
  refine r_callV E [(6, s1), (0, s2), (1, s3)] [] rfl zc_3 zr_3 (fun o _ => ⟨_, zw_X1.1 o, rfl⟩) (lw_V q2986 q2098 q2099 q228 q2100) dX64_into_137 zy_X1_put rfl (by omega) (by decide) (Nat.le_of_ble_eq_true rfl) (by decide) (fun l G => k_fX1_put l G s1 s2 s3) (fun _ => ?_)
  refine r_iinc (ls' := fun v10 => [(2, 0, v10), (0, 66, 0), (1, 6, x1)]) E 2 rfl (by rw [hN]; decide) (fun _ => rfl) dX64_into_140 (fun v10 _ => ?_)
  refine r_goto E 105 (by decide) dX64_into_143 ?_
  refine r_pick E [1, 2, 0] rfl ?_
  exact hr105 v10
theorem w_fX64_into_B105 {K : zK} (E : zE K cX64_into "RingHouse$Assembler" (some .int) 12) (hN : zNl K = 3) (hT : zTr K = (some 0)) (x1 : Int) : ∀ r105 : Int → zX, (∀ s : Int, zR K 105 [(0, 66, 0), (1, 6, x1), (2, 0, s)] [] (r105 s)) → ∀ s : Int, zR K 105 [(0, 66, 0), (1, 6, x1), (2, 0, s)] [] (fX64_into_B105 x1 r105 s) := by
  intro r105 hr105 x2
  refine r_iload_n E dX64_into_105 rfl 2 rfl ?_
  refine r_aload_n E dX64_into_106 rfl 1 rfl ?_
  refine r_nn E (fun hn5 => ?_)
  refine r_getN E zc_6 zt_522 dX64_into_107 q481 zr_6 (zg_522 _) hn5 (fun v6 => ?_)
  refine r_icmp_ge E 146 (by decide) dX64_into_110 (fun _ => ?_) (fun _ => ?_)
  · refine r_pick E [0] rfl ?_
    exact w_fX64_into_J146 E hN hT
  · refine r_aload_n E dX64_into_113 rfl 0 rfl ?_
    refine r_gec (y := 0) E zc_66 dX64_into_114 q1627 zr_66 (zh_6500 (by decide)) (by decide) ?_
    refine r_aload_n E dX64_into_117 rfl 1 rfl ?_
    refine r_iload_n E dX64_into_118 rfl 2 rfl ?_
    refine r_iload_n E dX64_into_119 rfl 2 rfl ?_
    refine r_aload_n E dX64_into_120 rfl 0 rfl ?_
    refine r_get E zc_66 zt_6520 dX64_into_121 q1650 zr_66 (zg_6520 _) (by decide) (fun v8 => ?_)
    refine r_icmp_ge E 136 (by decide) dX64_into_124 (fun _ => ?_) (fun _ => ?_)
    · refine r_lconst (v := 0) E dX64_into_136 (by decide) (zkJ (by decide) (by decide)) ?_
      exact w_fX64_into_J137 E hN hT x1 x2 x1 x2 0 hr105
    · refine r_aload_n E dX64_into_127 rfl 0 rfl ?_
      refine r_gec (y := 0) E zc_66 dX64_into_128 q1651 zr_66 (zh_6521 (by decide)) (by decide) ?_
      refine r_iload_n E dX64_into_131 rfl 2 rfl ?_
      refine r_laload E zc_6521 za_6521 zt_6521 zx_6521 rfl rfl dX64_into_132 (by decide) (fun v11 => ?_)
      refine r_goto E 137 (by decide) dX64_into_133 ?_
      exact w_fX64_into_J137 E hN hT x1 x2 x1 x2 v11 hr105
theorem w_fX64_into_J83 {K : zK} (E : zE K cX64_into "RingHouse$Assembler" (some .int) 12) (hN : zNl K = 3) (hT : zTr K = (some 0)) (x1 : Int) : zR K 83 [(0, 66, 0), (1, 6, x1)] [] (fX64_into_J83 x1) := by
  refine r_aload_n E dX64_into_83 rfl 0 rfl ?_
  refine r_iconst E dX64_into_84 (zkI (by decide) (by decide)) ?_
  refine r_put E zc_66 zt_6503 zo_6503 dX64_into_85 q1631 zr_66 zw_X64 zp_6503 (fun _ => rfl) (fun _ => rfl) (by decide) ?_
  refine r_aload_n E dX64_into_88 rfl 0 rfl ?_
  refine r_get E zc_66 zt_6508 dX64_into_89 q1637 zr_66 (zg_6508 _) (by decide) (fun v4 => ?_)
  refine r_if_le E 103 (by decide) dX64_into_92 (fun _ => ?_) (fun _ => ?_)
  · refine r_iconst E dX64_into_103 (zkI (by decide) (by decide)) ?_
    refine r_istore_n (ls' := [(2, 0, 0), (0, 66, 0), (1, 6, x1)]) E dX64_into_104 rfl (by rw [hN]; decide) rfl ?_
    refine r_pick E [1, 2, 0] rfl ?_
    exact r_loop (L := fun s => [(0, 66, 0), (1, 6, x1), (2, 0, s)]) (w_fX64_into_B105 E hN hT x1) zBIG 0
  · refine r_bipush E dX64_into_95 (by decide) (zkI (by decide) (by decide)) ?_
    refine r_aload_n E dX64_into_97 rfl 0 rfl ?_
    refine r_get E zc_66 zt_6508 dX64_into_98 q1637 zr_66 (zg_6508 _) (by decide) (fun v12 => ?_)
    refine r_isub E dX64_into_101 ?_
    exact r_ireturn E rfl hT dX64_into_102
theorem w_fX64_into_J50 {K : zK} (E : zE K cX64_into "RingHouse$Assembler" (some .int) 12) (hN : zNl K = 3) (hT : zTr K = (some 0)) (x1 : Int) : zR K 50 [(0, 66, 0), (1, 6, x1)] [] (fX64_into_J50 x1) := by
  refine r_aload_n E dX64_into_50 rfl 0 rfl ?_
  refine r_get E zc_66 zt_6508 dX64_into_51 q1637 zr_66 (zg_6508 _) (by decide) (fun v3 => ?_)
  refine r_if_ne E 83 (by decide) dX64_into_54 (fun _ => ?_) (fun _ => ?_)
  · exact w_fX64_into_J83 E hN hT x1
  · refine r_aload_n E dX64_into_57 rfl 0 rfl ?_
    refine r_callV E [] [] rfl zc_66 zr_66 (fun o _ => ⟨_, zw_X64.1 o, rfl⟩) (lw_V q2980 q2982 qs67 q291 q2983) dX64_into_58 zy_X64_putTables rfl (by omega) (by decide) (Nat.le_of_ble_eq_true rfl) (by decide) (fun l G => k_fX64_putTables l G) (fun _ => ?_)
    refine r_aload_n E dX64_into_61 rfl 0 rfl ?_
    refine r_get E zc_66 zt_6520 dX64_into_62 q1650 zr_66 (zg_6520 _) (by decide) (fun v14 => ?_)
    refine r_aload_n E dX64_into_65 rfl 1 rfl ?_
    refine r_nn E (fun hn15 => ?_)
    refine r_getN E zc_6 zt_522 dX64_into_66 q481 zr_6 (zg_522 _) hn15 (fun v16 => ?_)
    refine r_icmp_le E 83 (by decide) dX64_into_69 (fun _ => ?_) (fun _ => ?_)
    · exact w_fX64_into_J83 E hN hT x1
    · refine r_aload_n E dX64_into_72 rfl 0 rfl ?_
      refine r_bipush E dX64_into_73 (by decide) (zkI (by decide) (by decide)) ?_
      refine r_aload_n E dX64_into_75 rfl 0 rfl ?_
      refine r_get E zc_66 zt_6503 dX64_into_76 q1631 zr_66 (zg_6503 _) (by decide) (fun v17 => ?_)
      refine r_callV E [(0, 6), (0, v17)] [] rfl zc_66 zr_66 (fun o _ => ⟨_, zw_X64.1 o, rfl⟩) (lw_V q2803 q2805 qs38 q291 q2806) dX64_into_79 zy_X64_wrong rfl (by omega) (by decide) (Nat.le_of_ble_eq_true rfl) (by decide) (fun l G => k_fX64_wrong l G 6 v17) (fun v18 => ?_)
      refine r_pop E (zn1 rfl) dX64_into_82 ?_
      exact w_fX64_into_J83 E hN hT x1
theorem w_fX64_into {K : zK} (E : zE K cX64_into "RingHouse$Assembler" (some .int) 12) (hN : zNl K = 3) (hT : zTr K = (some 0)) (x1 : Int) : zR K 0 [(0, 66, 0), (1, 6, x1)] [] (fX64_into x1) := by
  refine r_aload_n E dX64_into_0 rfl 0 rfl ?_
  refine r_iconst E dX64_into_1 (zkI (by decide) (by decide)) ?_
  refine r_put E zc_66 zt_6508 zo_6508 dX64_into_2 q1637 zr_66 zw_X64 zp_6508 (fun _ => rfl) (fun _ => rfl) (by decide) ?_
  refine r_aload_n E dX64_into_5 rfl 0 rfl ?_
  refine r_iconst E dX64_into_6 (zkI (by decide) (by decide)) ?_
  refine r_put E zc_66 zt_6509 zo_6509 dX64_into_7 q1638 zr_66 zw_X64 zp_6509 (fun _ => rfl) (fun _ => rfl) (by decide) ?_
  refine r_aload_n E dX64_into_10 rfl 0 rfl ?_
  refine r_iconst E dX64_into_11 (zkI (by decide) (by decide)) ?_
  refine r_put E zc_66 zt_6512 zo_6512 dX64_into_12 q1642 zr_66 zw_X64 zp_6512 (fun _ => rfl) (fun _ => rfl) (by decide) ?_
  refine r_aload_n E dX64_into_15 rfl 0 rfl ?_
  refine r_iconst E dX64_into_16 (zkI (by decide) (by decide)) ?_
  refine r_put E zc_66 zt_6515 zo_6515 dX64_into_17 q1645 zr_66 zw_X64 zp_6515 (fun _ => rfl) (fun _ => rfl) (by decide) ?_
  refine r_aload_n E dX64_into_20 rfl 0 rfl ?_
  refine r_iconst E dX64_into_21 (zkI (by decide) (by decide)) ?_
  refine r_put E zc_66 zt_6518 zo_6518 dX64_into_22 q1648 zr_66 zw_X64 zp_6518 (fun _ => rfl) (fun _ => rfl) (by decide) ?_
  refine r_aload_n E dX64_into_25 rfl 0 rfl ?_
  refine r_iconst E dX64_into_26 (zkI (by decide) (by decide)) ?_
  refine r_put E zc_66 zt_6519 zo_6519 dX64_into_27 q1649 zr_66 zw_X64 zp_6519 (znb (by decide)) (zfb (by decide)) (by decide) ?_
  refine r_aload_n E dX64_into_30 rfl 0 rfl ?_
  refine r_callV E [] [] rfl zc_66 zr_66 (fun o _ => ⟨_, zw_X64.1 o, rfl⟩) (lw_V q2788 q2790 qs35 q291 q2791) dX64_into_31 zy_X64_goOver rfl (by omega) (by decide) (Nat.le_of_ble_eq_true rfl) (by decide) (fun l G => k_fX64_goOver l G) (fun _ => ?_)
  refine r_aload_n E dX64_into_34 rfl 0 rfl ?_
  refine r_iconst E dX64_into_35 (zkI (by decide) (by decide)) ?_
  refine r_put E zc_66 zt_6519 zo_6519 dX64_into_36 q1649 zr_66 zw_X64 zp_6519 (znb (by decide)) (zfb (by decide)) (by decide) ?_
  refine r_aload_n E dX64_into_39 rfl 0 rfl ?_
  refine r_get E zc_66 zt_6508 dX64_into_40 q1637 zr_66 (zg_6508 _) (by decide) (fun v2 => ?_)
  refine r_if_ne E 50 (by decide) dX64_into_43 (fun _ => ?_) (fun _ => ?_)
  · exact w_fX64_into_J50 E hN hT x1
  · refine r_aload_n E dX64_into_46 rfl 0 rfl ?_
    refine r_callV E [] [] rfl zc_66 zr_66 (fun o _ => ⟨_, zw_X64.1 o, rfl⟩) (lw_V q2788 q2790 qs35 q291 q2791) dX64_into_47 zy_X64_goOver rfl (by omega) (by decide) (Nat.le_of_ble_eq_true rfl) (by decide) (fun l G => k_fX64_goOver l G) (fun _ => ?_)
    exact w_fX64_into_J50 E hN hT x1
theorem k_fX64_into (l : Launch) (G : zG) (x1 : Int) : zCt l G yX64_into cX64_into 3 (some .int) 12 [(66, 0), (6, x1)] (some 0) (fX64_into x1) := zCt.of (by decide) (Nat.le_of_ble_eq_true rfl) (fun K E _ _ hN hT => w_fX64_into E hN hT x1)
theorem dX0_assemble_0 : decode cX0_assemble 0 = .ok (.aload_n 0, 1) := by decide +kernel
theorem dX0_assemble_1 : decode cX0_assemble 1 = .ok (.getfield 42, 3) := by decide +kernel
theorem dX0_assemble_4 : decode cX0_assemble 4 = .ok (.iload_n 1, 1) := by decide +kernel
theorem dX0_assemble_5 : decode cX0_assemble 5 = .ok (.invokevirtual 191, 3) := by decide +kernel
theorem dX0_assemble_8 : decode cX0_assemble 8 = .ok (.astore_n 2, 1) := by decide +kernel
theorem dX0_assemble_9 : decode cX0_assemble 9 = .ok (.aload_n 2, 1) := by decide +kernel
theorem dX0_assemble_10 : decode cX0_assemble 10 = .ok (.ifnonnull 6, 3) := by decide +kernel
theorem dX0_assemble_13 : decode cX0_assemble 13 = .ok (.bipush (-8), 2) := by decide +kernel
theorem dX0_assemble_15 : decode cX0_assemble 15 = .ok (.ireturn, 1) := by decide +kernel
theorem dX0_assemble_16 : decode cX0_assemble 16 = .ok (.aload_n 0, 1) := by decide +kernel
theorem dX0_assemble_17 : decode cX0_assemble 17 = .ok (.getfield 89, 3) := by decide +kernel
theorem dX0_assemble_20 : decode cX0_assemble 20 = .ok (.aload_n 2, 1) := by decide +kernel
theorem dX0_assemble_21 : decode cX0_assemble 21 = .ok (.invokevirtual 456, 3) := by decide +kernel
theorem dX0_assemble_24 : decode cX0_assemble 24 = .ok (.istore_n 3, 1) := by decide +kernel
theorem dX0_assemble_25 : decode cX0_assemble 25 = .ok (.aload_n 0, 1) := by decide +kernel
theorem dX0_assemble_26 : decode cX0_assemble 26 = .ok (.aload_n 0, 1) := by decide +kernel
theorem dX0_assemble_27 : decode cX0_assemble 27 = .ok (.getfield 89, 3) := by decide +kernel
theorem dX0_assemble_30 : decode cX0_assemble 30 = .ok (.getfield 459, 3) := by decide +kernel
theorem dX0_assemble_33 : decode cX0_assemble 33 = .ok (.putfield 63, 3) := by decide +kernel
theorem dX0_assemble_36 : decode cX0_assemble 36 = .ok (.iload_n 3, 1) := by decide +kernel
theorem dX0_assemble_37 : decode cX0_assemble 37 = .ok (.ireturn, 1) := by decide +kernel
theorem zy_X0_assemble : yX0_assemble.cls ≠ "java/lang/invoke/MethodHandle" ∧ yX0_assemble.cls ≠ "java/lang/invoke/VarHandle" ∧ (parseMethodDescriptor yX0_assemble.desc).map (fun d => d.parameters.length) = some 1 := by decide +kernel
theorem w_fX0_assemble {K : zK} (E : zE K cX0_assemble "RingHouse" (some .int) 13) (hN : zNl K = 4) (hT : zTr K = (some 0)) (x1 : Int) : zR K 0 [(0, 2, 0), (1, 0, x1)] [] (fX0_assemble x1) := by
  refine r_aload_n E dX0_assemble_0 rfl 0 rfl ?_
  refine r_gec (y := 0) E zc_2 dX0_assemble_1 q1790 zr_2 (zh_100 (by decide)) (by decide) ?_
  refine r_iload_n E dX0_assemble_4 rfl 1 rfl ?_
  refine r_callV E [(0, x1)] [] rfl zc_3 zr_3 (fun o _ => ⟨_, zw_X1.1 o, rfl⟩) (lw_V q1998 q1999 q2000 q228 q2001) dX0_assemble_5 zy_X1_segment rfl (by omega) (by decide) (Nat.le_of_ble_eq_true rfl) (by decide) (fun l G => k_fX1_segment l G x1) (fun v1 => ?_)
  refine r_astore_n (ls' := [(2, 6, v1), (0, 2, 0), (1, 0, x1)]) E dX0_assemble_8 rfl (by rw [hN]; decide) rfl ?_
  refine r_aload_n E dX0_assemble_9 rfl 0 rfl ?_
  refine r_ifnonnull E 16 (by decide) dX0_assemble_10 (fun _ => ?_) (fun hz2 => ?_)
  · refine r_bipush E dX0_assemble_13 (by decide) (zkI (by decide) (by decide)) ?_
    exact r_ireturn E rfl hT dX0_assemble_15
  · refine r_aload_n E dX0_assemble_16 rfl 1 rfl ?_
    refine r_gec (y := 0) E zc_2 dX0_assemble_17 q1793 zr_2 (zh_103 (by decide)) (by decide) ?_
    refine r_aload_n E dX0_assemble_20 rfl 0 rfl ?_
    refine r_callV E [(6, v1)] [] rfl zc_66 zr_66 (fun o _ => ⟨_, zw_X64.1 o, rfl⟩) (lw_V q2784 q2785 q2786 q291 q2787) dX0_assemble_21 zy_X64_into rfl (by omega) (by decide) (Nat.le_of_ble_eq_true rfl) (by decide) (fun l G => k_fX64_into l G v1) (fun v3 => ?_)
    refine r_istore_n (ls' := [(3, 0, v3), (2, 6, v1), (0, 2, 0), (1, 0, x1)]) E dX0_assemble_24 rfl (by rw [hN]; decide) rfl ?_
    refine r_aload_n E dX0_assemble_25 rfl 2 rfl ?_
    refine r_aload_n E dX0_assemble_26 rfl 2 rfl ?_
    refine r_gec (y := 0) E zc_2 dX0_assemble_27 q1793 zr_2 (zh_103 (by decide)) (by decide) ?_
    refine r_getN E zc_66 zt_6509 dX0_assemble_30 q1639 zr_66 (zg_6509 _) (by decide) (fun v4 => ?_)
    refine r_put E zc_2 zt_109 zo_109 dX0_assemble_33 q1799 zr_2 zw_X0 zp_109 (fun _ => rfl) (fun _ => rfl) (by decide) ?_
    refine r_iload_n E dX0_assemble_36 rfl 0 rfl ?_
    exact r_ireturn E rfl hT dX0_assemble_37
theorem k_fX0_assemble (l : Launch) (G : zG) (x1 : Int) : zCt l G yX0_assemble cX0_assemble 4 (some .int) 13 [(2, 0), (0, x1)] (some 0) (fX0_assemble x1) := zCt.of (by decide) (Nat.le_of_ble_eq_true rfl) (fun K E _ _ hN hT => w_fX0_assemble E hN hT x1)
theorem dX0_place_0 : decode cX0_place 0 = .ok (.aload_n 0, 1) := by decide +kernel
theorem dX0_place_1 : decode cX0_place 1 = .ok (.getfield 63, 3) := by decide +kernel
theorem dX0_place_4 : decode cX0_place 4 = .ok (.ireturn, 1) := by decide +kernel
theorem zy_X0_place : yX0_place.cls ≠ "java/lang/invoke/MethodHandle" ∧ yX0_place.cls ≠ "java/lang/invoke/VarHandle" ∧ (parseMethodDescriptor yX0_place.desc).map (fun d => d.parameters.length) = some 0 := by decide +kernel
theorem w_fX0_place {K : zK} (E : zE K cX0_place "RingHouse" (some .int) 0) (hN : zNl K = 1) (hT : zTr K = (some 0)) : zR K 0 [(0, 2, 0)] [] (fX0_place) := by
  refine r_aload_n E dX0_place_0 rfl 0 rfl ?_
  refine r_get E zc_2 zt_109 dX0_place_1 q1799 zr_2 (zg_109 _) (by decide) (fun v1 => ?_)
  exact r_ireturn E rfl hT dX0_place_4
theorem k_fX0_place (l : Launch) (G : zG) : zCt l G yX0_place cX0_place 1 (some .int) 0 [(2, 0)] (some 0) (fX0_place) := zCt.of (by decide) (Nat.le_of_ble_eq_true rfl) (fun K E _ _ hN hT => w_fX0_place E hN hT)
theorem dX66_put_2_0 : decode cX66_put_2 0 = .ok (.aload_n 0, 1) := by decide +kernel
theorem dX66_put_2_1 : decode cX66_put_2 1 = .ok (.getfield 9, 3) := by decide +kernel
theorem dX66_put_2_4 : decode cX66_put_2 4 = .ok (.aload_n 0, 1) := by decide +kernel
theorem dX66_put_2_5 : decode cX66_put_2 5 = .ok (.getfield 19, 3) := by decide +kernel
theorem dX66_put_2_8 : decode cX66_put_2 8 = .ok (.iload_n 1, 1) := by decide +kernel
theorem dX66_put_2_9 : decode cX66_put_2 9 = .ok (.castore, 1) := by decide +kernel
theorem dX66_put_2_10 : decode cX66_put_2 10 = .ok (.aload_n 0, 1) := by decide +kernel
theorem dX66_put_2_11 : decode cX66_put_2 11 = .ok (.dup, 1) := by decide +kernel
theorem dX66_put_2_12 : decode cX66_put_2 12 = .ok (.getfield 19, 3) := by decide +kernel
theorem dX66_put_2_15 : decode cX66_put_2 15 = .ok (.iconst 1, 1) := by decide +kernel
theorem dX66_put_2_16 : decode cX66_put_2 16 = .ok (.iadd, 1) := by decide +kernel
theorem dX66_put_2_17 : decode cX66_put_2 17 = .ok (.putfield 19, 3) := by decide +kernel
theorem dX66_put_2_20 : decode cX66_put_2 20 = .ok (.return_, 1) := by decide +kernel
theorem zy_X66_put_2 : yX66_put_2.cls ≠ "java/lang/invoke/MethodHandle" ∧ yX66_put_2.cls ≠ "java/lang/invoke/VarHandle" ∧ (parseMethodDescriptor yX66_put_2.desc).map (fun d => d.parameters.length) = some 1 := by decide +kernel
theorem w_fX66_put_2 {K : zK} (E : zE K cX66_put_2 "RingHouse$Lister" none 0) (hN : zNl K = 2) (hT : zTr K = none) (x1 : Int) : zR K 0 [(0, 68, 0), (1, 0, x1)] [] (fX66_put_2 x1) := by
  refine r_aload_n E dX66_put_2_0 rfl 0 rfl ?_
  refine r_gec (y := 0) E zc_68 dX66_put_2_1 q1778 zr_68 (zh_6701 (by decide)) (by decide) ?_
  refine r_aload_n E dX66_put_2_4 rfl 0 rfl ?_
  refine r_get E zc_68 zt_6702 dX66_put_2_5 q1780 zr_68 (zg_6702 _) (by decide) (fun v1 => ?_)
  refine r_iload_n E dX66_put_2_8 rfl 1 rfl ?_
  refine r_castore E zc_6701 za_6701 zt_6701 zo_6701 zx_6701 rfl rfl dX66_put_2_9 (by decide) ?_
  refine r_aload_n E dX66_put_2_10 rfl 0 rfl ?_
  refine r_dup E (zn1 rfl) dX66_put_2_11 ?_
  refine r_get E zc_68 zt_6702 dX66_put_2_12 q1780 zr_68 (zg_6702 _) (by decide) (fun v2 => ?_)
  refine r_iconst E dX66_put_2_15 (zkI (by decide) (by decide)) ?_
  refine r_iadd E dX66_put_2_16 ?_
  refine r_put E zc_68 zt_6702 zo_6702 dX66_put_2_17 q1780 zr_68 zw_X66 zp_6702 (fun _ => rfl) (fun _ => rfl) (by decide) ?_
  exact r_return E rfl hT dX66_put_2_20
theorem k_fX66_put_2 (l : Launch) (G : zG) (x1 : Int) : zCt l G yX66_put_2 cX66_put_2 2 none 0 [(68, 0), (0, x1)] none (fX66_put_2 x1) := zCt.of (by decide) (Nat.le_of_ble_eq_true rfl) (fun K E _ _ hN hT => w_fX66_put_2 E hN hT x1)
theorem dX66_put_0 : decode cX66_put 0 = .ok (.iconst 0, 1) := by decide +kernel
theorem dX66_put_1 : decode cX66_put 1 = .ok (.istore_n 2, 1) := by decide +kernel
theorem dX66_put_2 : decode cX66_put 2 = .ok (.iload_n 2, 1) := by decide +kernel
theorem dX66_put_3 : decode cX66_put 3 = .ok (.aload_n 1, 1) := by decide +kernel
theorem dX66_put_4 : decode cX66_put 4 = .ok (.invokevirtual 23, 3) := by decide +kernel
theorem dX66_put_7 : decode cX66_put 7 = .ok (.if_icmp .ge 18, 3) := by decide +kernel
theorem dX66_put_10 : decode cX66_put 10 = .ok (.aload_n 0, 1) := by decide +kernel
theorem dX66_put_11 : decode cX66_put 11 = .ok (.aload_n 1, 1) := by decide +kernel
theorem dX66_put_12 : decode cX66_put 12 = .ok (.iload_n 2, 1) := by decide +kernel
theorem dX66_put_13 : decode cX66_put 13 = .ok (.invokevirtual 29, 3) := by decide +kernel
theorem dX66_put_16 : decode cX66_put 16 = .ok (.invokevirtual 33, 3) := by decide +kernel
theorem dX66_put_19 : decode cX66_put 19 = .ok (.iinc 2 1, 3) := by decide +kernel
theorem dX66_put_22 : decode cX66_put 22 = .ok (.goto (-20), 3) := by decide +kernel
theorem dX66_put_25 : decode cX66_put 25 = .ok (.return_, 1) := by decide +kernel
theorem zy_X66_put : yX66_put.cls ≠ "java/lang/invoke/MethodHandle" ∧ yX66_put.cls ≠ "java/lang/invoke/VarHandle" ∧ (parseMethodDescriptor yX66_put.desc).map (fun d => d.parameters.length) = some 1 := by decide +kernel
theorem w_fX66_put_B2 {K : zK} (E : zE K cX66_put "RingHouse$Lister" none 8) (hN : zNl K = 3) (hT : zTr K = none) (x1 : Int) : ∀ r2 : Int → zX, (∀ s : Int, zR K 2 [(0, 68, 0), (1, 70, x1), (2, 0, s)] [] (r2 s)) → ∀ s : Int, zR K 2 [(0, 68, 0), (1, 70, x1), (2, 0, s)] [] (fX66_put_B2 x1 r2 s) := by
  intro r2 hr2 x2
  refine r_iload_n E dX66_put_2 rfl 2 rfl ?_
  refine r_aload_n E dX66_put_3 rfl 1 rfl ?_
  refine r_nn E (fun hn2 => ?_)
  refine r_slen E q3009 dX66_put_4 hn2 (Nat.le_of_ble_eq_true rfl) (by omega) ?_
  refine r_icmp_ge E 25 (by decide) dX66_put_7 (fun _ => ?_) (fun _ => ?_)
  · exact r_return E rfl hT dX66_put_25
  · refine r_aload_n E dX66_put_10 rfl 0 rfl ?_
    refine r_aload_n E dX66_put_11 rfl 1 rfl ?_
    refine r_iload_n E dX66_put_12 rfl 2 rfl ?_
    refine r_scha E q3010 dX66_put_13 hn2 (Nat.le_of_ble_eq_true rfl) (by omega) (fun v3 => ?_)
    refine r_callV E [(0, v3)] [] rfl zc_68 zr_68 (fun o _ => ⟨_, zw_X66.1 o, rfl⟩) (lw_V q3011 q3013 qs69 q293 q3014) dX66_put_16 zy_X66_put_2 rfl (by omega) (by decide) (Nat.le_of_ble_eq_true rfl) (by decide) (fun l G => k_fX66_put_2 l G v3) (fun _ => ?_)
    refine r_iinc (ls' := fun v5 => [(2, 0, v5), (0, 68, 0), (1, 70, x1)]) E 2 rfl (by rw [hN]; decide) (fun _ => rfl) dX66_put_19 (fun v5 _ => ?_)
    refine r_goto E 2 (by decide) dX66_put_22 ?_
    refine r_pick E [1, 2, 0] rfl ?_
    exact hr2 v5
theorem w_fX66_put {K : zK} (E : zE K cX66_put "RingHouse$Lister" none 8) (hN : zNl K = 3) (hT : zTr K = none) (x1 : Int) : zR K 0 [(0, 68, 0), (1, 70, x1)] [] (fX66_put x1) := by
  refine r_iconst E dX66_put_0 (zkI (by decide) (by decide)) ?_
  refine r_istore_n (ls' := [(2, 0, 0), (0, 68, 0), (1, 70, x1)]) E dX66_put_1 rfl (by rw [hN]; decide) rfl ?_
  refine r_pick E [1, 2, 0] rfl ?_
  exact r_loop (L := fun s => [(0, 68, 0), (1, 70, x1), (2, 0, s)]) (w_fX66_put_B2 E hN hT x1) zBIG 0
theorem k_fX66_put (l : Launch) (G : zG) (x1 : Int) : zCt l G yX66_put cX66_put 3 none 8 [(68, 0), (70, x1)] none (fX66_put x1) := zCt.of (by decide) (Nat.le_of_ble_eq_true rfl) (fun K E _ _ hN hT => w_fX66_put E hN hT x1)
theorem dX66_put_3_0 : decode cX66_put_3 0 = .ok (.lconst 1, 1) := by decide +kernel
theorem dX66_put_3_1 : decode cX66_put_3 1 = .ok (.lstore_n 3, 1) := by decide +kernel
theorem dX66_put_3_2 : decode cX66_put_3 2 = .ok (.lload_n 1, 1) := by decide +kernel
theorem dX66_put_3_3 : decode cX66_put_3 3 = .ok (.lload_n 3, 1) := by decide +kernel
theorem dX66_put_3_4 : decode cX66_put_3 4 = .ok (.ldiv, 1) := by decide +kernel
theorem dX66_put_3_5 : decode cX66_put_3 5 = .ok (.ldc2_w 37, 3) := by decide +kernel
theorem dX66_put_3_8 : decode cX66_put_3 8 = .ok (.lcmp, 1) := by decide +kernel
theorem dX66_put_3_9 : decode cX66_put_3 9 = .ok (.ifCond .le 12, 3) := by decide +kernel
theorem dX66_put_3_12 : decode cX66_put_3 12 = .ok (.lload_n 3, 1) := by decide +kernel
theorem dX66_put_3_13 : decode cX66_put_3 13 = .ok (.ldc2_w 39, 3) := by decide +kernel
theorem dX66_put_3_16 : decode cX66_put_3 16 = .ok (.lmul, 1) := by decide +kernel
theorem dX66_put_3_17 : decode cX66_put_3 17 = .ok (.lstore_n 3, 1) := by decide +kernel
theorem dX66_put_3_18 : decode cX66_put_3 18 = .ok (.goto (-16), 3) := by decide +kernel
theorem dX66_put_3_21 : decode cX66_put_3 21 = .ok (.lload_n 3, 1) := by decide +kernel
theorem dX66_put_3_22 : decode cX66_put_3 22 = .ok (.lconst 0, 1) := by decide +kernel
theorem dX66_put_3_23 : decode cX66_put_3 23 = .ok (.lcmp, 1) := by decide +kernel
theorem dX66_put_3_24 : decode cX66_put_3 24 = .ok (.ifCond .le 29, 3) := by decide +kernel
theorem dX66_put_3_27 : decode cX66_put_3 27 = .ok (.aload_n 0, 1) := by decide +kernel
theorem dX66_put_3_28 : decode cX66_put_3 28 = .ok (.ldc2_w 41, 3) := by decide +kernel
theorem dX66_put_3_31 : decode cX66_put_3 31 = .ok (.lload_n 1, 1) := by decide +kernel
theorem dX66_put_3_32 : decode cX66_put_3 32 = .ok (.lload_n 3, 1) := by decide +kernel
theorem dX66_put_3_33 : decode cX66_put_3 33 = .ok (.ldiv, 1) := by decide +kernel
theorem dX66_put_3_34 : decode cX66_put_3 34 = .ok (.ldc2_w 39, 3) := by decide +kernel
theorem dX66_put_3_37 : decode cX66_put_3 37 = .ok (.lrem, 1) := by decide +kernel
theorem dX66_put_3_38 : decode cX66_put_3 38 = .ok (.ladd, 1) := by decide +kernel
theorem dX66_put_3_39 : decode cX66_put_3 39 = .ok (.l2i, 1) := by decide +kernel
theorem dX66_put_3_40 : decode cX66_put_3 40 = .ok (.i2c, 1) := by decide +kernel
theorem dX66_put_3_41 : decode cX66_put_3 41 = .ok (.invokevirtual 33, 3) := by decide +kernel
theorem dX66_put_3_44 : decode cX66_put_3 44 = .ok (.lload_n 3, 1) := by decide +kernel
theorem dX66_put_3_45 : decode cX66_put_3 45 = .ok (.ldc2_w 39, 3) := by decide +kernel
theorem dX66_put_3_48 : decode cX66_put_3 48 = .ok (.ldiv, 1) := by decide +kernel
theorem dX66_put_3_49 : decode cX66_put_3 49 = .ok (.lstore_n 3, 1) := by decide +kernel
theorem dX66_put_3_50 : decode cX66_put_3 50 = .ok (.goto (-29), 3) := by decide +kernel
theorem dX66_put_3_53 : decode cX66_put_3 53 = .ok (.return_, 1) := by decide +kernel
theorem zy_X66_put_3 : yX66_put_3.cls ≠ "java/lang/invoke/MethodHandle" ∧ yX66_put_3.cls ≠ "java/lang/invoke/VarHandle" ∧ (parseMethodDescriptor yX66_put_3.desc).map (fun d => d.parameters.length) = some 1 := by decide +kernel
theorem w_fX66_put_3_B21 {K : zK} (E : zE K cX66_put_3 "RingHouse$Lister" none 1) (hN : zNl K = 5) (hT : zTr K = none) (x1 : Int) : ∀ r21 : Int → zX, (∀ s : Int, zR K 21 [(0, 68, 0), (1, 1, x1), (3, 1, s)] [] (r21 s)) → ∀ s : Int, zR K 21 [(0, 68, 0), (1, 1, x1), (3, 1, s)] [] (fX66_put_3_B21 x1 r21 s) := by
  intro r21 hr21 x3
  refine r_lload_n E dX66_put_3_21 rfl 2 rfl ?_
  refine r_lconst (v := 0) E dX66_put_3_22 (by decide) (zkJ (by decide) (by decide)) ?_
  refine r_lcmp_le E 53 (by decide) dX66_put_3_23 dX66_put_3_24 (fun _ => ?_) (fun _ => ?_)
  · exact r_return E rfl hT dX66_put_3_53
  · refine r_aload_n E dX66_put_3_27 rfl 0 rfl ?_
    refine r_ldc2 (v := 48) E dX66_put_3_28 q3021 (by decide) (zkJ (by decide) (by decide)) ?_
    refine r_lload_n E dX66_put_3_31 rfl 1 rfl ?_
    refine r_lload_n E dX66_put_3_32 rfl 2 rfl ?_
    refine r_ne E (fun hq2 => ?_)
    refine r_ldiv E hq2 dX66_put_3_33 ?_
    refine r_ldc2 (v := 10) E dX66_put_3_34 q3020 (by decide) (zkJ (by decide) (by decide)) ?_
    refine r_lrem E (by decide) dX66_put_3_37 ?_
    refine r_ladd E dX66_put_3_38 ?_
    refine r_l2i E dX66_put_3_39 ?_
    refine r_i2c E dX66_put_3_40 ?_
    refine r_callV E [(0, ((zi (zl (48 + (Int.tmod (zl (Int.tdiv x1 x3)) 10)))) % 65536))] [] rfl zc_68 zr_68 (fun o _ => ⟨_, zw_X66.1 o, rfl⟩) (lw_V q3011 q3013 qs69 q293 q3014) dX66_put_3_41 zy_X66_put_2 rfl (by omega) (by decide) (Nat.le_of_ble_eq_true rfl) (by decide) (fun l G => k_fX66_put_2 l G ((zi (zl (48 + (Int.tmod (zl (Int.tdiv x1 x3)) 10)))) % 65536)) (fun _ => ?_)
    refine r_lload_n E dX66_put_3_44 rfl 2 rfl ?_
    refine r_ldc2 (v := 10) E dX66_put_3_45 q3020 (by decide) (zkJ (by decide) (by decide)) ?_
    refine r_ldiv E (by decide) dX66_put_3_48 ?_
    refine r_let E (fun v4 ev4 => ?_)
    refine r_lstore_n (ls' := [(3, 1, v4), (0, 68, 0), (1, 1, x1)]) E dX66_put_3_49 rfl (by rw [hN]; decide) rfl ?_
    refine r_goto E 21 (by decide) dX66_put_3_50 ?_
    refine r_pick E [1, 2, 0] rfl ?_
    exact hr21 v4
theorem w_fX66_put_3_B2 {K : zK} (E : zE K cX66_put_3 "RingHouse$Lister" none 1) (hN : zNl K = 5) (hT : zTr K = none) (x1 : Int) : ∀ r2 : Int → zX, (∀ s : Int, zR K 2 [(0, 68, 0), (1, 1, x1), (3, 1, s)] [] (r2 s)) → ∀ s : Int, zR K 2 [(0, 68, 0), (1, 1, x1), (3, 1, s)] [] (fX66_put_3_B2 x1 r2 s) := by
  intro r2 hr2 x3
  refine r_lload_n E dX66_put_3_2 rfl 1 rfl ?_
  refine r_lload_n E dX66_put_3_3 rfl 2 rfl ?_
  refine r_ne E (fun hq1 => ?_)
  refine r_ldiv E hq1 dX66_put_3_4 ?_
  refine r_ldc2 (v := 9) E dX66_put_3_5 q3019 (by decide) (zkJ (by decide) (by decide)) ?_
  refine r_lcmp_le E 21 (by decide) dX66_put_3_8 dX66_put_3_9 (fun _ => ?_) (fun _ => ?_)
  · exact r_loop (L := fun s => [(0, 68, 0), (1, 1, x1), (3, 1, s)]) (w_fX66_put_3_B21 E hN hT x1) zBIG x3
  · refine r_lload_n E dX66_put_3_12 rfl 2 rfl ?_
    refine r_ldc2 (v := 10) E dX66_put_3_13 q3020 (by decide) (zkJ (by decide) (by decide)) ?_
    refine r_lmul E dX66_put_3_16 ?_
    refine r_let E (fun v5 ev5 => ?_)
    refine r_lstore_n (ls' := [(3, 1, v5), (0, 68, 0), (1, 1, x1)]) E dX66_put_3_17 rfl (by rw [hN]; decide) rfl ?_
    refine r_goto E 2 (by decide) dX66_put_3_18 ?_
    refine r_pick E [1, 2, 0] rfl ?_
    exact hr2 v5
theorem w_fX66_put_3 {K : zK} (E : zE K cX66_put_3 "RingHouse$Lister" none 1) (hN : zNl K = 5) (hT : zTr K = none) (x1 : Int) : zR K 0 [(0, 68, 0), (1, 1, x1)] [] (fX66_put_3 x1) := by
  refine r_lconst (v := 1) E dX66_put_3_0 (by decide) (zkJ (by decide) (by decide)) ?_
  refine r_lstore_n (ls' := [(3, 1, 1), (0, 68, 0), (1, 1, x1)]) E dX66_put_3_1 rfl (by rw [hN]; decide) rfl ?_
  refine r_pick E [1, 2, 0] rfl ?_
  exact r_loop (L := fun s => [(0, 68, 0), (1, 1, x1), (3, 1, s)]) (w_fX66_put_3_B2 E hN hT x1) zBIG 1
theorem k_fX66_put_3 (l : Launch) (G : zG) (x1 : Int) : zCt l G yX66_put_3 cX66_put_3 5 none 1 [(68, 0), (1, x1)] none (fX66_put_3 x1) := zCt.of (by decide) (Nat.le_of_ble_eq_true rfl) (fun K E _ _ hN hT => w_fX66_put_3 E hN hT x1)
theorem dX66_isPlain_0 : decode cX66_isPlain 0 = .ok (.aload_n 1, 1) := by decide +kernel
theorem dX66_isPlain_1 : decode cX66_isPlain 1 = .ok (.getfield 43, 3) := by decide +kernel
theorem dX66_isPlain_4 : decode cX66_isPlain 4 = .ok (.ifCond .ne 19, 3) := by decide +kernel
theorem dX66_isPlain_7 : decode cX66_isPlain 7 = .ok (.lload_n 2, 1) := by decide +kernel
theorem dX66_isPlain_8 : decode cX66_isPlain 8 = .ok (.ldc2_w 48, 3) := by decide +kernel
theorem dX66_isPlain_11 : decode cX66_isPlain 11 = .ok (.land, 1) := by decide +kernel
theorem dX66_isPlain_12 : decode cX66_isPlain 12 = .ok (.lconst 0, 1) := by decide +kernel
theorem dX66_isPlain_13 : decode cX66_isPlain 13 = .ok (.lcmp, 1) := by decide +kernel
theorem dX66_isPlain_14 : decode cX66_isPlain 14 = .ok (.ifCond .ne 7, 3) := by decide +kernel
theorem dX66_isPlain_17 : decode cX66_isPlain 17 = .ok (.iconst 1, 1) := by decide +kernel
theorem dX66_isPlain_18 : decode cX66_isPlain 18 = .ok (.goto 4, 3) := by decide +kernel
theorem dX66_isPlain_21 : decode cX66_isPlain 21 = .ok (.iconst 0, 1) := by decide +kernel
theorem dX66_isPlain_22 : decode cX66_isPlain 22 = .ok (.ireturn, 1) := by decide +kernel
theorem dX66_isPlain_23 : decode cX66_isPlain 23 = .ok (.aload_n 0, 1) := by decide +kernel
theorem dX66_isPlain_24 : decode cX66_isPlain 24 = .ok (.getfield 50, 3) := by decide +kernel
theorem dX66_isPlain_27 : decode cX66_isPlain 27 = .ok (.iconst 1, 1) := by decide +kernel
theorem dX66_isPlain_28 : decode cX66_isPlain 28 = .ok (.if_icmp .eq 11, 3) := by decide +kernel
theorem dX66_isPlain_31 : decode cX66_isPlain 31 = .ok (.aload_n 0, 1) := by decide +kernel
theorem dX66_isPlain_32 : decode cX66_isPlain 32 = .ok (.getfield 50, 3) := by decide +kernel
theorem dX66_isPlain_35 : decode cX66_isPlain 35 = .ok (.iconst 5, 1) := by decide +kernel
theorem dX66_isPlain_36 : decode cX66_isPlain 36 = .ok (.if_icmp .ne 7, 3) := by decide +kernel
theorem dX66_isPlain_39 : decode cX66_isPlain 39 = .ok (.iconst 1, 1) := by decide +kernel
theorem dX66_isPlain_40 : decode cX66_isPlain 40 = .ok (.goto 4, 3) := by decide +kernel
theorem dX66_isPlain_43 : decode cX66_isPlain 43 = .ok (.iconst 0, 1) := by decide +kernel
theorem dX66_isPlain_44 : decode cX66_isPlain 44 = .ok (.istore 4, 2) := by decide +kernel
theorem dX66_isPlain_46 : decode cX66_isPlain 46 = .ok (.aload_n 1, 1) := by decide +kernel
theorem dX66_isPlain_47 : decode cX66_isPlain 47 = .ok (.getfield 55, 3) := by decide +kernel
theorem dX66_isPlain_50 : decode cX66_isPlain 50 = .ok (.ifCond .ne 18, 3) := by decide +kernel
theorem dX66_isPlain_53 : decode cX66_isPlain 53 = .ok (.aload_n 0, 1) := by decide +kernel
theorem dX66_isPlain_54 : decode cX66_isPlain 54 = .ok (.getfield 58, 3) := by decide +kernel
theorem dX66_isPlain_57 : decode cX66_isPlain 57 = .ok (.ifCond .ne 7, 3) := by decide +kernel
theorem dX66_isPlain_60 : decode cX66_isPlain 60 = .ok (.iconst 1, 1) := by decide +kernel
theorem dX66_isPlain_61 : decode cX66_isPlain 61 = .ok (.goto 23, 3) := by decide +kernel
theorem dX66_isPlain_64 : decode cX66_isPlain 64 = .ok (.iconst 0, 1) := by decide +kernel
theorem dX66_isPlain_65 : decode cX66_isPlain 65 = .ok (.goto 19, 3) := by decide +kernel
theorem dX66_isPlain_68 : decode cX66_isPlain 68 = .ok (.aload_n 0, 1) := by decide +kernel
theorem dX66_isPlain_69 : decode cX66_isPlain 69 = .ok (.getfield 58, 3) := by decide +kernel
theorem dX66_isPlain_72 : decode cX66_isPlain 72 = .ok (.aload_n 1, 1) := by decide +kernel
theorem dX66_isPlain_73 : decode cX66_isPlain 73 = .ok (.getfield 55, 3) := by decide +kernel
theorem dX66_isPlain_76 : decode cX66_isPlain 76 = .ok (.if_icmp .ge 7, 3) := by decide +kernel
theorem dX66_isPlain_79 : decode cX66_isPlain 79 = .ok (.iconst 1, 1) := by decide +kernel
theorem dX66_isPlain_80 : decode cX66_isPlain 80 = .ok (.goto 4, 3) := by decide +kernel
theorem dX66_isPlain_83 : decode cX66_isPlain 83 = .ok (.iconst 0, 1) := by decide +kernel
theorem dX66_isPlain_84 : decode cX66_isPlain 84 = .ok (.istore 5, 2) := by decide +kernel
theorem dX66_isPlain_86 : decode cX66_isPlain 86 = .ok (.aload_n 0, 1) := by decide +kernel
theorem dX66_isPlain_87 : decode cX66_isPlain 87 = .ok (.getfield 50, 3) := by decide +kernel
theorem dX66_isPlain_90 : decode cX66_isPlain 90 = .ok (.iconst 3, 1) := by decide +kernel
theorem dX66_isPlain_91 : decode cX66_isPlain 91 = .ok (.if_icmp .eq 41, 3) := by decide +kernel
theorem dX66_isPlain_94 : decode cX66_isPlain 94 = .ok (.aload_n 0, 1) := by decide +kernel
theorem dX66_isPlain_95 : decode cX66_isPlain 95 = .ok (.getfield 50, 3) := by decide +kernel
theorem dX66_isPlain_98 : decode cX66_isPlain 98 = .ok (.bipush 6, 2) := by decide +kernel
theorem dX66_isPlain_100 : decode cX66_isPlain 100 = .ok (.if_icmp .ge 32, 3) := by decide +kernel
theorem dX66_isPlain_103 : decode cX66_isPlain 103 = .ok (.aload_n 0, 1) := by decide +kernel
theorem dX66_isPlain_104 : decode cX66_isPlain 104 = .ok (.getfield 61, 3) := by decide +kernel
theorem dX66_isPlain_107 : decode cX66_isPlain 107 = .ok (.iconst 4, 1) := by decide +kernel
theorem dX66_isPlain_108 : decode cX66_isPlain 108 = .ok (.if_icmp .gt 24, 3) := by decide +kernel
theorem dX66_isPlain_111 : decode cX66_isPlain 111 = .ok (.iload 5, 2) := by decide +kernel
theorem dX66_isPlain_113 : decode cX66_isPlain 113 = .ok (.ifCond .eq 19, 3) := by decide +kernel
theorem dX66_isPlain_116 : decode cX66_isPlain 116 = .ok (.iload 4, 2) := by decide +kernel
theorem dX66_isPlain_118 : decode cX66_isPlain 118 = .ok (.ifCond .ne 10, 3) := by decide +kernel
theorem dX66_isPlain_121 : decode cX66_isPlain 121 = .ok (.aload_n 0, 1) := by decide +kernel
theorem dX66_isPlain_122 : decode cX66_isPlain 122 = .ok (.getfield 64, 3) := by decide +kernel
theorem dX66_isPlain_125 : decode cX66_isPlain 125 = .ok (.ifCond .ne 7, 3) := by decide +kernel
theorem dX66_isPlain_128 : decode cX66_isPlain 128 = .ok (.iconst 1, 1) := by decide +kernel
theorem dX66_isPlain_129 : decode cX66_isPlain 129 = .ok (.goto 4, 3) := by decide +kernel
theorem dX66_isPlain_132 : decode cX66_isPlain 132 = .ok (.iconst 0, 1) := by decide +kernel
theorem dX66_isPlain_133 : decode cX66_isPlain 133 = .ok (.ireturn, 1) := by decide +kernel
theorem zy_X66_isPlain : yX66_isPlain.cls ≠ "java/lang/invoke/MethodHandle" ∧ yX66_isPlain.cls ≠ "java/lang/invoke/VarHandle" ∧ (parseMethodDescriptor yX66_isPlain.desc).map (fun d => d.parameters.length) = some 3 := by decide +kernel
theorem w_fX66_isPlain_J84 {K : zK} (E : zE K cX66_isPlain "RingHouse$Lister" (some .boolean) 0) (hN : zNl K = 6) (hT : zTr K = (some 0)) (x0 : Int) (x4 : Int) (s0 : Int) : zR K 84 [(0, 9, x0), (4, 0, x4)] [(0, s0)] (fX66_isPlain_J84 x0 x4 s0) := by
  refine r_istore (ls' := [(5, 0, s0), (0, 9, x0), (4, 0, x4)]) E dX66_isPlain_84 (by rw [hN]; decide) rfl ?_
  refine r_aload_n E dX66_isPlain_86 rfl 1 rfl ?_
  refine r_nn E (fun hn7 => ?_)
  refine r_getN E zc_9 zt_802 dX66_isPlain_87 q642 zr_9 (zg_802 _) hn7 (fun v8 => ?_)
  refine r_iconst E dX66_isPlain_90 (zkI (by decide) (by decide)) ?_
  refine r_icmp_eq E 132 (by decide) dX66_isPlain_91 (fun _ => ?_) (fun _ => ?_)
  · refine r_iconst E dX66_isPlain_132 (zkI (by decide) (by decide)) ?_
    exact r_zreturn E rfl hT (by decide) dX66_isPlain_133
  · refine r_aload_n E dX66_isPlain_94 rfl 1 rfl ?_
    refine r_getN E zc_9 zt_802 dX66_isPlain_95 q642 zr_9 (zg_802 _) hn7 (fun v9 => ?_)
    refine r_bipush E dX66_isPlain_98 (by decide) (zkI (by decide) (by decide)) ?_
    refine r_icmp_ge E 132 (by decide) dX66_isPlain_100 (fun _ => ?_) (fun _ => ?_)
    · refine r_iconst E dX66_isPlain_132 (zkI (by decide) (by decide)) ?_
      exact r_zreturn E rfl hT (by decide) dX66_isPlain_133
    · refine r_aload_n E dX66_isPlain_103 rfl 1 rfl ?_
      refine r_getN E zc_9 zt_805 dX66_isPlain_104 q655 zr_9 (zg_805 _) hn7 (fun v10 => ?_)
      refine r_iconst E dX66_isPlain_107 (zkI (by decide) (by decide)) ?_
      refine r_icmp_gt E 132 (by decide) dX66_isPlain_108 (fun _ => ?_) (fun _ => ?_)
      · refine r_iconst E dX66_isPlain_132 (zkI (by decide) (by decide)) ?_
        exact r_zreturn E rfl hT (by decide) dX66_isPlain_133
      · refine r_iload E dX66_isPlain_111 0 rfl ?_
        refine r_if_eq E 132 (by decide) dX66_isPlain_113 (fun _ => ?_) (fun _ => ?_)
        · refine r_iconst E dX66_isPlain_132 (zkI (by decide) (by decide)) ?_
          exact r_zreturn E rfl hT (by decide) dX66_isPlain_133
        · refine r_iload E dX66_isPlain_116 2 rfl ?_
          refine r_if_ne E 128 (by decide) dX66_isPlain_118 (fun _ => ?_) (fun _ => ?_)
          · refine r_iconst E dX66_isPlain_128 (zkI (by decide) (by decide)) ?_
            refine r_goto E 133 (by decide) dX66_isPlain_129 ?_
            exact r_zreturn E rfl hT (by decide) dX66_isPlain_133
          · refine r_aload_n E dX66_isPlain_121 rfl 1 rfl ?_
            refine r_getN E zc_9 zt_803 dX66_isPlain_122 q645 zr_9 (zg_803 _) hn7 (fun v11 => ?_)
            refine r_if_ne E 132 (by decide) dX66_isPlain_125 (fun _ => ?_) (fun _ => ?_)
            · refine r_iconst E dX66_isPlain_132 (zkI (by decide) (by decide)) ?_
              exact r_zreturn E rfl hT (by decide) dX66_isPlain_133
            · refine r_iconst E dX66_isPlain_128 (zkI (by decide) (by decide)) ?_
              refine r_goto E 133 (by decide) dX66_isPlain_129 ?_
              exact r_zreturn E rfl hT (by decide) dX66_isPlain_133
theorem w_fX66_isPlain_J44 {K : zK} (E : zE K cX66_isPlain "RingHouse$Lister" (some .boolean) 0) (hN : zNl K = 6) (hT : zTr K = (some 0)) (x0 : Int) (x1 : Int) (s0 : Int) : zR K 44 [(0, 9, x0), (1, 16, x1)] [(0, s0)] (fX66_isPlain_J44 x0 x1 s0) := by
  refine r_istore (ls' := [(4, 0, s0), (0, 9, x0), (1, 16, x1)]) E dX66_isPlain_44 (by rw [hN]; decide) rfl ?_
  refine r_aload_n E dX66_isPlain_46 rfl 2 rfl ?_
  refine r_nn E (fun hn4 => ?_)
  refine r_gecN (y := (zregs x1)) E zc_16 dX66_isPlain_47 q1044 zr_16 (zhv_registers _) hn4 ?_
  refine r_if_ne E 68 (by decide) dX66_isPlain_50 (fun _ => ?_) (fun _ => ?_)
  · refine r_aload_n E dX66_isPlain_68 rfl 1 rfl ?_
    refine r_nn E (fun hn5 => ?_)
    refine r_getN E zc_9 zt_804 dX66_isPlain_69 q653 zr_9 (zg_804 _) hn5 (fun v6 => ?_)
    refine r_aload_n E dX66_isPlain_72 rfl 2 rfl ?_
    refine r_gecN (y := (zregs x1)) E zc_16 dX66_isPlain_73 q1044 zr_16 (zhv_registers _) hn4 ?_
    refine r_icmp_ge E 83 (by decide) dX66_isPlain_76 (fun _ => ?_) (fun _ => ?_)
    · refine r_iconst E dX66_isPlain_83 (zkI (by decide) (by decide)) ?_
      refine r_pick E [1, 0] rfl ?_
      exact w_fX66_isPlain_J84 E hN hT x0 s0 0
    · refine r_iconst E dX66_isPlain_79 (zkI (by decide) (by decide)) ?_
      refine r_goto E 84 (by decide) dX66_isPlain_80 ?_
      refine r_pick E [1, 0] rfl ?_
      exact w_fX66_isPlain_J84 E hN hT x0 s0 1
  · refine r_aload_n E dX66_isPlain_53 rfl 1 rfl ?_
    refine r_nn E (fun hn12 => ?_)
    refine r_getN E zc_9 zt_804 dX66_isPlain_54 q653 zr_9 (zg_804 _) hn12 (fun v13 => ?_)
    refine r_if_ne E 64 (by decide) dX66_isPlain_57 (fun _ => ?_) (fun _ => ?_)
    · refine r_iconst E dX66_isPlain_64 (zkI (by decide) (by decide)) ?_
      refine r_goto E 84 (by decide) dX66_isPlain_65 ?_
      refine r_pick E [1, 0] rfl ?_
      exact w_fX66_isPlain_J84 E hN hT x0 s0 0
    · refine r_iconst E dX66_isPlain_60 (zkI (by decide) (by decide)) ?_
      refine r_goto E 84 (by decide) dX66_isPlain_61 ?_
      refine r_pick E [1, 0] rfl ?_
      exact w_fX66_isPlain_J84 E hN hT x0 s0 1
theorem w_fX66_isPlain_J39 {K : zK} (E : zE K cX66_isPlain "RingHouse$Lister" (some .boolean) 0) (hN : zNl K = 6) (hT : zTr K = (some 0)) (x0 : Int) (x1 : Int) : zR K 39 [(0, 9, x0), (1, 16, x1)] [] (fX66_isPlain_J39 x0 x1) := by
  refine r_iconst E dX66_isPlain_39 (zkI (by decide) (by decide)) ?_
  refine r_goto E 44 (by decide) dX66_isPlain_40 ?_
  exact w_fX66_isPlain_J44 E hN hT x0 x1 1
theorem w_fX66_isPlain {K : zK} (E : zE K cX66_isPlain "RingHouse$Lister" (some .boolean) 0) (hN : zNl K = 6) (hT : zTr K = (some 0)) (x0 : Int) (x1 : Int) (x2 : Int) : zR K 0 [(0, 9, x0), (1, 16, x1), (2, 1, x2)] [] (fX66_isPlain x0 x1 x2) := by
  refine r_aload_n E dX66_isPlain_0 rfl 1 rfl ?_
  refine r_nn E (fun hn1 => ?_)
  refine r_gecN (y := (zsort x1)) E zc_16 dX66_isPlain_1 q1039 zr_16 (zhv_sort _) hn1 ?_
  refine r_if_ne E 23 (by decide) dX66_isPlain_4 (fun _ => ?_) (fun _ => ?_)
  · refine r_aload_n E dX66_isPlain_23 rfl 0 rfl ?_
    refine r_nn E (fun hn2 => ?_)
    refine r_getN E zc_9 zt_802 dX66_isPlain_24 q642 zr_9 (zg_802 _) hn2 (fun v3 => ?_)
    refine r_iconst E dX66_isPlain_27 (zkI (by decide) (by decide)) ?_
    refine r_icmp_eq E 39 (by decide) dX66_isPlain_28 (fun _ => ?_) (fun _ => ?_)
    · refine r_pick E [0, 1] rfl ?_
      exact w_fX66_isPlain_J39 E hN hT x0 x1
    · refine r_aload_n E dX66_isPlain_31 rfl 0 rfl ?_
      refine r_getN E zc_9 zt_802 dX66_isPlain_32 q642 zr_9 (zg_802 _) hn2 (fun v14 => ?_)
      refine r_iconst E dX66_isPlain_35 (zkI (by decide) (by decide)) ?_
      refine r_icmp_ne E 43 (by decide) dX66_isPlain_36 (fun _ => ?_) (fun _ => ?_)
      · refine r_iconst E dX66_isPlain_43 (zkI (by decide) (by decide)) ?_
        refine r_pick E [0, 1] rfl ?_
        exact w_fX66_isPlain_J44 E hN hT x0 x1 0
      · refine r_pick E [0, 1] rfl ?_
        exact w_fX66_isPlain_J39 E hN hT x0 x1
  · refine r_lload_n E dX66_isPlain_7 rfl 2 rfl ?_
    refine r_ldc2 (v := 1073741823) E dX66_isPlain_8 q3003 (by decide) (zkJ (by decide) (by decide)) ?_
    refine r_lmask (P := 1073741824) E 30 (by decide) (by decide) (by decide) dX66_isPlain_11 ?_
    refine r_lconst (v := 0) E dX66_isPlain_12 (by decide) (zkJ (by decide) (by decide)) ?_
    refine r_lcmp_ne E 21 (by decide) dX66_isPlain_13 dX66_isPlain_14 (fun _ => ?_) (fun _ => ?_)
    · refine r_iconst E dX66_isPlain_21 (zkI (by decide) (by decide)) ?_
      exact r_zreturn E rfl hT (by decide) dX66_isPlain_22
    · refine r_iconst E dX66_isPlain_17 (zkI (by decide) (by decide)) ?_
      refine r_goto E 22 (by decide) dX66_isPlain_18 ?_
      exact r_zreturn E rfl hT (by decide) dX66_isPlain_22
theorem k_fX66_isPlain (l : Launch) (G : zG) (x0 : Int) (x1 : Int) (x2 : Int) : zCt l G yX66_isPlain cX66_isPlain 6 (some .boolean) 0 [(9, x0), (16, x1), (1, x2)] (some 0) (fX66_isPlain x0 x1 x2) := zCt.of (by decide) (Nat.le_of_ble_eq_true rfl) (fun K E _ _ hN hT => w_fX66_isPlain E hN hT x0 x1 x2)
theorem dX66_list_0 : decode cX66_list 0 = .ok (.aload_n 0, 1) := by decide +kernel
theorem dX66_list_1 : decode cX66_list 1 = .ok (.iconst 0, 1) := by decide +kernel
theorem dX66_list_2 : decode cX66_list 2 = .ok (.putfield 19, 3) := by decide +kernel
theorem dX66_list_5 : decode cX66_list 5 = .ok (.lload_n 1, 1) := by decide +kernel
theorem dX66_list_6 : decode cX66_list 6 = .ok (.bipush 30, 2) := by decide +kernel
theorem dX66_list_8 : decode cX66_list 8 = .ok (.lshr, 1) := by decide +kernel
theorem dX66_list_9 : decode cX66_list 9 = .ok (.l2i, 1) := by decide +kernel
theorem dX66_list_10 : decode cX66_list 10 = .ok (.istore 4, 2) := by decide +kernel
theorem dX66_list_12 : decode cX66_list 12 = .ok (.aload_n 3, 1) := by decide +kernel
theorem dX66_list_13 : decode cX66_list 13 = .ok (.lload_n 1, 1) := by decide +kernel
theorem dX66_list_14 : decode cX66_list 14 = .ok (.aload_n 0, 1) := by decide +kernel
theorem dX66_list_15 : decode cX66_list 15 = .ok (.getfield 15, 3) := by decide +kernel
theorem dX66_list_18 : decode cX66_list 18 = .ok (.invokevirtual 67, 3) := by decide +kernel
theorem dX66_list_21 : decode cX66_list 21 = .ok (.iload 4, 2) := by decide +kernel
theorem dX66_list_23 : decode cX66_list 23 = .ok (.aload_n 0, 1) := by decide +kernel
theorem dX66_list_24 : decode cX66_list 24 = .ok (.getfield 15, 3) := by decide +kernel
theorem dX66_list_27 : decode cX66_list 27 = .ok (.arraylength, 1) := by decide +kernel
theorem dX66_list_28 : decode cX66_list 28 = .ok (.if_icmp .ge 13, 3) := by decide +kernel
theorem dX66_list_31 : decode cX66_list 31 = .ok (.aload_n 0, 1) := by decide +kernel
theorem dX66_list_32 : decode cX66_list 32 = .ok (.getfield 15, 3) := by decide +kernel
theorem dX66_list_35 : decode cX66_list 35 = .ok (.iload 4, 2) := by decide +kernel
theorem dX66_list_37 : decode cX66_list 37 = .ok (.aaload, 1) := by decide +kernel
theorem dX66_list_38 : decode cX66_list 38 = .ok (.goto 4, 3) := by decide +kernel
theorem dX66_list_41 : decode cX66_list 41 = .ok (.aconst_null, 1) := by decide +kernel
theorem dX66_list_42 : decode cX66_list 42 = .ok (.astore 5, 2) := by decide +kernel
theorem dX66_list_44 : decode cX66_list 44 = .ok (.aload 5, 2) := by decide +kernel
theorem dX66_list_46 : decode cX66_list 46 = .ok (.ifnull 13, 3) := by decide +kernel
theorem dX66_list_49 : decode cX66_list 49 = .ok (.aload_n 3, 1) := by decide +kernel
theorem dX66_list_50 : decode cX66_list 50 = .ok (.aload 5, 2) := by decide +kernel
theorem dX66_list_52 : decode cX66_list 52 = .ok (.lload_n 1, 1) := by decide +kernel
theorem dX66_list_53 : decode cX66_list 53 = .ok (.invokestatic 71, 3) := by decide +kernel
theorem dX66_list_56 : decode cX66_list 56 = .ok (.ifCond .ne 19, 3) := by decide +kernel
theorem dX66_list_59 : decode cX66_list 59 = .ok (.aload_n 0, 1) := by decide +kernel
theorem dX66_list_60 : decode cX66_list 60 = .ok (.ldc 75, 2) := by decide +kernel
theorem dX66_list_62 : decode cX66_list 62 = .ok (.invokevirtual 77, 3) := by decide +kernel
theorem dX66_list_65 : decode cX66_list 65 = .ok (.aload_n 0, 1) := by decide +kernel
theorem dX66_list_66 : decode cX66_list 66 = .ok (.lload_n 1, 1) := by decide +kernel
theorem dX66_list_67 : decode cX66_list 67 = .ok (.invokevirtual 80, 3) := by decide +kernel
theorem dX66_list_70 : decode cX66_list 70 = .ok (.aload_n 0, 1) := by decide +kernel
theorem dX66_list_71 : decode cX66_list 71 = .ok (.getfield 19, 3) := by decide +kernel
theorem dX66_list_74 : decode cX66_list 74 = .ok (.ireturn, 1) := by decide +kernel
theorem dX66_list_75 : decode cX66_list 75 = .ok (.aload_n 0, 1) := by decide +kernel
theorem dX66_list_76 : decode cX66_list 76 = .ok (.aload 5, 2) := by decide +kernel
theorem dX66_list_78 : decode cX66_list 78 = .ok (.getfield 83, 3) := by decide +kernel
theorem dX66_list_81 : decode cX66_list 81 = .ok (.invokevirtual 77, 3) := by decide +kernel
theorem dX66_list_84 : decode cX66_list 84 = .ok (.aload 5, 2) := by decide +kernel
theorem dX66_list_86 : decode cX66_list 86 = .ok (.getfield 55, 3) := by decide +kernel
theorem dX66_list_89 : decode cX66_list 89 = .ok (.ifCond .le 12, 3) := by decide +kernel
theorem dX66_list_92 : decode cX66_list 92 = .ok (.aload_n 0, 1) := by decide +kernel
theorem dX66_list_93 : decode cX66_list 93 = .ok (.aload_n 3, 1) := by decide +kernel
theorem dX66_list_94 : decode cX66_list 94 = .ok (.getfield 58, 3) := by decide +kernel
theorem dX66_list_97 : decode cX66_list 97 = .ok (.i2l, 1) := by decide +kernel
theorem dX66_list_98 : decode cX66_list 98 = .ok (.invokevirtual 80, 3) := by decide +kernel
theorem dX66_list_101 : decode cX66_list 101 = .ok (.aload 5, 2) := by decide +kernel
theorem dX66_list_103 : decode cX66_list 103 = .ok (.getfield 43, 3) := by decide +kernel
theorem dX66_list_106 : decode cX66_list 106 = .ok (.ifCond .ne 8, 3) := by decide +kernel
theorem dX66_list_109 : decode cX66_list 109 = .ok (.aload_n 0, 1) := by decide +kernel
theorem dX66_list_110 : decode cX66_list 110 = .ok (.getfield 19, 3) := by decide +kernel
theorem dX66_list_113 : decode cX66_list 113 = .ok (.ireturn, 1) := by decide +kernel
theorem dX66_list_114 : decode cX66_list 114 = .ok (.aload_n 0, 1) := by decide +kernel
theorem dX66_list_115 : decode cX66_list 115 = .ok (.bipush 32, 2) := by decide +kernel
theorem dX66_list_117 : decode cX66_list 117 = .ok (.invokevirtual 33, 3) := by decide +kernel
theorem dX66_list_120 : decode cX66_list 120 = .ok (.aload_n 3, 1) := by decide +kernel
theorem dX66_list_121 : decode cX66_list 121 = .ok (.getfield 50, 3) := by decide +kernel
theorem dX66_list_124 : decode cX66_list 124 = .ok (.iconst 2, 1) := by decide +kernel
theorem dX66_list_125 : decode cX66_list 125 = .ok (.if_icmp .ne 12, 3) := by decide +kernel
theorem dX66_list_128 : decode cX66_list 128 = .ok (.aload_n 0, 1) := by decide +kernel
theorem dX66_list_129 : decode cX66_list 129 = .ok (.bipush 35, 2) := by decide +kernel
theorem dX66_list_131 : decode cX66_list 131 = .ok (.invokevirtual 33, 3) := by decide +kernel
theorem dX66_list_134 : decode cX66_list 134 = .ok (.goto 40, 3) := by decide +kernel
theorem dX66_list_137 : decode cX66_list 137 = .ok (.aload_n 3, 1) := by decide +kernel
theorem dX66_list_138 : decode cX66_list 138 = .ok (.getfield 50, 3) := by decide +kernel
theorem dX66_list_141 : decode cX66_list 141 = .ok (.iconst 1, 1) := by decide +kernel
theorem dX66_list_142 : decode cX66_list 142 = .ok (.if_icmp .eq 11, 3) := by decide +kernel
theorem dX66_list_145 : decode cX66_list 145 = .ok (.aload_n 3, 1) := by decide +kernel
theorem dX66_list_146 : decode cX66_list 146 = .ok (.getfield 50, 3) := by decide +kernel
theorem dX66_list_149 : decode cX66_list 149 = .ok (.iconst 5, 1) := by decide +kernel
theorem dX66_list_150 : decode cX66_list 150 = .ok (.if_icmp .ne 24, 3) := by decide +kernel
theorem dX66_list_153 : decode cX66_list 153 = .ok (.aload_n 0, 1) := by decide +kernel
theorem dX66_list_154 : decode cX66_list 154 = .ok (.bipush 112, 2) := by decide +kernel
theorem dX66_list_156 : decode cX66_list 156 = .ok (.invokevirtual 33, 3) := by decide +kernel
theorem dX66_list_159 : decode cX66_list 159 = .ok (.aload_n 0, 1) := by decide +kernel
theorem dX66_list_160 : decode cX66_list 160 = .ok (.aload_n 3, 1) := by decide +kernel
theorem dX66_list_161 : decode cX66_list 161 = .ok (.getfield 64, 3) := by decide +kernel
theorem dX66_list_164 : decode cX66_list 164 = .ok (.i2l, 1) := by decide +kernel
theorem dX66_list_165 : decode cX66_list 165 = .ok (.invokevirtual 80, 3) := by decide +kernel
theorem dX66_list_168 : decode cX66_list 168 = .ok (.aload_n 0, 1) := by decide +kernel
theorem dX66_list_169 : decode cX66_list 169 = .ok (.bipush 124, 2) := by decide +kernel
theorem dX66_list_171 : decode cX66_list 171 = .ok (.invokevirtual 33, 3) := by decide +kernel
theorem dX66_list_174 : decode cX66_list 174 = .ok (.aload_n 0, 1) := by decide +kernel
theorem dX66_list_175 : decode cX66_list 175 = .ok (.aload_n 3, 1) := by decide +kernel
theorem dX66_list_176 : decode cX66_list 176 = .ok (.getfield 87, 3) := by decide +kernel
theorem dX66_list_179 : decode cX66_list 179 = .ok (.i2l, 1) := by decide +kernel
theorem dX66_list_180 : decode cX66_list 180 = .ok (.invokevirtual 80, 3) := by decide +kernel
theorem dX66_list_183 : decode cX66_list 183 = .ok (.aload_n 3, 1) := by decide +kernel
theorem dX66_list_184 : decode cX66_list 184 = .ok (.getfield 50, 3) := by decide +kernel
theorem dX66_list_187 : decode cX66_list 187 = .ok (.iconst 3, 1) := by decide +kernel
theorem dX66_list_188 : decode cX66_list 188 = .ok (.if_icmp .le 9, 3) := by decide +kernel
theorem dX66_list_191 : decode cX66_list 191 = .ok (.aload_n 0, 1) := by decide +kernel
theorem dX66_list_192 : decode cX66_list 192 = .ok (.bipush 42, 2) := by decide +kernel
theorem dX66_list_194 : decode cX66_list 194 = .ok (.invokevirtual 33, 3) := by decide +kernel
theorem dX66_list_197 : decode cX66_list 197 = .ok (.aload_n 3, 1) := by decide +kernel
theorem dX66_list_198 : decode cX66_list 198 = .ok (.getfield 61, 3) := by decide +kernel
theorem dX66_list_201 : decode cX66_list 201 = .ok (.ifCond .le 20, 3) := by decide +kernel
theorem dX66_list_204 : decode cX66_list 204 = .ok (.aload_n 0, 1) := by decide +kernel
theorem dX66_list_205 : decode cX66_list 205 = .ok (.ldc 90, 2) := by decide +kernel
theorem dX66_list_207 : decode cX66_list 207 = .ok (.invokevirtual 77, 3) := by decide +kernel
theorem dX66_list_210 : decode cX66_list 210 = .ok (.aload_n 0, 1) := by decide +kernel
theorem dX66_list_211 : decode cX66_list 211 = .ok (.aload_n 3, 1) := by decide +kernel
theorem dX66_list_212 : decode cX66_list 212 = .ok (.getfield 61, 3) := by decide +kernel
theorem dX66_list_215 : decode cX66_list 215 = .ok (.i2l, 1) := by decide +kernel
theorem dX66_list_216 : decode cX66_list 216 = .ok (.lconst 1, 1) := by decide +kernel
theorem dX66_list_217 : decode cX66_list 217 = .ok (.lsub, 1) := by decide +kernel
theorem dX66_list_218 : decode cX66_list 218 = .ok (.invokevirtual 80, 3) := by decide +kernel
theorem dX66_list_221 : decode cX66_list 221 = .ok (.aload_n 0, 1) := by decide +kernel
theorem dX66_list_222 : decode cX66_list 222 = .ok (.getfield 19, 3) := by decide +kernel
theorem dX66_list_225 : decode cX66_list 225 = .ok (.ireturn, 1) := by decide +kernel
theorem zy_X66_list : yX66_list.cls ≠ "java/lang/invoke/MethodHandle" ∧ yX66_list.cls ≠ "java/lang/invoke/VarHandle" ∧ (parseMethodDescriptor yX66_list.desc).map (fun d => d.parameters.length) = some 2 := by decide +kernel
theorem w_fX66_list_J59 {K : zK} (E : zE K cX66_list "RingHouse$Lister" (some .int) 9) (hN : zNl K = 6) (hT : zTr K = (some 0)) (x1 : Int) : zR K 59 [(0, 68, 0), (1, 1, x1)] [] (fX66_list_J59 x1) := by
  refine r_aload_n E dX66_list_59 rfl 0 rfl ?_
  refine r_ldcS (i := 42) E dX66_list_60 42 rfl (by decide) ?_
  refine r_callV E [(70, 42)] [] rfl zc_68 zr_68 (fun o _ => ⟨_, zw_X66.1 o, rfl⟩) (lw_V q3005 q3007 qs68 q293 q3008) dX66_list_62 zy_X66_put rfl (by omega) (by decide) (Nat.le_of_ble_eq_true rfl) (by decide) (fun l G => k_fX66_put l G 42) (fun _ => ?_)
  refine r_aload_n E dX66_list_65 rfl 0 rfl ?_
  refine r_lload_n E dX66_list_66 rfl 1 rfl ?_
  refine r_callV E [(1, x1)] [] rfl zc_68 zr_68 (fun o _ => ⟨_, zw_X66.1 o, rfl⟩) (lw_V q3015 q3017 qs70 q293 q3018) dX66_list_67 zy_X66_put_3 rfl (by omega) (by decide) (Nat.le_of_ble_eq_true rfl) (by decide) (fun l G => k_fX66_put_3 l G x1) (fun _ => ?_)
  refine r_aload_n E dX66_list_70 rfl 0 rfl ?_
  refine r_get E zc_68 zt_6702 dX66_list_71 q1780 zr_68 (zg_6702 _) (by decide) (fun v7 => ?_)
  exact r_ireturn E rfl hT dX66_list_74
theorem w_fX66_list_J221 {K : zK} (E : zE K cX66_list "RingHouse$Lister" (some .int) 9) (hN : zNl K = 6) (hT : zTr K = (some 0)) : zR K 221 [(0, 68, 0)] [] (fX66_list_J221) := by
  refine r_aload_n E dX66_list_221 rfl 0 rfl ?_
  refine r_get E zc_68 zt_6702 dX66_list_222 q1780 zr_68 (zg_6702 _) (by decide) (fun v26 => ?_)
  exact r_ireturn E rfl hT dX66_list_225
theorem w_fX66_list_J197 {K : zK} (E : zE K cX66_list "RingHouse$Lister" (some .int) 9) (hN : zNl K = 6) (hT : zTr K = (some 0)) (x3 : Int) : zR K 197 [(0, 68, 0), (3, 9, x3)] [] (fX66_list_J197 x3) := by
  refine r_aload_n E dX66_list_197 rfl 1 rfl ?_
  refine r_nn E (fun hn24 => ?_)
  refine r_getN E zc_9 zt_805 dX66_list_198 q655 zr_9 (zg_805 _) hn24 (fun v25 => ?_)
  refine r_if_le E 221 (by decide) dX66_list_201 (fun _ => ?_) (fun _ => ?_)
  · refine r_pick E [0] rfl ?_
    exact w_fX66_list_J221 E hN hT
  · refine r_aload_n E dX66_list_204 rfl 0 rfl ?_
    refine r_ldcS (i := 43) E dX66_list_205 43 rfl (by decide) ?_
    refine r_callV E [(70, 43)] [] rfl zc_68 zr_68 (fun o _ => ⟨_, zw_X66.1 o, rfl⟩) (lw_V q3005 q3007 qs68 q293 q3008) dX66_list_207 zy_X66_put rfl (by omega) (by decide) (Nat.le_of_ble_eq_true rfl) (by decide) (fun l G => k_fX66_put l G 43) (fun _ => ?_)
    refine r_aload_n E dX66_list_210 rfl 0 rfl ?_
    refine r_aload_n E dX66_list_211 rfl 1 rfl ?_
    refine r_getN E zc_9 zt_805 dX66_list_212 q655 zr_9 (zg_805 _) hn24 (fun v28 => ?_)
    refine r_i2l E dX66_list_215 ?_
    refine r_lconst (v := 1) E dX66_list_216 (by decide) (zkJ (by decide) (by decide)) ?_
    refine r_lsub E dX66_list_217 ?_
    refine r_callV E [(1, (zl (v28 - 1)))] [] rfl zc_68 zr_68 (fun o _ => ⟨_, zw_X66.1 o, rfl⟩) (lw_V q3015 q3017 qs70 q293 q3018) dX66_list_218 zy_X66_put_3 rfl (by omega) (by decide) (Nat.le_of_ble_eq_true rfl) (by decide) (fun l G => k_fX66_put_3 l G (zl (v28 - 1))) (fun _ => ?_)
    refine r_pick E [0] rfl ?_
    exact w_fX66_list_J221 E hN hT
theorem w_fX66_list_J174 {K : zK} (E : zE K cX66_list "RingHouse$Lister" (some .int) 9) (hN : zNl K = 6) (hT : zTr K = (some 0)) (x3 : Int) : zR K 174 [(0, 68, 0), (3, 9, x3)] [] (fX66_list_J174 x3) := by
  refine r_aload_n E dX66_list_174 rfl 0 rfl ?_
  refine r_aload_n E dX66_list_175 rfl 1 rfl ?_
  refine r_nn E (fun hn20 => ?_)
  refine r_getN E zc_9 zt_806 dX66_list_176 q658 zr_9 (zg_806 _) hn20 (fun v21 => ?_)
  refine r_i2l E dX66_list_179 ?_
  refine r_callV E [(1, v21)] [] rfl zc_68 zr_68 (fun o _ => ⟨_, zw_X66.1 o, rfl⟩) (lw_V q3015 q3017 qs70 q293 q3018) dX66_list_180 zy_X66_put_3 rfl (by omega) (by decide) (Nat.le_of_ble_eq_true rfl) (by decide) (fun l G => k_fX66_put_3 l G v21) (fun _ => ?_)
  refine r_aload_n E dX66_list_183 rfl 1 rfl ?_
  refine r_getN E zc_9 zt_802 dX66_list_184 q642 zr_9 (zg_802 _) hn20 (fun v23 => ?_)
  refine r_iconst E dX66_list_187 (zkI (by decide) (by decide)) ?_
  refine r_icmp_le E 197 (by decide) dX66_list_188 (fun _ => ?_) (fun _ => ?_)
  · exact w_fX66_list_J197 E hN hT x3
  · refine r_aload_n E dX66_list_191 rfl 0 rfl ?_
    refine r_bipush E dX66_list_192 (by decide) (zkI (by decide) (by decide)) ?_
    refine r_callV E [(0, 42)] [] rfl zc_68 zr_68 (fun o _ => ⟨_, zw_X66.1 o, rfl⟩) (lw_V q3011 q3013 qs69 q293 q3014) dX66_list_194 zy_X66_put_2 rfl (by omega) (by decide) (Nat.le_of_ble_eq_true rfl) (by decide) (fun l G => k_fX66_put_2 l G 42) (fun _ => ?_)
    exact w_fX66_list_J197 E hN hT x3
theorem w_fX66_list_J153 {K : zK} (E : zE K cX66_list "RingHouse$Lister" (some .int) 9) (hN : zNl K = 6) (hT : zTr K = (some 0)) (x3 : Int) : zR K 153 [(0, 68, 0), (3, 9, x3)] [] (fX66_list_J153 x3) := by
  refine r_aload_n E dX66_list_153 rfl 0 rfl ?_
  refine r_bipush E dX66_list_154 (by decide) (zkI (by decide) (by decide)) ?_
  refine r_callV E [(0, 112)] [] rfl zc_68 zr_68 (fun o _ => ⟨_, zw_X66.1 o, rfl⟩) (lw_V q3011 q3013 qs69 q293 q3014) dX66_list_156 zy_X66_put_2 rfl (by omega) (by decide) (Nat.le_of_ble_eq_true rfl) (by decide) (fun l G => k_fX66_put_2 l G 112) (fun _ => ?_)
  refine r_aload_n E dX66_list_159 rfl 0 rfl ?_
  refine r_aload_n E dX66_list_160 rfl 1 rfl ?_
  refine r_nn E (fun hn16 => ?_)
  refine r_getN E zc_9 zt_803 dX66_list_161 q645 zr_9 (zg_803 _) hn16 (fun v17 => ?_)
  refine r_i2l E dX66_list_164 ?_
  refine r_callV E [(1, v17)] [] rfl zc_68 zr_68 (fun o _ => ⟨_, zw_X66.1 o, rfl⟩) (lw_V q3015 q3017 qs70 q293 q3018) dX66_list_165 zy_X66_put_3 rfl (by omega) (by decide) (Nat.le_of_ble_eq_true rfl) (by decide) (fun l G => k_fX66_put_3 l G v17) (fun _ => ?_)
  refine r_aload_n E dX66_list_168 rfl 0 rfl ?_
  refine r_bipush E dX66_list_169 (by decide) (zkI (by decide) (by decide)) ?_
  refine r_callV E [(0, 124)] [] rfl zc_68 zr_68 (fun o _ => ⟨_, zw_X66.1 o, rfl⟩) (lw_V q3011 q3013 qs69 q293 q3014) dX66_list_171 zy_X66_put_2 rfl (by omega) (by decide) (Nat.le_of_ble_eq_true rfl) (by decide) (fun l G => k_fX66_put_2 l G 124) (fun _ => ?_)
  exact w_fX66_list_J174 E hN hT x3
theorem w_fX66_list_J101 {K : zK} (E : zE K cX66_list "RingHouse$Lister" (some .int) 9) (hN : zNl K = 6) (hT : zTr K = (some 0)) (x3 : Int) (x5 : Int) : zR K 101 [(0, 68, 0), (3, 9, x3), (5, 16, x5)] [] (fX66_list_J101 x3 x5) := by
  refine r_aload E dX66_list_101 2 rfl ?_
  refine r_nn E (fun hn10 => ?_)
  refine r_gecN (y := (zsort x5)) E zc_16 dX66_list_103 q1039 zr_16 (zhv_sort _) hn10 ?_
  refine r_if_ne E 114 (by decide) dX66_list_106 (fun _ => ?_) (fun _ => ?_)
  · refine r_aload_n E dX66_list_114 rfl 0 rfl ?_
    refine r_bipush E dX66_list_115 (by decide) (zkI (by decide) (by decide)) ?_
    refine r_callV E [(0, 32)] [] rfl zc_68 zr_68 (fun o _ => ⟨_, zw_X66.1 o, rfl⟩) (lw_V q3011 q3013 qs69 q293 q3014) dX66_list_117 zy_X66_put_2 rfl (by omega) (by decide) (Nat.le_of_ble_eq_true rfl) (by decide) (fun l G => k_fX66_put_2 l G 32) (fun _ => ?_)
    refine r_aload_n E dX66_list_120 rfl 1 rfl ?_
    refine r_nn E (fun hn12 => ?_)
    refine r_getN E zc_9 zt_802 dX66_list_121 q642 zr_9 (zg_802 _) hn12 (fun v13 => ?_)
    refine r_iconst E dX66_list_124 (zkI (by decide) (by decide)) ?_
    refine r_icmp_ne E 137 (by decide) dX66_list_125 (fun _ => ?_) (fun _ => ?_)
    · refine r_aload_n E dX66_list_137 rfl 1 rfl ?_
      refine r_getN E zc_9 zt_802 dX66_list_138 q642 zr_9 (zg_802 _) hn12 (fun v14 => ?_)
      refine r_iconst E dX66_list_141 (zkI (by decide) (by decide)) ?_
      refine r_icmp_eq E 153 (by decide) dX66_list_142 (fun _ => ?_) (fun _ => ?_)
      · refine r_pick E [0, 1] rfl ?_
        exact w_fX66_list_J153 E hN hT x3
      · refine r_aload_n E dX66_list_145 rfl 1 rfl ?_
        refine r_getN E zc_9 zt_802 dX66_list_146 q642 zr_9 (zg_802 _) hn12 (fun v31 => ?_)
        refine r_iconst E dX66_list_149 (zkI (by decide) (by decide)) ?_
        refine r_icmp_ne E 174 (by decide) dX66_list_150 (fun _ => ?_) (fun _ => ?_)
        · refine r_pick E [0, 1] rfl ?_
          exact w_fX66_list_J174 E hN hT x3
        · refine r_pick E [0, 1] rfl ?_
          exact w_fX66_list_J153 E hN hT x3
    · refine r_aload_n E dX66_list_128 rfl 0 rfl ?_
      refine r_bipush E dX66_list_129 (by decide) (zkI (by decide) (by decide)) ?_
      refine r_callV E [(0, 35)] [] rfl zc_68 zr_68 (fun o _ => ⟨_, zw_X66.1 o, rfl⟩) (lw_V q3011 q3013 qs69 q293 q3014) dX66_list_131 zy_X66_put_2 rfl (by omega) (by decide) (Nat.le_of_ble_eq_true rfl) (by decide) (fun l G => k_fX66_put_2 l G 35) (fun _ => ?_)
      refine r_goto E 174 (by decide) dX66_list_134 ?_
      refine r_pick E [0, 1] rfl ?_
      exact w_fX66_list_J174 E hN hT x3
  · refine r_aload_n E dX66_list_109 rfl 0 rfl ?_
    refine r_get E zc_68 zt_6702 dX66_list_110 q1780 zr_68 (zg_6702 _) (by decide) (fun v33 => ?_)
    exact r_ireturn E rfl hT dX66_list_113
theorem w_fX66_list_J42 {K : zK} (E : zE K cX66_list "RingHouse$Lister" (some .int) 9) (hN : zNl K = 6) (hT : zTr K = (some 0)) (x1 : Int) (x3 : Int) (s0 : Int) : zR K 42 [(0, 68, 0), (1, 1, x1), (3, 9, x3)] [(16, s0)] (fX66_list_J42 x1 x3 s0) := by
  refine r_astore (ls' := [(5, 16, s0), (0, 68, 0), (1, 1, x1), (3, 9, x3)]) E dX66_list_42 (by rw [hN]; decide) rfl ?_
  refine r_aload E dX66_list_44 0 rfl ?_
  refine r_ifnull E 59 (by decide) dX66_list_46 (fun _ => ?_) (fun hz4 => ?_)
  · refine r_pick E [1, 2] rfl ?_
    exact w_fX66_list_J59 E hN hT x1
  · refine r_aload_n E dX66_list_49 rfl 3 rfl ?_
    refine r_aload E dX66_list_50 0 rfl ?_
    refine r_lload_n E dX66_list_52 rfl 2 rfl ?_
    refine r_callS E [(9, x3), (16, s0), (1, x1)] [] rfl q3000 q3001 q293 q3002 dX66_list_53 zy_X66_isPlain rfl (by omega) (by decide) (Nat.le_of_ble_eq_true rfl) (fun l G => k_fX66_isPlain l G x3 s0 x1) (fun v8 => ?_)
    refine r_if_ne E 75 (by decide) dX66_list_56 (fun _ => ?_) (fun _ => ?_)
    · refine r_aload_n E dX66_list_75 rfl 1 rfl ?_
      refine r_aload E dX66_list_76 0 rfl ?_
      refine r_gecN (y := s0) E zc_16 dX66_list_78 q1035 zr_16 (zhv_name _) (Int.not_lt.mp hz4) ?_
      refine r_callV E [(70, s0)] [] rfl zc_68 zr_68 (fun o _ => ⟨_, zw_X66.1 o, rfl⟩) (lw_V q3005 q3007 qs68 q293 q3008) dX66_list_81 zy_X66_put rfl (by omega) (by decide) (Nat.le_of_ble_eq_true rfl) (by decide) (fun l G => k_fX66_put l G s0) (fun _ => ?_)
      refine r_aload E dX66_list_84 0 rfl ?_
      refine r_gecN (y := (zregs s0)) E zc_16 dX66_list_86 q1044 zr_16 (zhv_registers _) (Int.not_lt.mp hz4) ?_
      refine r_if_le E 101 (by decide) dX66_list_89 (fun _ => ?_) (fun _ => ?_)
      · refine r_pick E [1, 3, 0] rfl ?_
        exact w_fX66_list_J101 E hN hT x3 s0
      · refine r_aload_n E dX66_list_92 rfl 1 rfl ?_
        refine r_aload_n E dX66_list_93 rfl 3 rfl ?_
        refine r_nn E (fun hn34 => ?_)
        refine r_getN E zc_9 zt_804 dX66_list_94 q653 zr_9 (zg_804 _) hn34 (fun v35 => ?_)
        refine r_i2l E dX66_list_97 ?_
        refine r_callV E [(1, v35)] [] rfl zc_68 zr_68 (fun o _ => ⟨_, zw_X66.1 o, rfl⟩) (lw_V q3015 q3017 qs70 q293 q3018) dX66_list_98 zy_X66_put_3 rfl (by omega) (by decide) (Nat.le_of_ble_eq_true rfl) (by decide) (fun l G => k_fX66_put_3 l G v35) (fun _ => ?_)
        refine r_pick E [1, 3, 0] rfl ?_
        exact w_fX66_list_J101 E hN hT x3 s0
    · refine r_pick E [1, 2] rfl ?_
      exact w_fX66_list_J59 E hN hT x1
theorem w_fX66_list {K : zK} (E : zE K cX66_list "RingHouse$Lister" (some .int) 9) (hN : zNl K = 6) (hT : zTr K = (some 0)) (x1 : Int) (x3 : Int) : zR K 0 [(0, 68, 0), (1, 1, x1), (3, 9, x3)] [] (fX66_list x1 x3) := by
  refine r_aload_n E dX66_list_0 rfl 0 rfl ?_
  refine r_iconst E dX66_list_1 (zkI (by decide) (by decide)) ?_
  refine r_put E zc_68 zt_6702 zo_6702 dX66_list_2 q1780 zr_68 zw_X66 zp_6702 (fun _ => rfl) (fun _ => rfl) (by decide) ?_
  refine r_lload_n E dX66_list_5 rfl 1 rfl ?_
  refine r_bipush E dX66_list_6 (by decide) (zkI (by decide) (by decide)) ?_
  refine r_lshr (P := 1073741824) E (by decide) dX66_list_8 ?_
  refine r_l2i E dX66_list_9 ?_
  refine r_let E (fun v1 ev1 => ?_)
  refine r_istore (ls' := [(4, 0, v1), (0, 68, 0), (1, 1, x1), (3, 9, x3)]) E dX66_list_10 (by rw [hN]; decide) rfl ?_
  refine r_aload_n E dX66_list_12 rfl 3 rfl ?_
  refine r_lload_n E dX66_list_13 rfl 2 rfl ?_
  refine r_aload_n E dX66_list_14 rfl 1 rfl ?_
  refine r_gec (y := 0) E zc_68 dX66_list_15 q1777 zr_68 (zh_6700 (by decide)) (by decide) ?_
  refine r_nn E (fun hn2 => ?_)
  refine r_callV E [(1, x1), (1302, 0)] [] rfl zc_9 zr_9 (fun o _ => ⟨_, zw_X7.1 o, rfl⟩) (lw_V q2999 q2254 q2255 q234 q2256) dX66_list_18 zy_X7_take rfl (by omega) (by decide) (Nat.le_of_ble_eq_true rfl) hn2 (fun l G => k_fX7_take l G x3 x1 hn2) (fun _ => ?_)
  refine r_iload E dX66_list_21 0 rfl ?_
  refine r_aload_n E dX66_list_23 rfl 1 rfl ?_
  refine r_gec (y := 0) E zc_68 dX66_list_24 q1777 zr_68 (zh_6700 (by decide)) (by decide) ?_
  refine r_alen (n := 38) E zc_1302 za_1302 zx_1302 rfl (zkI (by decide) (by decide)) dX66_list_27 (by decide) ?_
  refine r_icmp_ge E 41 (by decide) dX66_list_28 (fun _ => ?_) (fun _ => ?_)
  · refine r_null E 14 dX66_list_41 ?_
    refine r_pick E [1, 2, 3] rfl ?_
    exact w_fX66_list_J42 E hN hT x1 x3 (-1)
  · refine r_aload_n E dX66_list_31 rfl 1 rfl ?_
    refine r_gec (y := 0) E zc_68 dX66_list_32 q1777 zr_68 (zh_6700 (by decide)) (by decide) ?_
    refine r_iload E dX66_list_35 0 rfl ?_
    refine r_aaloc (y := v1) E zc_1302 za_1302 zt_1302 zx_1302 rfl rfl (by omega) dX66_list_37 (by decide) (fun hi38 => ?_)
    refine r_goto E 42 (by decide) dX66_list_38 ?_
    refine r_pick E [1, 2, 3] rfl ?_
    exact w_fX66_list_J42 E hN hT x1 x3 v1
theorem k_fX66_list (l : Launch) (G : zG) (x1 : Int) (x3 : Int) : zCt l G yX66_list cX66_list 6 (some .int) 9 [(68, 0), (1, x1), (9, x3)] (some 0) (fX66_list x1 x3) := zCt.of (by decide) (Nat.le_of_ble_eq_true rfl) (fun K E _ _ hN hT => w_fX66_list E hN hT x1 x3)
theorem dX0_list_0 : decode cX0_list 0 = .ok (.lload_n 1, 1) := by decide +kernel
theorem dX0_list_1 : decode cX0_list 1 = .ok (.invokestatic 9, 3) := by decide +kernel
theorem dX0_list_4 : decode cX0_list 4 = .ok (.ifCond .eq 18, 3) := by decide +kernel
theorem dX0_list_7 : decode cX0_list 7 = .ok (.aload_n 0, 1) := by decide +kernel
theorem dX0_list_8 : decode cX0_list 8 = .ok (.getfield 107, 3) := by decide +kernel
theorem dX0_list_11 : decode cX0_list 11 = .ok (.lload_n 1, 1) := by decide +kernel
theorem dX0_list_12 : decode cX0_list 12 = .ok (.aload_n 0, 1) := by decide +kernel
theorem dX0_list_13 : decode cX0_list 13 = .ok (.getfield 55, 3) := by decide +kernel
theorem dX0_list_16 : decode cX0_list 16 = .ok (.invokevirtual 462, 3) := by decide +kernel
theorem dX0_list_19 : decode cX0_list 19 = .ok (.goto 5, 3) := by decide +kernel
theorem dX0_list_22 : decode cX0_list 22 = .ok (.bipush (-8), 2) := by decide +kernel
theorem dX0_list_24 : decode cX0_list 24 = .ok (.ireturn, 1) := by decide +kernel
theorem zy_X0_list : yX0_list.cls ≠ "java/lang/invoke/MethodHandle" ∧ yX0_list.cls ≠ "java/lang/invoke/VarHandle" ∧ (parseMethodDescriptor yX0_list.desc).map (fun d => d.parameters.length) = some 1 := by decide +kernel
theorem w_fX0_list {K : zK} (E : zE K cX0_list "RingHouse" (some .int) 10) (hN : zNl K = 3) (hT : zTr K = (some 0)) (x1 : Int) : zR K 0 [(0, 2, 0), (1, 1, x1)] [] (fX0_list x1) := by
  refine r_lload_n E dX0_list_0 rfl 1 rfl ?_
  refine r_callS E [(1, x1)] [] rfl q1844 q1845 q227 q1846 dX0_list_1 zy_X0_isWord rfl (by omega) (by decide) (Nat.le_of_ble_eq_true rfl) (fun l G => k_fX0_isWord l G x1) (fun v1 => ?_)
  refine r_if_eq E 22 (by decide) dX0_list_4 (fun _ => ?_) (fun _ => ?_)
  · refine r_bipush E dX0_list_22 (by decide) (zkI (by decide) (by decide)) ?_
    exact r_ireturn E rfl hT dX0_list_24
  · refine r_aload_n E dX0_list_7 rfl 0 rfl ?_
    refine r_gec (y := 0) E zc_2 dX0_list_8 q1795 zr_2 (zh_105 (by decide)) (by decide) ?_
    refine r_lload_n E dX0_list_11 rfl 1 rfl ?_
    refine r_aload_n E dX0_list_12 rfl 0 rfl ?_
    refine r_gec (y := 512) E zc_2 dX0_list_13 q1796 zr_2 (zh_106 (by decide)) (by decide) ?_
    refine r_callV E [(1, x1), (9, 512)] [] rfl zc_68 zr_68 (fun o _ => ⟨_, zw_X66.1 o, rfl⟩) (lw_V q2995 q2996 q2997 q293 q2998) dX0_list_16 zy_X66_list rfl (by omega) (by decide) (Nat.le_of_ble_eq_true rfl) (by decide) (fun l G => k_fX66_list l G x1 512) (fun v2 => ?_)
    refine r_goto E 24 (by decide) dX0_list_19 ?_
    exact r_ireturn E rfl hT dX0_list_24
theorem k_fX0_list (l : Launch) (G : zG) (x1 : Int) : zCt l G yX0_list cX0_list 3 (some .int) 10 [(2, 0), (1, x1)] (some 0) (fX0_list x1) := zCt.of (by decide) (Nat.le_of_ble_eq_true rfl) (fun K E _ _ hN hT => w_fX0_list E hN hT x1)
theorem dX0_listed_0 : decode cX0_listed 0 = .ok (.iload_n 1, 1) := by decide +kernel
theorem dX0_listed_1 : decode cX0_listed 1 = .ok (.i2l, 1) := by decide +kernel
theorem dX0_listed_2 : decode cX0_listed 2 = .ok (.lconst 0, 1) := by decide +kernel
theorem dX0_listed_3 : decode cX0_listed 3 = .ok (.aload_n 0, 1) := by decide +kernel
theorem dX0_listed_4 : decode cX0_listed 4 = .ok (.getfield 107, 3) := by decide +kernel
theorem dX0_listed_7 : decode cX0_listed 7 = .ok (.getfield 466, 3) := by decide +kernel
theorem dX0_listed_10 : decode cX0_listed 10 = .ok (.i2l, 1) := by decide +kernel
theorem dX0_listed_11 : decode cX0_listed 11 = .ok (.lconst 1, 1) := by decide +kernel
theorem dX0_listed_12 : decode cX0_listed 12 = .ok (.lsub, 1) := by decide +kernel
theorem dX0_listed_13 : decode cX0_listed 13 = .ok (.invokestatic 17, 3) := by decide +kernel
theorem dX0_listed_16 : decode cX0_listed 16 = .ok (.ifCond .eq 15, 3) := by decide +kernel
theorem dX0_listed_19 : decode cX0_listed 19 = .ok (.aload_n 0, 1) := by decide +kernel
theorem dX0_listed_20 : decode cX0_listed 20 = .ok (.getfield 107, 3) := by decide +kernel
theorem dX0_listed_23 : decode cX0_listed 23 = .ok (.getfield 467, 3) := by decide +kernel
theorem dX0_listed_26 : decode cX0_listed 26 = .ok (.iload_n 1, 1) := by decide +kernel
theorem dX0_listed_27 : decode cX0_listed 27 = .ok (.caload, 1) := by decide +kernel
theorem dX0_listed_28 : decode cX0_listed 28 = .ok (.goto 4, 3) := by decide +kernel
theorem dX0_listed_31 : decode cX0_listed 31 = .ok (.iconst (-1), 1) := by decide +kernel
theorem dX0_listed_32 : decode cX0_listed 32 = .ok (.ireturn, 1) := by decide +kernel
theorem zy_X0_listed : yX0_listed.cls ≠ "java/lang/invoke/MethodHandle" ∧ yX0_listed.cls ≠ "java/lang/invoke/VarHandle" ∧ (parseMethodDescriptor yX0_listed.desc).map (fun d => d.parameters.length) = some 1 := by decide +kernel
theorem w_fX0_listed {K : zK} (E : zE K cX0_listed "RingHouse" (some .int) 1) (hN : zNl K = 2) (hT : zTr K = (some 0)) (x1 : Int) : zR K 0 [(0, 2, 0), (1, 0, x1)] [] (fX0_listed x1) := by
  refine r_iload_n E dX0_listed_0 rfl 1 rfl ?_
  refine r_i2l E dX0_listed_1 ?_
  refine r_lconst (v := 0) E dX0_listed_2 (by decide) (zkJ (by decide) (by decide)) ?_
  refine r_aload_n E dX0_listed_3 rfl 0 rfl ?_
  refine r_gec (y := 0) E zc_2 dX0_listed_4 q1795 zr_2 (zh_105 (by decide)) (by decide) ?_
  refine r_getN E zc_68 zt_6702 dX0_listed_7 q1781 zr_68 (zg_6702 _) (by decide) (fun v1 => ?_)
  refine r_i2l E dX0_listed_10 ?_
  refine r_lconst (v := 1) E dX0_listed_11 (by decide) (zkJ (by decide) (by decide)) ?_
  refine r_lsub E dX0_listed_12 ?_
  refine r_callS E [(1, x1), (1, 0), (1, (zl (v1 - 1)))] [] rfl q1853 q1835 q227 q1836 dX0_listed_13 zy_X0_isIn rfl (by omega) (by decide) (Nat.le_of_ble_eq_true rfl) (fun l G => k_fX0_isIn l G x1 0 (zl (v1 - 1))) (fun v2 => ?_)
  refine r_if_eq E 31 (by decide) dX0_listed_16 (fun _ => ?_) (fun _ => ?_)
  · refine r_iconst E dX0_listed_31 (zkI (by decide) (by decide)) ?_
    exact r_ireturn E rfl hT dX0_listed_32
  · refine r_aload_n E dX0_listed_19 rfl 0 rfl ?_
    refine r_gec (y := 0) E zc_2 dX0_listed_20 q1795 zr_2 (zh_105 (by decide)) (by decide) ?_
    refine r_gecN (y := 0) E zc_68 dX0_listed_23 q1779 zr_68 (zh_6701 (by decide)) (by decide) ?_
    refine r_iload_n E dX0_listed_26 rfl 1 rfl ?_
    refine r_caload E zc_6701 za_6701 zt_6701 zx_6701 rfl rfl dX0_listed_27 (by decide) (fun v3 => ?_)
    refine r_goto E 32 (by decide) dX0_listed_28 ?_
    exact r_ireturn E rfl hT dX0_listed_32
theorem k_fX0_listed (l : Launch) (G : zG) (x1 : Int) : zCt l G yX0_listed cX0_listed 2 (some .int) 1 [(2, 0), (0, x1)] (some 0) (fX0_listed x1) := zCt.of (by decide) (Nat.le_of_ble_eq_true rfl) (fun K E _ _ hN hT => w_fX0_listed E hN hT x1)
theorem dX65_put_0 : decode cX65_put 0 = .ok (.aload_n 0, 1) := by decide +kernel
theorem dX65_put_1 : decode cX65_put 1 = .ok (.getfield 10, 3) := by decide +kernel
theorem dX65_put_4 : decode cX65_put 4 = .ok (.aload_n 0, 1) := by decide +kernel
theorem dX65_put_5 : decode cX65_put 5 = .ok (.getfield 46, 3) := by decide +kernel
theorem dX65_put_8 : decode cX65_put 8 = .ok (.iload_n 1, 1) := by decide +kernel
theorem dX65_put_9 : decode cX65_put 9 = .ok (.i2b, 1) := by decide +kernel
theorem dX65_put_10 : decode cX65_put 10 = .ok (.bastore, 1) := by decide +kernel
theorem dX65_put_11 : decode cX65_put 11 = .ok (.aload_n 0, 1) := by decide +kernel
theorem dX65_put_12 : decode cX65_put 12 = .ok (.dup, 1) := by decide +kernel
theorem dX65_put_13 : decode cX65_put 13 = .ok (.getfield 46, 3) := by decide +kernel
theorem dX65_put_16 : decode cX65_put 16 = .ok (.iconst 1, 1) := by decide +kernel
theorem dX65_put_17 : decode cX65_put 17 = .ok (.iadd, 1) := by decide +kernel
theorem dX65_put_18 : decode cX65_put 18 = .ok (.putfield 46, 3) := by decide +kernel
theorem dX65_put_21 : decode cX65_put 21 = .ok (.return_, 1) := by decide +kernel
theorem zy_X65_put : yX65_put.cls ≠ "java/lang/invoke/MethodHandle" ∧ yX65_put.cls ≠ "java/lang/invoke/VarHandle" ∧ (parseMethodDescriptor yX65_put.desc).map (fun d => d.parameters.length) = some 1 := by decide +kernel
theorem w_fX65_put {K : zK} (E : zE K cX65_put "RingHouse$Tape" none 0) (hN : zNl K = 2) (hT : zTr K = none) (x1 : Int) : zR K 0 [(0, 67, 0), (1, 0, x1)] [] (fX65_put x1) := by
  refine r_aload_n E dX65_put_0 rfl 0 rfl ?_
  refine r_gec (y := 0) E zc_67 dX65_put_1 q1714 zr_67 (zh_6601 (by decide)) (by decide) ?_
  refine r_aload_n E dX65_put_4 rfl 0 rfl ?_
  refine r_get E zc_67 zt_6602 dX65_put_5 q1716 zr_67 (zg_6602 _) (by decide) (fun v1 => ?_)
  refine r_iload_n E dX65_put_8 rfl 1 rfl ?_
  refine r_i2b E dX65_put_9 ?_
  refine r_bastore E zc_6601 za_6601 zt_6601 zo_6601 zx_6601 rfl rfl dX65_put_10 (by decide) ?_
  refine r_aload_n E dX65_put_11 rfl 0 rfl ?_
  refine r_dup E (zn1 rfl) dX65_put_12 ?_
  refine r_get E zc_67 zt_6602 dX65_put_13 q1716 zr_67 (zg_6602 _) (by decide) (fun v2 => ?_)
  refine r_iconst E dX65_put_16 (zkI (by decide) (by decide)) ?_
  refine r_iadd E dX65_put_17 ?_
  refine r_put E zc_67 zt_6602 zo_6602 dX65_put_18 q1716 zr_67 zw_X65 zp_6602 (fun _ => rfl) (fun _ => rfl) (by decide) ?_
  exact r_return E rfl hT dX65_put_21
theorem k_fX65_put (l : Launch) (G : zG) (x1 : Int) : zCt l G yX65_put cX65_put 2 none 0 [(67, 0), (0, x1)] none (fX65_put x1) := zCt.of (by decide) (Nat.le_of_ble_eq_true rfl) (fun K E _ _ hN hT => w_fX65_put E hN hT x1)
theorem dX65_putWord_0 : decode cX65_putWord 0 = .ok (.bipush 32, 2) := by decide +kernel
theorem dX65_putWord_2 : decode cX65_putWord 2 = .ok (.istore_n 3, 1) := by decide +kernel
theorem dX65_putWord_3 : decode cX65_putWord 3 = .ok (.iload_n 3, 1) := by decide +kernel
theorem dX65_putWord_4 : decode cX65_putWord 4 = .ok (.ifCond .lt 17, 3) := by decide +kernel
theorem dX65_putWord_7 : decode cX65_putWord 7 = .ok (.aload_n 0, 1) := by decide +kernel
theorem dX65_putWord_8 : decode cX65_putWord 8 = .ok (.lload_n 1, 1) := by decide +kernel
theorem dX65_putWord_9 : decode cX65_putWord 9 = .ok (.iload_n 3, 1) := by decide +kernel
theorem dX65_putWord_10 : decode cX65_putWord 10 = .ok (.lshr, 1) := by decide +kernel
theorem dX65_putWord_11 : decode cX65_putWord 11 = .ok (.l2i, 1) := by decide +kernel
theorem dX65_putWord_12 : decode cX65_putWord 12 = .ok (.invokevirtual 50, 3) := by decide +kernel
theorem dX65_putWord_15 : decode cX65_putWord 15 = .ok (.iinc 3 (-8), 3) := by decide +kernel
theorem dX65_putWord_18 : decode cX65_putWord 18 = .ok (.goto (-15), 3) := by decide +kernel
theorem dX65_putWord_21 : decode cX65_putWord 21 = .ok (.return_, 1) := by decide +kernel
theorem zy_X65_putWord : yX65_putWord.cls ≠ "java/lang/invoke/MethodHandle" ∧ yX65_putWord.cls ≠ "java/lang/invoke/VarHandle" ∧ (parseMethodDescriptor yX65_putWord.desc).map (fun d => d.parameters.length) = some 1 := by decide +kernel
theorem w_fX65_putWord_B3 {K : zK} (E : zE K cX65_putWord "RingHouse$Tape" none 1) (hN : zNl K = 4) (hT : zTr K = none) (x1 : Int) : ∀ r3 : Int → zX, (∀ s : Int, zR K 3 [(0, 67, 0), (1, 1, x1), (3, 0, s)] [] (r3 s)) → ∀ s : Int, zR K 3 [(0, 67, 0), (1, 1, x1), (3, 0, s)] [] (fX65_putWord_B3 x1 r3 s) := by
  intro r3 hr3 x3
  refine r_iload_n E dX65_putWord_3 rfl 2 rfl ?_
  refine r_if_lt E 21 (by decide) dX65_putWord_4 (fun _ => ?_) (fun _ => ?_)
  · exact r_return E rfl hT dX65_putWord_21
  · refine r_aload_n E dX65_putWord_7 rfl 0 rfl ?_
    refine r_lload_n E dX65_putWord_8 rfl 1 rfl ?_
    refine r_iload_n E dX65_putWord_9 rfl 2 rfl ?_
    refine r_lshr E rfl dX65_putWord_10 ?_
    refine r_l2i E dX65_putWord_11 ?_
    refine r_callV E [(0, (zi (x1 / 2 ^ (x3 % 64).toNat)))] [] rfl zc_67 zr_67 (fun o _ => ⟨_, zw_X65.1 o, rfl⟩) (lw_V q3035 q3037 qs71 q292 q3038) dX65_putWord_12 zy_X65_put rfl (by omega) (by decide) (Nat.le_of_ble_eq_true rfl) (by decide) (fun l G => k_fX65_put l G (zi (x1 / 2 ^ (x3 % 64).toNat))) (fun _ => ?_)
    refine r_iinc (ls' := fun v2 => [(3, 0, v2), (0, 67, 0), (1, 1, x1)]) E 2 rfl (by rw [hN]; decide) (fun _ => rfl) dX65_putWord_15 (fun v2 _ => ?_)
    refine r_goto E 3 (by decide) dX65_putWord_18 ?_
    refine r_pick E [1, 2, 0] rfl ?_
    exact hr3 v2
theorem w_fX65_putWord {K : zK} (E : zE K cX65_putWord "RingHouse$Tape" none 1) (hN : zNl K = 4) (hT : zTr K = none) (x1 : Int) : zR K 0 [(0, 67, 0), (1, 1, x1)] [] (fX65_putWord x1) := by
  refine r_bipush E dX65_putWord_0 (by decide) (zkI (by decide) (by decide)) ?_
  refine r_istore_n (ls' := [(3, 0, 32), (0, 67, 0), (1, 1, x1)]) E dX65_putWord_2 rfl (by rw [hN]; decide) rfl ?_
  refine r_pick E [1, 2, 0] rfl ?_
  exact r_loop (L := fun s => [(0, 67, 0), (1, 1, x1), (3, 0, s)]) (w_fX65_putWord_B3 E hN hT x1) zBIG 32
theorem k_fX65_putWord (l : Launch) (G : zG) (x1 : Int) : zCt l G yX65_putWord cX65_putWord 4 none 1 [(67, 0), (1, x1)] none (fX65_putWord x1) := zCt.of (by decide) (Nat.le_of_ble_eq_true rfl) (fun K E _ _ hN hT => w_fX65_putWord E hN hT x1)
theorem dX65_putItems_0 : decode cX65_putItems 0 = .ok (.aload_n 0, 1) := by decide +kernel
theorem dX65_putItems_1 : decode cX65_putItems 1 = .ok (.aload_n 1, 1) := by decide +kernel
theorem dX65_putItems_2 : decode cX65_putItems 2 = .ok (.getfield 54, 3) := by decide +kernel
theorem dX65_putItems_5 : decode cX65_putItems 5 = .ok (.invokevirtual 50, 3) := by decide +kernel
theorem dX65_putItems_8 : decode cX65_putItems 8 = .ok (.iconst 0, 1) := by decide +kernel
theorem dX65_putItems_9 : decode cX65_putItems 9 = .ok (.istore_n 2, 1) := by decide +kernel
theorem dX65_putItems_10 : decode cX65_putItems 10 = .ok (.iload_n 2, 1) := by decide +kernel
theorem dX65_putItems_11 : decode cX65_putItems 11 = .ok (.aload_n 1, 1) := by decide +kernel
theorem dX65_putItems_12 : decode cX65_putItems 12 = .ok (.getfield 54, 3) := by decide +kernel
theorem dX65_putItems_15 : decode cX65_putItems 15 = .ok (.if_icmp .ge 37, 3) := by decide +kernel
theorem dX65_putItems_18 : decode cX65_putItems 18 = .ok (.aload_n 0, 1) := by decide +kernel
theorem dX65_putItems_19 : decode cX65_putItems 19 = .ok (.aload_n 1, 1) := by decide +kernel
theorem dX65_putItems_20 : decode cX65_putItems 20 = .ok (.iload_n 2, 1) := by decide +kernel
theorem dX65_putItems_21 : decode cX65_putItems 21 = .ok (.invokevirtual 58, 3) := by decide +kernel
theorem dX65_putItems_24 : decode cX65_putItems 24 = .ok (.invokevirtual 50, 3) := by decide +kernel
theorem dX65_putItems_27 : decode cX65_putItems 27 = .ok (.aload_n 0, 1) := by decide +kernel
theorem dX65_putItems_28 : decode cX65_putItems 28 = .ok (.aload_n 1, 1) := by decide +kernel
theorem dX65_putItems_29 : decode cX65_putItems 29 = .ok (.iload_n 2, 1) := by decide +kernel
theorem dX65_putItems_30 : decode cX65_putItems 30 = .ok (.invokevirtual 62, 3) := by decide +kernel
theorem dX65_putItems_33 : decode cX65_putItems 33 = .ok (.invokevirtual 50, 3) := by decide +kernel
theorem dX65_putItems_36 : decode cX65_putItems 36 = .ok (.aload_n 0, 1) := by decide +kernel
theorem dX65_putItems_37 : decode cX65_putItems 37 = .ok (.aload_n 1, 1) := by decide +kernel
theorem dX65_putItems_38 : decode cX65_putItems 38 = .ok (.getfield 65, 3) := by decide +kernel
theorem dX65_putItems_41 : decode cX65_putItems 41 = .ok (.iload_n 2, 1) := by decide +kernel
theorem dX65_putItems_42 : decode cX65_putItems 42 = .ok (.iaload, 1) := by decide +kernel
theorem dX65_putItems_43 : decode cX65_putItems 43 = .ok (.invokevirtual 50, 3) := by decide +kernel
theorem dX65_putItems_46 : decode cX65_putItems 46 = .ok (.iinc 2 1, 3) := by decide +kernel
theorem dX65_putItems_49 : decode cX65_putItems 49 = .ok (.goto (-39), 3) := by decide +kernel
theorem dX65_putItems_52 : decode cX65_putItems 52 = .ok (.return_, 1) := by decide +kernel
theorem zy_X65_putItems : yX65_putItems.cls ≠ "java/lang/invoke/MethodHandle" ∧ yX65_putItems.cls ≠ "java/lang/invoke/VarHandle" ∧ (parseMethodDescriptor yX65_putItems.desc).map (fun d => d.parameters.length) = some 1 := by decide +kernel
theorem w_fX65_putItems_B10 {K : zK} (E : zE K cX65_putItems "RingHouse$Tape" none 1) (hN : zNl K = 3) (hT : zTr K = none) (x1 : Int) : ∀ r10 : Int → zX, (∀ s : Int, zR K 10 [(0, 67, 0), (1, 7, x1), (2, 0, s)] [] (r10 s)) → ∀ s : Int, zR K 10 [(0, 67, 0), (1, 7, x1), (2, 0, s)] [] (fX65_putItems_B10 x1 r10 s) := by
  intro r10 hr10 x2
  refine r_iload_n E dX65_putItems_10 rfl 2 rfl ?_
  refine r_aload_n E dX65_putItems_11 rfl 1 rfl ?_
  refine r_nn E (fun hn4 => ?_)
  refine r_getN E zc_7 zt_602 dX65_putItems_12 q362 zr_7 (zg_602 _) hn4 (fun v5 => ?_)
  refine r_icmp_ge E 52 (by decide) dX65_putItems_15 (fun _ => ?_) (fun _ => ?_)
  · exact r_return E rfl hT dX65_putItems_52
  · refine r_aload_n E dX65_putItems_18 rfl 0 rfl ?_
    refine r_aload_n E dX65_putItems_19 rfl 1 rfl ?_
    refine r_iload_n E dX65_putItems_20 rfl 2 rfl ?_
    refine r_callV E [(0, x2)] [(67, 0)] rfl zc_7 zr_7 (fun o _ => ⟨_, zw_X5.1 o, rfl⟩) (lw_V q3051 q1900 q1901 q232 q1902) dX65_putItems_21 zy_X5_person rfl (by omega) (by decide) (Nat.le_of_ble_eq_true rfl) hn4 (fun l G => k_fX5_person l G x1 x2 hn4) (fun v6 => ?_)
    refine r_callV E [(0, v6)] [] rfl zc_67 zr_67 (fun o _ => ⟨_, zw_X65.1 o, rfl⟩) (lw_V q3035 q3037 qs71 q292 q3038) dX65_putItems_24 zy_X65_put rfl (by omega) (by decide) (Nat.le_of_ble_eq_true rfl) (by decide) (fun l G => k_fX65_put l G v6) (fun _ => ?_)
    refine r_aload_n E dX65_putItems_27 rfl 0 rfl ?_
    refine r_aload_n E dX65_putItems_28 rfl 1 rfl ?_
    refine r_iload_n E dX65_putItems_29 rfl 2 rfl ?_
    refine r_callV E [(0, x2)] [(67, 0)] rfl zc_7 zr_7 (fun o _ => ⟨_, zw_X5.1 o, rfl⟩) (lw_V q3052 q1904 q1905 q232 q1906) dX65_putItems_30 zy_X5_project rfl (by omega) (by decide) (Nat.le_of_ble_eq_true rfl) hn4 (fun l G => k_fX5_project l G x1 x2 hn4) (fun v8 => ?_)
    refine r_callV E [(0, v8)] [] rfl zc_67 zr_67 (fun o _ => ⟨_, zw_X65.1 o, rfl⟩) (lw_V q3035 q3037 qs71 q292 q3038) dX65_putItems_33 zy_X65_put rfl (by omega) (by decide) (Nat.le_of_ble_eq_true rfl) (by decide) (fun l G => k_fX65_put l G v8) (fun _ => ?_)
    refine r_aload_n E dX65_putItems_36 rfl 0 rfl ?_
    refine r_aload_n E dX65_putItems_37 rfl 1 rfl ?_
    refine r_gecN (y := x1) E zc_7 dX65_putItems_38 q360 zr_7 (zh_601 (by omega)) hn4 ?_
    refine r_iload_n E dX65_putItems_41 rfl 2 rfl ?_
    refine r_iaload E zc_601 za_601 zt_601 zx_601 rfl (zacl_eq hn4) dX65_putItems_42 hn4 (fun v10 => ?_)
    refine r_callV E [(0, v10)] [] rfl zc_67 zr_67 (fun o _ => ⟨_, zw_X65.1 o, rfl⟩) (lw_V q3035 q3037 qs71 q292 q3038) dX65_putItems_43 zy_X65_put rfl (by omega) (by decide) (Nat.le_of_ble_eq_true rfl) (by decide) (fun l G => k_fX65_put l G v10) (fun _ => ?_)
    refine r_iinc (ls' := fun v12 => [(2, 0, v12), (0, 67, 0), (1, 7, x1)]) E 2 rfl (by rw [hN]; decide) (fun _ => rfl) dX65_putItems_46 (fun v12 _ => ?_)
    refine r_goto E 10 (by decide) dX65_putItems_49 ?_
    refine r_pick E [1, 2, 0] rfl ?_
    exact hr10 v12
theorem w_fX65_putItems {K : zK} (E : zE K cX65_putItems "RingHouse$Tape" none 1) (hN : zNl K = 3) (hT : zTr K = none) (x1 : Int) : zR K 0 [(0, 67, 0), (1, 7, x1)] [] (fX65_putItems x1) := by
  refine r_aload_n E dX65_putItems_0 rfl 0 rfl ?_
  refine r_aload_n E dX65_putItems_1 rfl 1 rfl ?_
  refine r_nn E (fun hn1 => ?_)
  refine r_getN E zc_7 zt_602 dX65_putItems_2 q362 zr_7 (zg_602 _) hn1 (fun v2 => ?_)
  refine r_callV E [(0, v2)] [] rfl zc_67 zr_67 (fun o _ => ⟨_, zw_X65.1 o, rfl⟩) (lw_V q3035 q3037 qs71 q292 q3038) dX65_putItems_5 zy_X65_put rfl (by omega) (by decide) (Nat.le_of_ble_eq_true rfl) (by decide) (fun l G => k_fX65_put l G v2) (fun _ => ?_)
  refine r_iconst E dX65_putItems_8 (zkI (by decide) (by decide)) ?_
  refine r_istore_n (ls' := [(2, 0, 0), (0, 67, 0), (1, 7, x1)]) E dX65_putItems_9 rfl (by rw [hN]; decide) rfl ?_
  refine r_pick E [1, 2, 0] rfl ?_
  exact r_loop (L := fun s => [(0, 67, 0), (1, 7, x1), (2, 0, s)]) (w_fX65_putItems_B10 E hN hT x1) zBIG 0
theorem k_fX65_putItems (l : Launch) (G : zG) (x1 : Int) : zCt l G yX65_putItems cX65_putItems 3 none 1 [(67, 0), (7, x1)] none (fX65_putItems x1) := zCt.of (by decide) (Nat.le_of_ble_eq_true rfl) (fun K E _ _ hN hT => w_fX65_putItems E hN hT x1)
theorem dX65_putNode_0 : decode cX65_putNode 0 = .ok (.aload_n 0, 1) := by decide +kernel
theorem dX65_putNode_1 : decode cX65_putNode 1 = .ok (.aload_n 1, 1) := by decide +kernel
theorem dX65_putNode_2 : decode cX65_putNode 2 = .ok (.getfield 68, 3) := by decide +kernel
theorem dX65_putNode_5 : decode cX65_putNode 5 = .ok (.invokevirtual 50, 3) := by decide +kernel
theorem dX65_putNode_8 : decode cX65_putNode 8 = .ok (.aload_n 0, 1) := by decide +kernel
theorem dX65_putNode_9 : decode cX65_putNode 9 = .ok (.aload_n 1, 1) := by decide +kernel
theorem dX65_putNode_10 : decode cX65_putNode 10 = .ok (.getfield 73, 3) := by decide +kernel
theorem dX65_putNode_13 : decode cX65_putNode 13 = .ok (.invokevirtual 77, 3) := by decide +kernel
theorem dX65_putNode_16 : decode cX65_putNode 16 = .ok (.aload_n 0, 1) := by decide +kernel
theorem dX65_putNode_17 : decode cX65_putNode 17 = .ok (.aload_n 1, 1) := by decide +kernel
theorem dX65_putNode_18 : decode cX65_putNode 18 = .ok (.getfield 81, 3) := by decide +kernel
theorem dX65_putNode_21 : decode cX65_putNode 21 = .ok (.invokevirtual 50, 3) := by decide +kernel
theorem dX65_putNode_24 : decode cX65_putNode 24 = .ok (.aload_n 0, 1) := by decide +kernel
theorem dX65_putNode_25 : decode cX65_putNode 25 = .ok (.aload_n 1, 1) := by decide +kernel
theorem dX65_putNode_26 : decode cX65_putNode 26 = .ok (.getfield 84, 3) := by decide +kernel
theorem dX65_putNode_29 : decode cX65_putNode 29 = .ok (.invokevirtual 50, 3) := by decide +kernel
theorem dX65_putNode_32 : decode cX65_putNode 32 = .ok (.aload_n 0, 1) := by decide +kernel
theorem dX65_putNode_33 : decode cX65_putNode 33 = .ok (.aload_n 1, 1) := by decide +kernel
theorem dX65_putNode_34 : decode cX65_putNode 34 = .ok (.getfield 87, 3) := by decide +kernel
theorem dX65_putNode_37 : decode cX65_putNode 37 = .ok (.invokevirtual 50, 3) := by decide +kernel
theorem dX65_putNode_40 : decode cX65_putNode 40 = .ok (.aload_n 0, 1) := by decide +kernel
theorem dX65_putNode_41 : decode cX65_putNode 41 = .ok (.aload_n 1, 1) := by decide +kernel
theorem dX65_putNode_42 : decode cX65_putNode 42 = .ok (.getfield 90, 3) := by decide +kernel
theorem dX65_putNode_45 : decode cX65_putNode 45 = .ok (.invokevirtual 94, 3) := by decide +kernel
theorem dX65_putNode_48 : decode cX65_putNode 48 = .ok (.aload_n 1, 1) := by decide +kernel
theorem dX65_putNode_49 : decode cX65_putNode 49 = .ok (.invokevirtual 98, 3) := by decide +kernel
theorem dX65_putNode_52 : decode cX65_putNode 52 = .ok (.ifCond .eq 60, 3) := by decide +kernel
theorem dX65_putNode_55 : decode cX65_putNode 55 = .ok (.aload_n 0, 1) := by decide +kernel
theorem dX65_putNode_56 : decode cX65_putNode 56 = .ok (.aload_n 1, 1) := by decide +kernel
theorem dX65_putNode_57 : decode cX65_putNode 57 = .ok (.getfield 102, 3) := by decide +kernel
theorem dX65_putNode_60 : decode cX65_putNode 60 = .ok (.getfield 106, 3) := by decide +kernel
theorem dX65_putNode_63 : decode cX65_putNode 63 = .ok (.invokevirtual 50, 3) := by decide +kernel
theorem dX65_putNode_66 : decode cX65_putNode 66 = .ok (.iconst 0, 1) := by decide +kernel
theorem dX65_putNode_67 : decode cX65_putNode 67 = .ok (.istore_n 2, 1) := by decide +kernel
theorem dX65_putNode_68 : decode cX65_putNode 68 = .ok (.iload_n 2, 1) := by decide +kernel
theorem dX65_putNode_69 : decode cX65_putNode 69 = .ok (.aload_n 1, 1) := by decide +kernel
theorem dX65_putNode_70 : decode cX65_putNode 70 = .ok (.getfield 102, 3) := by decide +kernel
theorem dX65_putNode_73 : decode cX65_putNode 73 = .ok (.getfield 106, 3) := by decide +kernel
theorem dX65_putNode_76 : decode cX65_putNode 76 = .ok (.if_icmp .ge 35, 3) := by decide +kernel
theorem dX65_putNode_79 : decode cX65_putNode 79 = .ok (.aload_n 0, 1) := by decide +kernel
theorem dX65_putNode_80 : decode cX65_putNode 80 = .ok (.aload_n 1, 1) := by decide +kernel
theorem dX65_putNode_81 : decode cX65_putNode 81 = .ok (.getfield 102, 3) := by decide +kernel
theorem dX65_putNode_84 : decode cX65_putNode 84 = .ok (.getfield 111, 3) := by decide +kernel
theorem dX65_putNode_87 : decode cX65_putNode 87 = .ok (.iload_n 2, 1) := by decide +kernel
theorem dX65_putNode_88 : decode cX65_putNode 88 = .ok (.iaload, 1) := by decide +kernel
theorem dX65_putNode_89 : decode cX65_putNode 89 = .ok (.invokevirtual 50, 3) := by decide +kernel
theorem dX65_putNode_92 : decode cX65_putNode 92 = .ok (.aload_n 0, 1) := by decide +kernel
theorem dX65_putNode_93 : decode cX65_putNode 93 = .ok (.aload_n 1, 1) := by decide +kernel
theorem dX65_putNode_94 : decode cX65_putNode 94 = .ok (.getfield 102, 3) := by decide +kernel
theorem dX65_putNode_97 : decode cX65_putNode 97 = .ok (.getfield 112, 3) := by decide +kernel
theorem dX65_putNode_100 : decode cX65_putNode 100 = .ok (.iload_n 2, 1) := by decide +kernel
theorem dX65_putNode_101 : decode cX65_putNode 101 = .ok (.laload, 1) := by decide +kernel
theorem dX65_putNode_102 : decode cX65_putNode 102 = .ok (.invokevirtual 77, 3) := by decide +kernel
theorem dX65_putNode_105 : decode cX65_putNode 105 = .ok (.iinc 2 1, 3) := by decide +kernel
theorem dX65_putNode_108 : decode cX65_putNode 108 = .ok (.goto (-40), 3) := by decide +kernel
theorem dX65_putNode_111 : decode cX65_putNode 111 = .ok (.return_, 1) := by decide +kernel
theorem dX65_putNode_112 : decode cX65_putNode 112 = .ok (.aload_n 1, 1) := by decide +kernel
theorem dX65_putNode_113 : decode cX65_putNode 113 = .ok (.invokevirtual 115, 3) := by decide +kernel
theorem dX65_putNode_116 : decode cX65_putNode 116 = .ok (.ifCond .eq 66, 3) := by decide +kernel
theorem dX65_putNode_119 : decode cX65_putNode 119 = .ok (.aload_n 0, 1) := by decide +kernel
theorem dX65_putNode_120 : decode cX65_putNode 120 = .ok (.aload_n 1, 1) := by decide +kernel
theorem dX65_putNode_121 : decode cX65_putNode 121 = .ok (.getfield 118, 3) := by decide +kernel
theorem dX65_putNode_124 : decode cX65_putNode 124 = .ok (.invokevirtual 50, 3) := by decide +kernel
theorem dX65_putNode_127 : decode cX65_putNode 127 = .ok (.aload_n 0, 1) := by decide +kernel
theorem dX65_putNode_128 : decode cX65_putNode 128 = .ok (.aload_n 1, 1) := by decide +kernel
theorem dX65_putNode_129 : decode cX65_putNode 129 = .ok (.getfield 121, 3) := by decide +kernel
theorem dX65_putNode_132 : decode cX65_putNode 132 = .ok (.invokevirtual 50, 3) := by decide +kernel
theorem dX65_putNode_135 : decode cX65_putNode 135 = .ok (.aload_n 0, 1) := by decide +kernel
theorem dX65_putNode_136 : decode cX65_putNode 136 = .ok (.aload_n 1, 1) := by decide +kernel
theorem dX65_putNode_137 : decode cX65_putNode 137 = .ok (.getfield 124, 3) := by decide +kernel
theorem dX65_putNode_140 : decode cX65_putNode 140 = .ok (.invokevirtual 94, 3) := by decide +kernel
theorem dX65_putNode_143 : decode cX65_putNode 143 = .ok (.aload_n 0, 1) := by decide +kernel
theorem dX65_putNode_144 : decode cX65_putNode 144 = .ok (.aload_n 1, 1) := by decide +kernel
theorem dX65_putNode_145 : decode cX65_putNode 145 = .ok (.getfield 127, 3) := by decide +kernel
theorem dX65_putNode_148 : decode cX65_putNode 148 = .ok (.invokevirtual 94, 3) := by decide +kernel
theorem dX65_putNode_151 : decode cX65_putNode 151 = .ok (.aload_n 0, 1) := by decide +kernel
theorem dX65_putNode_152 : decode cX65_putNode 152 = .ok (.aload_n 1, 1) := by decide +kernel
theorem dX65_putNode_153 : decode cX65_putNode 153 = .ok (.getfield 130, 3) := by decide +kernel
theorem dX65_putNode_156 : decode cX65_putNode 156 = .ok (.invokevirtual 50, 3) := by decide +kernel
theorem dX65_putNode_159 : decode cX65_putNode 159 = .ok (.aload_n 1, 1) := by decide +kernel
theorem dX65_putNode_160 : decode cX65_putNode 160 = .ok (.getfield 133, 3) := by decide +kernel
theorem dX65_putNode_163 : decode cX65_putNode 163 = .ok (.astore_n 2, 1) := by decide +kernel
theorem dX65_putNode_164 : decode cX65_putNode 164 = .ok (.aload_n 2, 1) := by decide +kernel
theorem dX65_putNode_165 : decode cX65_putNode 165 = .ok (.ifnull 16, 3) := by decide +kernel
theorem dX65_putNode_168 : decode cX65_putNode 168 = .ok (.aload_n 0, 1) := by decide +kernel
theorem dX65_putNode_169 : decode cX65_putNode 169 = .ok (.aload_n 2, 1) := by decide +kernel
theorem dX65_putNode_170 : decode cX65_putNode 170 = .ok (.invokevirtual 137, 3) := by decide +kernel
theorem dX65_putNode_173 : decode cX65_putNode 173 = .ok (.aload_n 2, 1) := by decide +kernel
theorem dX65_putNode_174 : decode cX65_putNode 174 = .ok (.getfield 141, 3) := by decide +kernel
theorem dX65_putNode_177 : decode cX65_putNode 177 = .ok (.astore_n 2, 1) := by decide +kernel
theorem dX65_putNode_178 : decode cX65_putNode 178 = .ok (.goto (-14), 3) := by decide +kernel
theorem dX65_putNode_181 : decode cX65_putNode 181 = .ok (.return_, 1) := by decide +kernel
theorem dX65_putNode_182 : decode cX65_putNode 182 = .ok (.aload_n 0, 1) := by decide +kernel
theorem dX65_putNode_183 : decode cX65_putNode 183 = .ok (.aload_n 1, 1) := by decide +kernel
theorem dX65_putNode_184 : decode cX65_putNode 184 = .ok (.getfield 144, 3) := by decide +kernel
theorem dX65_putNode_187 : decode cX65_putNode 187 = .ok (.invokevirtual 50, 3) := by decide +kernel
theorem dX65_putNode_190 : decode cX65_putNode 190 = .ok (.aload_n 0, 1) := by decide +kernel
theorem dX65_putNode_191 : decode cX65_putNode 191 = .ok (.aload_n 1, 1) := by decide +kernel
theorem dX65_putNode_192 : decode cX65_putNode 192 = .ok (.getfield 147, 3) := by decide +kernel
theorem dX65_putNode_195 : decode cX65_putNode 195 = .ok (.bipush 8, 2) := by decide +kernel
theorem dX65_putNode_197 : decode cX65_putNode 197 = .ok (.ishr, 1) := by decide +kernel
theorem dX65_putNode_198 : decode cX65_putNode 198 = .ok (.invokevirtual 50, 3) := by decide +kernel
theorem dX65_putNode_201 : decode cX65_putNode 201 = .ok (.aload_n 0, 1) := by decide +kernel
theorem dX65_putNode_202 : decode cX65_putNode 202 = .ok (.aload_n 1, 1) := by decide +kernel
theorem dX65_putNode_203 : decode cX65_putNode 203 = .ok (.getfield 147, 3) := by decide +kernel
theorem dX65_putNode_206 : decode cX65_putNode 206 = .ok (.invokevirtual 50, 3) := by decide +kernel
theorem dX65_putNode_209 : decode cX65_putNode 209 = .ok (.iconst 0, 1) := by decide +kernel
theorem dX65_putNode_210 : decode cX65_putNode 210 = .ok (.istore_n 2, 1) := by decide +kernel
theorem dX65_putNode_211 : decode cX65_putNode 211 = .ok (.iload_n 2, 1) := by decide +kernel
theorem dX65_putNode_212 : decode cX65_putNode 212 = .ok (.aload_n 1, 1) := by decide +kernel
theorem dX65_putNode_213 : decode cX65_putNode 213 = .ok (.getfield 147, 3) := by decide +kernel
theorem dX65_putNode_216 : decode cX65_putNode 216 = .ok (.if_icmp .ge 22, 3) := by decide +kernel
theorem dX65_putNode_219 : decode cX65_putNode 219 = .ok (.aload_n 0, 1) := by decide +kernel
theorem dX65_putNode_220 : decode cX65_putNode 220 = .ok (.aload_n 0, 1) := by decide +kernel
theorem dX65_putNode_221 : decode cX65_putNode 221 = .ok (.getfield 42, 3) := by decide +kernel
theorem dX65_putNode_224 : decode cX65_putNode 224 = .ok (.aload_n 1, 1) := by decide +kernel
theorem dX65_putNode_225 : decode cX65_putNode 225 = .ok (.iload_n 2, 1) := by decide +kernel
theorem dX65_putNode_226 : decode cX65_putNode 226 = .ok (.invokevirtual 150, 3) := by decide +kernel
theorem dX65_putNode_229 : decode cX65_putNode 229 = .ok (.invokevirtual 77, 3) := by decide +kernel
theorem dX65_putNode_232 : decode cX65_putNode 232 = .ok (.iinc 2 1, 3) := by decide +kernel
theorem dX65_putNode_235 : decode cX65_putNode 235 = .ok (.goto (-24), 3) := by decide +kernel
theorem dX65_putNode_238 : decode cX65_putNode 238 = .ok (.return_, 1) := by decide +kernel
theorem zy_X65_putNode : yX65_putNode.cls ≠ "java/lang/invoke/MethodHandle" ∧ yX65_putNode.cls ≠ "java/lang/invoke/VarHandle" ∧ (parseMethodDescriptor yX65_putNode.desc).map (fun d => d.parameters.length) = some 1 := by decide +kernel
theorem w_fX65_putNode_B211 {K : zK} {nf : Nat} (E : zE K cX65_putNode "RingHouse$Tape" none (2 + nf + 1)) (hN : zNl K = 3) (hT : zTr K = none) {sf : Int → zX} (hsf : ∀ (l : Launch) (G : zG) (x1 : Int), zCt l G yX65_putNode cX65_putNode 3 none (2 + nf) [(67, 0), (6, x1)] none (sf x1)) (x1 : Int) : ∀ r211 : Int → zX, (∀ s : Int, zR K 211 [(0, 67, 0), (1, 6, x1), (2, 0, s)] [] (r211 s)) → ∀ s : Int, zR K 211 [(0, 67, 0), (1, 6, x1), (2, 0, s)] [] (fX65_putNode_B211 sf x1 r211 s) := by
  intro r211 hr211 x2
  refine r_iload_n E dX65_putNode_211 rfl 2 rfl ?_
  refine r_aload_n E dX65_putNode_212 rfl 1 rfl ?_
  refine r_nn E (fun hn21 => ?_)
  refine r_getN E zc_6 zt_522 dX65_putNode_213 q477 zr_6 (zg_522 _) hn21 (fun v22 => ?_)
  refine r_icmp_ge E 238 (by decide) dX65_putNode_216 (fun _ => ?_) (fun _ => ?_)
  · exact r_return E rfl hT dX65_putNode_238
  · refine r_aload_n E dX65_putNode_219 rfl 0 rfl ?_
    refine r_aload_n E dX65_putNode_220 rfl 0 rfl ?_
    refine r_gec (y := 0) E zc_67 dX65_putNode_221 q1713 zr_67 (zh_6600 (by decide)) (by decide) ?_
    refine r_aload_n E dX65_putNode_224 rfl 1 rfl ?_
    refine r_iload_n E dX65_putNode_225 rfl 2 rfl ?_
    refine r_callV E [(6, x1), (0, x2)] [(67, 0)] rfl zc_3 zr_3 (fun o _ => ⟨_, zw_X1.1 o, rfl⟩) (lw_V q3055 q2086 q2087 q228 q2088) dX65_putNode_226 zy_X1_get rfl (by omega) (by decide) (Nat.le_of_ble_eq_true rfl) (by decide) (fun l G => k_fX1_get l G x1 x2) (fun v23 => ?_)
    refine r_callV E [(1, v23)] [] rfl zc_67 zr_67 (fun o _ => ⟨_, zw_X65.1 o, rfl⟩) (lw_V q3043 q3045 qs73 q292 q3046) dX65_putNode_229 zy_X65_putWord rfl (by omega) (by decide) (Nat.le_of_ble_eq_true rfl) (by decide) (fun l G => k_fX65_putWord l G v23) (fun _ => ?_)
    refine r_iinc (ls' := fun v25 => [(2, 0, v25), (0, 67, 0), (1, 6, x1)]) E 2 rfl (by rw [hN]; decide) (fun _ => rfl) dX65_putNode_232 (fun v25 _ => ?_)
    refine r_goto E 211 (by decide) dX65_putNode_235 ?_
    refine r_pick E [1, 2, 0] rfl ?_
    exact hr211 v25
theorem w_fX65_putNode_B164 {K : zK} {nf : Nat} (E : zE K cX65_putNode "RingHouse$Tape" none (2 + nf + 1)) (hN : zNl K = 3) (hT : zTr K = none) {sf : Int → zX} (hsf : ∀ (l : Launch) (G : zG) (x1 : Int), zCt l G yX65_putNode cX65_putNode 3 none (2 + nf) [(67, 0), (6, x1)] none (sf x1)) : ∀ r164 : Int → zX, (∀ s : Int, zR K 164 [(0, 67, 0), (2, 6, s)] [] (r164 s)) → ∀ s : Int, zR K 164 [(0, 67, 0), (2, 6, s)] [] (fX65_putNode_B164 sf r164 s) := by
  intro r164 hr164 x2
  refine r_aload_n E dX65_putNode_164 rfl 1 rfl ?_
  refine r_ifnull E 181 (by decide) dX65_putNode_165 (fun _ => ?_) (fun hz35 => ?_)
  · exact r_return E rfl hT dX65_putNode_181
  · refine r_aload_n E dX65_putNode_168 rfl 0 rfl ?_
    refine r_aload_n E dX65_putNode_169 rfl 1 rfl ?_
    refine r_callV E [(6, x2)] [] rfl zc_67 zr_67 (fun o _ => ⟨_, zw_X65.1 o, rfl⟩) (lw_V q3039 q3041 qs72 q292 q3042) dX65_putNode_170 zy_X65_putNode rfl (by omega) (by decide) (Nat.le_of_ble_eq_true rfl) (by decide) (fun l G => hsf l G x2) (fun _ => ?_)
    refine r_aload_n E dX65_putNode_173 rfl 1 rfl ?_
    refine r_getN E zc_6 zt_506 dX65_putNode_174 q404 zr_6 (zg_506 _) (Int.not_lt.mp hz35) (fun v37 => ?_)
    refine r_astore_n (ls' := [(2, 6, v37), (0, 67, 0)]) E dX65_putNode_177 rfl (by rw [hN]; decide) rfl ?_
    refine r_goto E 164 (by decide) dX65_putNode_178 ?_
    refine r_pick E [1, 0] rfl ?_
    exact hr164 v37
theorem w_fX65_putNode_B68 {K : zK} {nf : Nat} (E : zE K cX65_putNode "RingHouse$Tape" none (2 + nf + 1)) (hN : zNl K = 3) (hT : zTr K = none) {sf : Int → zX} (hsf : ∀ (l : Launch) (G : zG) (x1 : Int), zCt l G yX65_putNode cX65_putNode 3 none (2 + nf) [(67, 0), (6, x1)] none (sf x1)) (x1 : Int) : ∀ r68 : Int → zX, (∀ s : Int, zR K 68 [(0, 67, 0), (1, 6, x1), (2, 0, s)] [] (r68 s)) → ∀ s : Int, zR K 68 [(0, 67, 0), (1, 6, x1), (2, 0, s)] [] (fX65_putNode_B68 sf x1 r68 s) := by
  intro r68 hr68 x2
  refine r_iload_n E dX65_putNode_68 rfl 2 rfl ?_
  refine r_aload_n E dX65_putNode_69 rfl 1 rfl ?_
  refine r_nn E (fun hn42 => ?_)
  refine r_getN E zc_6 zt_520 dX65_putNode_70 q466 zr_6 (zg_520 _) hn42 (fun v43 => ?_)
  refine r_nn E (fun hn44 => ?_)
  refine r_getN E zc_8 zt_702 dX65_putNode_73 q547 zr_8 (zg_702 _) hn44 (fun v45 => ?_)
  refine r_icmp_ge E 111 (by decide) dX65_putNode_76 (fun _ => ?_) (fun _ => ?_)
  · exact r_return E rfl hT dX65_putNode_111
  · refine r_aload_n E dX65_putNode_79 rfl 0 rfl ?_
    refine r_aload_n E dX65_putNode_80 rfl 1 rfl ?_
    refine r_getN E zc_6 zt_520 dX65_putNode_81 q466 zr_6 (zg_520 _) hn42 (fun v46 => ?_)
    refine r_nn E (fun hn47 => ?_)
    refine r_gecN (y := v46) E zc_8 dX65_putNode_84 q544 zr_8 (zh_701 (by omega)) hn47 ?_
    refine r_iload_n E dX65_putNode_87 rfl 2 rfl ?_
    refine r_iaload E zc_701 za_701 zt_701 zx_701 rfl rfl dX65_putNode_88 hn47 (fun v48 => ?_)
    refine r_callV E [(0, v48)] [] rfl zc_67 zr_67 (fun o _ => ⟨_, zw_X65.1 o, rfl⟩) (lw_V q3035 q3037 qs71 q292 q3038) dX65_putNode_89 zy_X65_put rfl (by omega) (by decide) (Nat.le_of_ble_eq_true rfl) (by decide) (fun l G => k_fX65_put l G v48) (fun _ => ?_)
    refine r_aload_n E dX65_putNode_92 rfl 0 rfl ?_
    refine r_aload_n E dX65_putNode_93 rfl 1 rfl ?_
    refine r_getN E zc_6 zt_520 dX65_putNode_94 q466 zr_6 (zg_520 _) hn42 (fun v50 => ?_)
    refine r_nn E (fun hn51 => ?_)
    refine r_gecN (y := v50) E zc_8 dX65_putNode_97 q540 zr_8 (zh_700 (by omega)) hn51 ?_
    refine r_iload_n E dX65_putNode_100 rfl 2 rfl ?_
    refine r_laload E zc_700 za_700 zt_700 zx_700 rfl rfl dX65_putNode_101 hn51 (fun v52 => ?_)
    refine r_callV E [(1, v52)] [] rfl zc_67 zr_67 (fun o _ => ⟨_, zw_X65.1 o, rfl⟩) (lw_V q3043 q3045 qs73 q292 q3046) dX65_putNode_102 zy_X65_putWord rfl (by omega) (by decide) (Nat.le_of_ble_eq_true rfl) (by decide) (fun l G => k_fX65_putWord l G v52) (fun _ => ?_)
    refine r_iinc (ls' := fun v54 => [(2, 0, v54), (0, 67, 0), (1, 6, x1)]) E 2 rfl (by rw [hN]; decide) (fun _ => rfl) dX65_putNode_105 (fun v54 _ => ?_)
    refine r_goto E 68 (by decide) dX65_putNode_108 ?_
    refine r_pick E [1, 2, 0] rfl ?_
    exact hr68 v54
theorem w_fX65_putNode_E {K : zK} {nf : Nat} (E : zE K cX65_putNode "RingHouse$Tape" none (2 + nf + 1)) (hN : zNl K = 3) (hT : zTr K = none) {sf : Int → zX} (hsf : ∀ (l : Launch) (G : zG) (x1 : Int), zCt l G yX65_putNode cX65_putNode 3 none (2 + nf) [(67, 0), (6, x1)] none (sf x1)) (x1 : Int) : zR K 0 [(0, 67, 0), (1, 6, x1)] [] (fX65_putNode_E sf x1) := by
  refine r_aload_n E dX65_putNode_0 rfl 0 rfl ?_
  refine r_aload_n E dX65_putNode_1 rfl 1 rfl ?_
  refine r_nn E (fun hn1 => ?_)
  refine r_getN E zc_6 zt_501 dX65_putNode_2 q380 zr_6 (zg_501 _) hn1 (fun v2 => ?_)
  refine r_callV E [(0, v2)] [] rfl zc_67 zr_67 (fun o _ => ⟨_, zw_X65.1 o, rfl⟩) (lw_V q3035 q3037 qs71 q292 q3038) dX65_putNode_5 zy_X65_put rfl (by omega) (by decide) (Nat.le_of_ble_eq_true rfl) (by decide) (fun l G => k_fX65_put l G v2) (fun _ => ?_)
  refine r_aload_n E dX65_putNode_8 rfl 0 rfl ?_
  refine r_aload_n E dX65_putNode_9 rfl 1 rfl ?_
  refine r_getN E zc_6 zt_502 dX65_putNode_10 q384 zr_6 (zg_502 _) hn1 (fun v4 => ?_)
  refine r_callV E [(1, v4)] [] rfl zc_67 zr_67 (fun o _ => ⟨_, zw_X65.1 o, rfl⟩) (lw_V q3043 q3045 qs73 q292 q3046) dX65_putNode_13 zy_X65_putWord rfl (by omega) (by decide) (Nat.le_of_ble_eq_true rfl) (by decide) (fun l G => k_fX65_putWord l G v4) (fun _ => ?_)
  refine r_aload_n E dX65_putNode_16 rfl 0 rfl ?_
  refine r_aload_n E dX65_putNode_17 rfl 1 rfl ?_
  refine r_getN E zc_6 zt_509 dX65_putNode_18 q423 zr_6 (zg_509 _) hn1 (fun v6 => ?_)
  refine r_callV E [(0, v6)] [] rfl zc_67 zr_67 (fun o _ => ⟨_, zw_X65.1 o, rfl⟩) (lw_V q3035 q3037 qs71 q292 q3038) dX65_putNode_21 zy_X65_put rfl (by omega) (by decide) (Nat.le_of_ble_eq_true rfl) (by decide) (fun l G => k_fX65_put l G v6) (fun _ => ?_)
  refine r_aload_n E dX65_putNode_24 rfl 0 rfl ?_
  refine r_aload_n E dX65_putNode_25 rfl 1 rfl ?_
  refine r_getN E zc_6 zt_510 dX65_putNode_26 q430 zr_6 (zg_510 _) hn1 (fun v8 => ?_)
  refine r_callV E [(0, v8)] [] rfl zc_67 zr_67 (fun o _ => ⟨_, zw_X65.1 o, rfl⟩) (lw_V q3035 q3037 qs71 q292 q3038) dX65_putNode_29 zy_X65_put rfl (by omega) (by decide) (Nat.le_of_ble_eq_true rfl) (by decide) (fun l G => k_fX65_put l G v8) (fun _ => ?_)
  refine r_aload_n E dX65_putNode_32 rfl 0 rfl ?_
  refine r_aload_n E dX65_putNode_33 rfl 1 rfl ?_
  refine r_getN E zc_6 zt_511 dX65_putNode_34 q436 zr_6 (zg_511 _) hn1 (fun v10 => ?_)
  refine r_callV E [(0, v10)] [] rfl zc_67 zr_67 (fun o _ => ⟨_, zw_X65.1 o, rfl⟩) (lw_V q3035 q3037 qs71 q292 q3038) dX65_putNode_37 zy_X65_put rfl (by omega) (by decide) (Nat.le_of_ble_eq_true rfl) (by decide) (fun l G => k_fX65_put l G v10) (fun _ => ?_)
  refine r_aload_n E dX65_putNode_40 rfl 0 rfl ?_
  refine r_aload_n E dX65_putNode_41 rfl 1 rfl ?_
  refine r_gecN (y := (3 * x1)) E zc_6 dX65_putNode_42 q412 zr_6 (zh_508 (by omega)) hn1 ?_
  refine r_callV E [(7, (3 * x1))] [] rfl zc_67 zr_67 (fun o _ => ⟨_, zw_X65.1 o, rfl⟩) (lw_V q3047 q3049 qs74 q292 q3050) dX65_putNode_45 zy_X65_putItems rfl (by omega) (by decide) (Nat.le_of_ble_eq_true rfl) (by decide) (fun l G => k_fX65_putItems l G (3 * x1)) (fun _ => ?_)
  refine r_aload_n E dX65_putNode_48 rfl 1 rfl ?_
  refine r_callV E [] [] rfl zc_6 zr_6 (fun o _ => ⟨_, zw_X4.1 o, rfl⟩) (lw_V q3053 q1921 q1922 q231 q1923) dX65_putNode_49 zy_X4_isMailbox rfl (by omega) (by decide) (Nat.le_of_ble_eq_true rfl) hn1 (fun l G => k_fX4_isMailbox l G x1 hn1) (fun v13 => ?_)
  refine r_if_eq E 112 (by decide) dX65_putNode_52 (fun _ => ?_) (fun _ => ?_)
  · refine r_aload_n E dX65_putNode_112 rfl 1 rfl ?_
    refine r_callV E [] [] rfl zc_6 zr_6 (fun o _ => ⟨_, zw_X4.1 o, rfl⟩) (lw_V q3054 q1838 q1839 q231 q1840) dX65_putNode_113 zy_X4_isDirectory rfl (by omega) (by decide) (Nat.le_of_ble_eq_true rfl) hn1 (fun l G => k_fX4_isDirectory l G x1 hn1) (fun v14 => ?_)
    refine r_if_eq E 182 (by decide) dX65_putNode_116 (fun _ => ?_) (fun _ => ?_)
    · refine r_aload_n E dX65_putNode_182 rfl 0 rfl ?_
      refine r_aload_n E dX65_putNode_183 rfl 1 rfl ?_
      refine r_getN E zc_6 zt_521 dX65_putNode_184 q472 zr_6 (zg_521 _) hn1 (fun v15 => ?_)
      refine r_callV E [(0, v15)] [] rfl zc_67 zr_67 (fun o _ => ⟨_, zw_X65.1 o, rfl⟩) (lw_V q3035 q3037 qs71 q292 q3038) dX65_putNode_187 zy_X65_put rfl (by omega) (by decide) (Nat.le_of_ble_eq_true rfl) (by decide) (fun l G => k_fX65_put l G v15) (fun _ => ?_)
      refine r_aload_n E dX65_putNode_190 rfl 0 rfl ?_
      refine r_aload_n E dX65_putNode_191 rfl 1 rfl ?_
      refine r_getN E zc_6 zt_522 dX65_putNode_192 q477 zr_6 (zg_522 _) hn1 (fun v17 => ?_)
      refine r_bipush E dX65_putNode_195 (by decide) (zkI (by decide) (by decide)) ?_
      refine r_ishr (P := 256) E (by decide) dX65_putNode_197 ?_
      refine r_callV E [(0, (v17 / 256))] [] rfl zc_67 zr_67 (fun o _ => ⟨_, zw_X65.1 o, rfl⟩) (lw_V q3035 q3037 qs71 q292 q3038) dX65_putNode_198 zy_X65_put rfl (by omega) (by decide) (Nat.le_of_ble_eq_true rfl) (by decide) (fun l G => k_fX65_put l G (v17 / 256)) (fun _ => ?_)
      refine r_aload_n E dX65_putNode_201 rfl 0 rfl ?_
      refine r_aload_n E dX65_putNode_202 rfl 1 rfl ?_
      refine r_getN E zc_6 zt_522 dX65_putNode_203 q477 zr_6 (zg_522 _) hn1 (fun v19 => ?_)
      refine r_callV E [(0, v19)] [] rfl zc_67 zr_67 (fun o _ => ⟨_, zw_X65.1 o, rfl⟩) (lw_V q3035 q3037 qs71 q292 q3038) dX65_putNode_206 zy_X65_put rfl (by omega) (by decide) (Nat.le_of_ble_eq_true rfl) (by decide) (fun l G => k_fX65_put l G v19) (fun _ => ?_)
      refine r_iconst E dX65_putNode_209 (zkI (by decide) (by decide)) ?_
      refine r_istore_n (ls' := [(2, 0, 0), (0, 67, 0), (1, 6, x1)]) E dX65_putNode_210 rfl (by rw [hN]; decide) rfl ?_
      refine r_pick E [1, 2, 0] rfl ?_
      exact r_loop (L := fun s => [(0, 67, 0), (1, 6, x1), (2, 0, s)]) (w_fX65_putNode_B211 E hN hT hsf x1) zBIG 0
    · refine r_aload_n E dX65_putNode_119 rfl 0 rfl ?_
      refine r_aload_n E dX65_putNode_120 rfl 1 rfl ?_
      refine r_getN E zc_6 zt_503 dX65_putNode_121 q391 zr_6 (zg_503 _) hn1 (fun v26 => ?_)
      refine r_callV E [(0, v26)] [] rfl zc_67 zr_67 (fun o _ => ⟨_, zw_X65.1 o, rfl⟩) (lw_V q3035 q3037 qs71 q292 q3038) dX65_putNode_124 zy_X65_put rfl (by omega) (by decide) (Nat.le_of_ble_eq_true rfl) (by decide) (fun l G => k_fX65_put l G v26) (fun _ => ?_)
      refine r_aload_n E dX65_putNode_127 rfl 0 rfl ?_
      refine r_aload_n E dX65_putNode_128 rfl 1 rfl ?_
      refine r_getN E zc_6 zt_516 dX65_putNode_129 q453 zr_6 (zg_516 _) hn1 (fun v28 => ?_)
      refine r_callV E [(0, v28)] [] rfl zc_67 zr_67 (fun o _ => ⟨_, zw_X65.1 o, rfl⟩) (lw_V q3035 q3037 qs71 q292 q3038) dX65_putNode_132 zy_X65_put rfl (by omega) (by decide) (Nat.le_of_ble_eq_true rfl) (by decide) (fun l G => k_fX65_put l G v28) (fun _ => ?_)
      refine r_aload_n E dX65_putNode_135 rfl 0 rfl ?_
      refine r_aload_n E dX65_putNode_136 rfl 1 rfl ?_
      refine r_gecN (y := (3 * x1 + 1)) E zc_6 dX65_putNode_137 q460 zr_6 (zh_518 (by omega)) hn1 ?_
      refine r_callV E [(7, (3 * x1 + 1))] [] rfl zc_67 zr_67 (fun o _ => ⟨_, zw_X65.1 o, rfl⟩) (lw_V q3047 q3049 qs74 q292 q3050) dX65_putNode_140 zy_X65_putItems rfl (by omega) (by decide) (Nat.le_of_ble_eq_true rfl) (by decide) (fun l G => k_fX65_putItems l G (3 * x1 + 1)) (fun _ => ?_)
      refine r_aload_n E dX65_putNode_143 rfl 0 rfl ?_
      refine r_aload_n E dX65_putNode_144 rfl 1 rfl ?_
      refine r_gecN (y := (3 * x1 + 2)) E zc_6 dX65_putNode_145 q463 zr_6 (zh_519 (by omega)) hn1 ?_
      refine r_callV E [(7, (3 * x1 + 2))] [] rfl zc_67 zr_67 (fun o _ => ⟨_, zw_X65.1 o, rfl⟩) (lw_V q3047 q3049 qs74 q292 q3050) dX65_putNode_148 zy_X65_putItems rfl (by omega) (by decide) (Nat.le_of_ble_eq_true rfl) (by decide) (fun l G => k_fX65_putItems l G (3 * x1 + 2)) (fun _ => ?_)
      refine r_aload_n E dX65_putNode_151 rfl 0 rfl ?_
      refine r_aload_n E dX65_putNode_152 rfl 1 rfl ?_
      refine r_getN E zc_6 zt_515 dX65_putNode_153 q448 zr_6 (zg_515 _) hn1 (fun v32 => ?_)
      refine r_callV E [(0, v32)] [] rfl zc_67 zr_67 (fun o _ => ⟨_, zw_X65.1 o, rfl⟩) (lw_V q3035 q3037 qs71 q292 q3038) dX65_putNode_156 zy_X65_put rfl (by omega) (by decide) (Nat.le_of_ble_eq_true rfl) (by decide) (fun l G => k_fX65_put l G v32) (fun _ => ?_)
      refine r_aload_n E dX65_putNode_159 rfl 1 rfl ?_
      refine r_getN E zc_6 zt_513 dX65_putNode_160 q443 zr_6 (zg_513 _) hn1 (fun v34 => ?_)
      refine r_astore_n (ls' := [(2, 6, v34), (0, 67, 0), (1, 6, x1)]) E dX65_putNode_163 rfl (by rw [hN]; decide) rfl ?_
      refine r_pick E [1, 0] rfl ?_
      exact r_loop (L := fun s => [(0, 67, 0), (2, 6, s)]) (w_fX65_putNode_B164 E hN hT hsf) zBIG v34
  · refine r_aload_n E dX65_putNode_55 rfl 0 rfl ?_
    refine r_aload_n E dX65_putNode_56 rfl 1 rfl ?_
    refine r_getN E zc_6 zt_520 dX65_putNode_57 q466 zr_6 (zg_520 _) hn1 (fun v38 => ?_)
    refine r_nn E (fun hn39 => ?_)
    refine r_getN E zc_8 zt_702 dX65_putNode_60 q547 zr_8 (zg_702 _) hn39 (fun v40 => ?_)
    refine r_callV E [(0, v40)] [] rfl zc_67 zr_67 (fun o _ => ⟨_, zw_X65.1 o, rfl⟩) (lw_V q3035 q3037 qs71 q292 q3038) dX65_putNode_63 zy_X65_put rfl (by omega) (by decide) (Nat.le_of_ble_eq_true rfl) (by decide) (fun l G => k_fX65_put l G v40) (fun _ => ?_)
    refine r_iconst E dX65_putNode_66 (zkI (by decide) (by decide)) ?_
    refine r_istore_n (ls' := [(2, 0, 0), (0, 67, 0), (1, 6, x1)]) E dX65_putNode_67 rfl (by rw [hN]; decide) rfl ?_
    refine r_pick E [1, 2, 0] rfl ?_
    exact r_loop (L := fun s => [(0, 67, 0), (1, 6, x1), (2, 0, s)]) (w_fX65_putNode_B68 E hN hT hsf x1) zBIG 0
theorem k0_fX65_putNode (nf : Nat) : ∀ (l : Launch) (G : zG) (x1 : Int), zCt l G yX65_putNode cX65_putNode 3 none (2 + nf) [(67, 0), (6, x1)] none (fX65_putNode nf x1) := by
  induction nf with
  | zero => intro l G x1 M r M' hX; cases hX
  | succ nf ih => intro l G x1; exact zCt.of (by decide) (Nat.le_of_ble_eq_true rfl) (fun K E _ _ hN hT => w_fX65_putNode_E E hN hT ih x1)
theorem k_fX65_putNode (l : Launch) (G : zG) (x1 : Int) : zCt l G yX65_putNode cX65_putNode 3 none 302 [(67, 0), (6, x1)] none (fX65_putNode 300 x1) := k0_fX65_putNode 300 l G x1
theorem dX65_checkTo_0 : decode cX65_checkTo 0 = .ok (.iconst 0, 1) := by decide +kernel
theorem dX65_checkTo_1 : decode cX65_checkTo 1 = .ok (.istore_n 2, 1) := by decide +kernel
theorem dX65_checkTo_2 : decode cX65_checkTo 2 = .ok (.iconst 0, 1) := by decide +kernel
theorem dX65_checkTo_3 : decode cX65_checkTo 3 = .ok (.istore_n 3, 1) := by decide +kernel
theorem dX65_checkTo_4 : decode cX65_checkTo 4 = .ok (.iload_n 3, 1) := by decide +kernel
theorem dX65_checkTo_5 : decode cX65_checkTo 5 = .ok (.iload_n 1, 1) := by decide +kernel
theorem dX65_checkTo_6 : decode cX65_checkTo 6 = .ok (.if_icmp .ge 28, 3) := by decide +kernel
theorem dX65_checkTo_9 : decode cX65_checkTo 9 = .ok (.bipush 31, 2) := by decide +kernel
theorem dX65_checkTo_11 : decode cX65_checkTo 11 = .ok (.iload_n 2, 1) := by decide +kernel
theorem dX65_checkTo_12 : decode cX65_checkTo 12 = .ok (.imul, 1) := by decide +kernel
theorem dX65_checkTo_13 : decode cX65_checkTo 13 = .ok (.aload_n 0, 1) := by decide +kernel
theorem dX65_checkTo_14 : decode cX65_checkTo 14 = .ok (.getfield 10, 3) := by decide +kernel
theorem dX65_checkTo_17 : decode cX65_checkTo 17 = .ok (.iload_n 3, 1) := by decide +kernel
theorem dX65_checkTo_18 : decode cX65_checkTo 18 = .ok (.baload, 1) := by decide +kernel
theorem dX65_checkTo_19 : decode cX65_checkTo 19 = .ok (.sipush 255, 3) := by decide +kernel
theorem dX65_checkTo_22 : decode cX65_checkTo 22 = .ok (.iand, 1) := by decide +kernel
theorem dX65_checkTo_23 : decode cX65_checkTo 23 = .ok (.iadd, 1) := by decide +kernel
theorem dX65_checkTo_24 : decode cX65_checkTo 24 = .ok (.ldc 156, 2) := by decide +kernel
theorem dX65_checkTo_26 : decode cX65_checkTo 26 = .ok (.iand, 1) := by decide +kernel
theorem dX65_checkTo_27 : decode cX65_checkTo 27 = .ok (.istore_n 2, 1) := by decide +kernel
theorem dX65_checkTo_28 : decode cX65_checkTo 28 = .ok (.iinc 3 1, 3) := by decide +kernel
theorem dX65_checkTo_31 : decode cX65_checkTo 31 = .ok (.goto (-27), 3) := by decide +kernel
theorem dX65_checkTo_34 : decode cX65_checkTo 34 = .ok (.iload_n 2, 1) := by decide +kernel
theorem dX65_checkTo_35 : decode cX65_checkTo 35 = .ok (.ireturn, 1) := by decide +kernel
theorem zy_X65_checkTo : yX65_checkTo.cls ≠ "java/lang/invoke/MethodHandle" ∧ yX65_checkTo.cls ≠ "java/lang/invoke/VarHandle" ∧ (parseMethodDescriptor yX65_checkTo.desc).map (fun d => d.parameters.length) = some 1 := by decide +kernel
theorem w_fX65_checkTo_B4 {K : zK} (E : zE K cX65_checkTo "RingHouse$Tape" (some .int) 0) (hN : zNl K = 4) (hT : zTr K = (some 0)) (x1 : Int) : ∀ r4 : Int × Int → zX, (∀ s : Int × Int, zR K 4 [(0, 67, 0), (1, 0, x1), (2, 0, s.1), (3, 0, s.2)] [] (r4 s)) → ∀ s : Int × Int, zR K 4 [(0, 67, 0), (1, 0, x1), (2, 0, s.1), (3, 0, s.2)] [] (fX65_checkTo_B4 x1 r4 s) := by
  intro r4 hr4 s
  obtain ⟨x2, x3⟩ := s
  refine r_iload_n E dX65_checkTo_4 rfl 3 rfl ?_
  refine r_iload_n E dX65_checkTo_5 rfl 1 rfl ?_
  refine r_icmp_ge E 34 (by decide) dX65_checkTo_6 (fun _ => ?_) (fun _ => ?_)
  · refine r_iload_n E dX65_checkTo_34 rfl 2 rfl ?_
    exact r_ireturn E rfl hT dX65_checkTo_35
  · refine r_bipush E dX65_checkTo_9 (by decide) (zkI (by decide) (by decide)) ?_
    refine r_iload_n E dX65_checkTo_11 rfl 2 rfl ?_
    refine r_imul E dX65_checkTo_12 ?_
    refine r_aload_n E dX65_checkTo_13 rfl 0 rfl ?_
    refine r_gec (y := 0) E zc_67 dX65_checkTo_14 q1714 zr_67 (zh_6601 (by decide)) (by decide) ?_
    refine r_iload_n E dX65_checkTo_17 rfl 3 rfl ?_
    refine r_baload E zc_6601 za_6601 zt_6601 zx_6601 rfl rfl dX65_checkTo_18 (by decide) (fun v1 => ?_)
    refine r_sipush E dX65_checkTo_19 (by decide) (zkI (by decide) (by decide)) ?_
    refine r_imask (P := 256) E 8 (by decide) (by decide) (by decide) dX65_checkTo_22 ?_
    refine r_iadd E dX65_checkTo_23 ?_
    refine r_ldc (v := 65535) E dX65_checkTo_24 q3060 (by decide) (zkI (by decide) (by decide)) ?_
    refine r_imask (P := 65536) E 16 (by decide) (by decide) (by decide) dX65_checkTo_26 ?_
    refine r_let E (fun v2 ev2 => ?_)
    refine r_istore_n (ls' := [(2, 0, v2), (0, 67, 0), (1, 0, x1), (3, 0, x3)]) E dX65_checkTo_27 rfl (by rw [hN]; decide) rfl ?_
    refine r_iinc (ls' := fun v3 => [(3, 0, v3), (2, 0, v2), (0, 67, 0), (1, 0, x1)]) E 3 rfl (by rw [hN]; decide) (fun _ => rfl) dX65_checkTo_28 (fun v3 _ => ?_)
    refine r_goto E 4 (by decide) dX65_checkTo_31 ?_
    refine r_pick E [2, 3, 1, 0] rfl ?_
    exact hr4 (v2, v3)
theorem w_fX65_checkTo {K : zK} (E : zE K cX65_checkTo "RingHouse$Tape" (some .int) 0) (hN : zNl K = 4) (hT : zTr K = (some 0)) (x1 : Int) : zR K 0 [(0, 67, 0), (1, 0, x1)] [] (fX65_checkTo x1) := by
  refine r_iconst E dX65_checkTo_0 (zkI (by decide) (by decide)) ?_
  refine r_istore_n (ls' := [(2, 0, 0), (0, 67, 0), (1, 0, x1)]) E dX65_checkTo_1 rfl (by rw [hN]; decide) rfl ?_
  refine r_iconst E dX65_checkTo_2 (zkI (by decide) (by decide)) ?_
  refine r_istore_n (ls' := [(3, 0, 0), (2, 0, 0), (0, 67, 0), (1, 0, x1)]) E dX65_checkTo_3 rfl (by rw [hN]; decide) rfl ?_
  refine r_pick E [2, 3, 1, 0] rfl ?_
  exact r_loop (L := fun s => [(0, 67, 0), (1, 0, x1), (2, 0, s.1), (3, 0, s.2)]) (w_fX65_checkTo_B4 E hN hT x1) zBIG (0, 0)
theorem k_fX65_checkTo (l : Launch) (G : zG) (x1 : Int) : zCt l G yX65_checkTo cX65_checkTo 4 (some .int) 0 [(67, 0), (0, x1)] (some 0) (fX65_checkTo x1) := zCt.of (by decide) (Nat.le_of_ble_eq_true rfl) (fun K E _ _ hN hT => w_fX65_checkTo E hN hT x1)
theorem dX65_dump_0 : decode cX65_dump 0 = .ok (.aload_n 0, 1) := by decide +kernel
theorem dX65_dump_1 : decode cX65_dump 1 = .ok (.iconst 0, 1) := by decide +kernel
theorem dX65_dump_2 : decode cX65_dump 2 = .ok (.putfield 46, 3) := by decide +kernel
theorem dX65_dump_5 : decode cX65_dump 5 = .ok (.aload_n 0, 1) := by decide +kernel
theorem dX65_dump_6 : decode cX65_dump 6 = .ok (.bipush 82, 2) := by decide +kernel
theorem dX65_dump_8 : decode cX65_dump 8 = .ok (.invokevirtual 50, 3) := by decide +kernel
theorem dX65_dump_11 : decode cX65_dump 11 = .ok (.aload_n 0, 1) := by decide +kernel
theorem dX65_dump_12 : decode cX65_dump 12 = .ok (.bipush 72, 2) := by decide +kernel
theorem dX65_dump_14 : decode cX65_dump 14 = .ok (.invokevirtual 50, 3) := by decide +kernel
theorem dX65_dump_17 : decode cX65_dump 17 = .ok (.aload_n 0, 1) := by decide +kernel
theorem dX65_dump_18 : decode cX65_dump 18 = .ok (.iconst 1, 1) := by decide +kernel
theorem dX65_dump_19 : decode cX65_dump 19 = .ok (.invokevirtual 50, 3) := by decide +kernel
theorem dX65_dump_22 : decode cX65_dump 22 = .ok (.aload_n 0, 1) := by decide +kernel
theorem dX65_dump_23 : decode cX65_dump 23 = .ok (.aload_n 1, 1) := by decide +kernel
theorem dX65_dump_24 : decode cX65_dump 24 = .ok (.invokevirtual 137, 3) := by decide +kernel
theorem dX65_dump_27 : decode cX65_dump 27 = .ok (.aload_n 0, 1) := by decide +kernel
theorem dX65_dump_28 : decode cX65_dump 28 = .ok (.aload_n 0, 1) := by decide +kernel
theorem dX65_dump_29 : decode cX65_dump 29 = .ok (.getfield 46, 3) := by decide +kernel
theorem dX65_dump_32 : decode cX65_dump 32 = .ok (.invokevirtual 157, 3) := by decide +kernel
theorem dX65_dump_35 : decode cX65_dump 35 = .ok (.istore_n 2, 1) := by decide +kernel
theorem dX65_dump_36 : decode cX65_dump 36 = .ok (.aload_n 0, 1) := by decide +kernel
theorem dX65_dump_37 : decode cX65_dump 37 = .ok (.iload_n 2, 1) := by decide +kernel
theorem dX65_dump_38 : decode cX65_dump 38 = .ok (.bipush 8, 2) := by decide +kernel
theorem dX65_dump_40 : decode cX65_dump 40 = .ok (.ishr, 1) := by decide +kernel
theorem dX65_dump_41 : decode cX65_dump 41 = .ok (.invokevirtual 50, 3) := by decide +kernel
theorem dX65_dump_44 : decode cX65_dump 44 = .ok (.aload_n 0, 1) := by decide +kernel
theorem dX65_dump_45 : decode cX65_dump 45 = .ok (.iload_n 2, 1) := by decide +kernel
theorem dX65_dump_46 : decode cX65_dump 46 = .ok (.invokevirtual 50, 3) := by decide +kernel
theorem dX65_dump_49 : decode cX65_dump 49 = .ok (.aload_n 0, 1) := by decide +kernel
theorem dX65_dump_50 : decode cX65_dump 50 = .ok (.getfield 46, 3) := by decide +kernel
theorem dX65_dump_53 : decode cX65_dump 53 = .ok (.ireturn, 1) := by decide +kernel
theorem zy_X65_dump : yX65_dump.cls ≠ "java/lang/invoke/MethodHandle" ∧ yX65_dump.cls ≠ "java/lang/invoke/VarHandle" ∧ (parseMethodDescriptor yX65_dump.desc).map (fun d => d.parameters.length) = some 1 := by decide +kernel
theorem w_fX65_dump {K : zK} (E : zE K cX65_dump "RingHouse$Tape" (some .int) 303) (hN : zNl K = 3) (hT : zTr K = (some 0)) (x1 : Int) : zR K 0 [(0, 67, 0), (1, 6, x1)] [] (fX65_dump x1) := by
  refine r_aload_n E dX65_dump_0 rfl 0 rfl ?_
  refine r_iconst E dX65_dump_1 (zkI (by decide) (by decide)) ?_
  refine r_put E zc_67 zt_6602 zo_6602 dX65_dump_2 q1716 zr_67 zw_X65 zp_6602 (fun _ => rfl) (fun _ => rfl) (by decide) ?_
  refine r_aload_n E dX65_dump_5 rfl 0 rfl ?_
  refine r_bipush E dX65_dump_6 (by decide) (zkI (by decide) (by decide)) ?_
  refine r_callV E [(0, 82)] [] rfl zc_67 zr_67 (fun o _ => ⟨_, zw_X65.1 o, rfl⟩) (lw_V q3035 q3037 qs71 q292 q3038) dX65_dump_8 zy_X65_put rfl (by omega) (by decide) (Nat.le_of_ble_eq_true rfl) (by decide) (fun l G => k_fX65_put l G 82) (fun _ => ?_)
  refine r_aload_n E dX65_dump_11 rfl 0 rfl ?_
  refine r_bipush E dX65_dump_12 (by decide) (zkI (by decide) (by decide)) ?_
  refine r_callV E [(0, 72)] [] rfl zc_67 zr_67 (fun o _ => ⟨_, zw_X65.1 o, rfl⟩) (lw_V q3035 q3037 qs71 q292 q3038) dX65_dump_14 zy_X65_put rfl (by omega) (by decide) (Nat.le_of_ble_eq_true rfl) (by decide) (fun l G => k_fX65_put l G 72) (fun _ => ?_)
  refine r_aload_n E dX65_dump_17 rfl 0 rfl ?_
  refine r_iconst E dX65_dump_18 (zkI (by decide) (by decide)) ?_
  refine r_callV E [(0, 1)] [] rfl zc_67 zr_67 (fun o _ => ⟨_, zw_X65.1 o, rfl⟩) (lw_V q3035 q3037 qs71 q292 q3038) dX65_dump_19 zy_X65_put rfl (by omega) (by decide) (Nat.le_of_ble_eq_true rfl) (by decide) (fun l G => k_fX65_put l G 1) (fun _ => ?_)
  refine r_aload_n E dX65_dump_22 rfl 0 rfl ?_
  refine r_aload_n E dX65_dump_23 rfl 1 rfl ?_
  refine r_callV E [(6, x1)] [] rfl zc_67 zr_67 (fun o _ => ⟨_, zw_X65.1 o, rfl⟩) (lw_V q3039 q3041 qs72 q292 q3042) dX65_dump_24 zy_X65_putNode rfl (by omega) (by decide) (Nat.le_of_ble_eq_true rfl) (by decide) (fun l G => k_fX65_putNode l G x1) (fun _ => ?_)
  refine r_aload_n E dX65_dump_27 rfl 0 rfl ?_
  refine r_aload_n E dX65_dump_28 rfl 0 rfl ?_
  refine r_get E zc_67 zt_6602 dX65_dump_29 q1716 zr_67 (zg_6602 _) (by decide) (fun v5 => ?_)
  refine r_callV E [(0, v5)] [] rfl zc_67 zr_67 (fun o _ => ⟨_, zw_X65.1 o, rfl⟩) (lw_V q3056 q3058 qs75 q292 q3059) dX65_dump_32 zy_X65_checkTo rfl (by omega) (by decide) (Nat.le_of_ble_eq_true rfl) (by decide) (fun l G => k_fX65_checkTo l G v5) (fun v6 => ?_)
  refine r_istore_n (ls' := [(2, 0, v6), (0, 67, 0), (1, 6, x1)]) E dX65_dump_35 rfl (by rw [hN]; decide) rfl ?_
  refine r_aload_n E dX65_dump_36 rfl 1 rfl ?_
  refine r_iload_n E dX65_dump_37 rfl 0 rfl ?_
  refine r_bipush E dX65_dump_38 (by decide) (zkI (by decide) (by decide)) ?_
  refine r_ishr (P := 256) E (by decide) dX65_dump_40 ?_
  refine r_callV E [(0, (v6 / 256))] [] rfl zc_67 zr_67 (fun o _ => ⟨_, zw_X65.1 o, rfl⟩) (lw_V q3035 q3037 qs71 q292 q3038) dX65_dump_41 zy_X65_put rfl (by omega) (by decide) (Nat.le_of_ble_eq_true rfl) (by decide) (fun l G => k_fX65_put l G (v6 / 256)) (fun _ => ?_)
  refine r_aload_n E dX65_dump_44 rfl 1 rfl ?_
  refine r_iload_n E dX65_dump_45 rfl 0 rfl ?_
  refine r_callV E [(0, v6)] [] rfl zc_67 zr_67 (fun o _ => ⟨_, zw_X65.1 o, rfl⟩) (lw_V q3035 q3037 qs71 q292 q3038) dX65_dump_46 zy_X65_put rfl (by omega) (by decide) (Nat.le_of_ble_eq_true rfl) (by decide) (fun l G => k_fX65_put l G v6) (fun _ => ?_)
  refine r_aload_n E dX65_dump_49 rfl 1 rfl ?_
  refine r_get E zc_67 zt_6602 dX65_dump_50 q1716 zr_67 (zg_6602 _) (by decide) (fun v9 => ?_)
  exact r_ireturn E rfl hT dX65_dump_53
theorem k_fX65_dump (l : Launch) (G : zG) (x1 : Int) : zCt l G yX65_dump cX65_dump 3 (some .int) 303 [(67, 0), (6, x1)] (some 0) (fX65_dump x1) := zCt.of (by decide) (Nat.le_of_ble_eq_true rfl) (fun K E _ _ hN hT => w_fX65_dump E hN hT x1)
theorem dX0_dump_0 : decode cX0_dump 0 = .ok (.aload_n 0, 1) := by decide +kernel
theorem dX0_dump_1 : decode cX0_dump 1 = .ok (.getfield 42, 3) := by decide +kernel
theorem dX0_dump_4 : decode cX0_dump 4 = .ok (.iload_n 1, 1) := by decide +kernel
theorem dX0_dump_5 : decode cX0_dump 5 = .ok (.invokevirtual 167, 3) := by decide +kernel
theorem dX0_dump_8 : decode cX0_dump 8 = .ok (.astore_n 2, 1) := by decide +kernel
theorem dX0_dump_9 : decode cX0_dump 9 = .ok (.aload_n 2, 1) := by decide +kernel
theorem dX0_dump_10 : decode cX0_dump 10 = .ok (.ifnull 14, 3) := by decide +kernel
theorem dX0_dump_13 : decode cX0_dump 13 = .ok (.aload_n 2, 1) := by decide +kernel
theorem dX0_dump_14 : decode cX0_dump 14 = .ok (.aload_n 0, 1) := by decide +kernel
theorem dX0_dump_15 : decode cX0_dump 15 = .ok (.getfield 42, 3) := by decide +kernel
theorem dX0_dump_18 : decode cX0_dump 18 = .ok (.getfield 201, 3) := by decide +kernel
theorem dX0_dump_21 : decode cX0_dump 21 = .ok (.if_acmp .ne 8, 3) := by decide +kernel
theorem dX0_dump_24 : decode cX0_dump 24 = .ok (.bipush (-8), 2) := by decide +kernel
theorem dX0_dump_26 : decode cX0_dump 26 = .ok (.goto 11, 3) := by decide +kernel
theorem dX0_dump_29 : decode cX0_dump 29 = .ok (.aload_n 0, 1) := by decide +kernel
theorem dX0_dump_30 : decode cX0_dump 30 = .ok (.getfield 98, 3) := by decide +kernel
theorem dX0_dump_33 : decode cX0_dump 33 = .ok (.aload_n 2, 1) := by decide +kernel
theorem dX0_dump_34 : decode cX0_dump 34 = .ok (.invokevirtual 471, 3) := by decide +kernel
theorem dX0_dump_37 : decode cX0_dump 37 = .ok (.ireturn, 1) := by decide +kernel
theorem zy_X0_dump : yX0_dump.cls ≠ "java/lang/invoke/MethodHandle" ∧ yX0_dump.cls ≠ "java/lang/invoke/VarHandle" ∧ (parseMethodDescriptor yX0_dump.desc).map (fun d => d.parameters.length) = some 1 := by decide +kernel
theorem w_fX0_dump {K : zK} (E : zE K cX0_dump "RingHouse" (some .int) 304) (hN : zNl K = 3) (hT : zTr K = (some 0)) (x1 : Int) : zR K 0 [(0, 2, 0), (1, 0, x1)] [] (fX0_dump x1) := by
  refine r_aload_n E dX0_dump_0 rfl 0 rfl ?_
  refine r_gec (y := 0) E zc_2 dX0_dump_1 q1790 zr_2 (zh_100 (by decide)) (by decide) ?_
  refine r_iload_n E dX0_dump_4 rfl 1 rfl ?_
  refine r_callV E [(0, x1)] [] rfl zc_3 zr_3 (fun o _ => ⟨_, zw_X1.1 o, rfl⟩) (lw_V q1984 q1830 q1831 q228 q1832) dX0_dump_5 zy_X1_node rfl (by omega) (by decide) (Nat.le_of_ble_eq_true rfl) (by decide) (fun l G => k_fX1_node l G x1) (fun v1 => ?_)
  refine r_astore_n (ls' := [(2, 6, v1), (0, 2, 0), (1, 0, x1)]) E dX0_dump_8 rfl (by rw [hN]; decide) rfl ?_
  refine r_aload_n E dX0_dump_9 rfl 0 rfl ?_
  refine r_ifnull E 24 (by decide) dX0_dump_10 (fun _ => ?_) (fun hz2 => ?_)
  · refine r_bipush E dX0_dump_24 (by decide) (zkI (by decide) (by decide)) ?_
    refine r_goto E 37 (by decide) dX0_dump_26 ?_
    exact r_ireturn E rfl hT dX0_dump_37
  · refine r_aload_n E dX0_dump_13 rfl 0 rfl ?_
    refine r_aload_n E dX0_dump_14 rfl 1 rfl ?_
    refine r_gec (y := 0) E zc_2 dX0_dump_15 q1790 zr_2 (zh_100 (by decide)) (by decide) ?_
    refine r_gecN (y := 0) E zc_3 dX0_dump_18 q598 zr_3 (zh_205 (by decide)) (by decide) ?_
    refine r_acmp_ne E rfl 29 (by decide) dX0_dump_21 (fun _ => ?_) (fun _ => ?_)
    · refine r_aload_n E dX0_dump_29 rfl 1 rfl ?_
      refine r_gec (y := 0) E zc_2 dX0_dump_30 q1794 zr_2 (zh_104 (by decide)) (by decide) ?_
      refine r_aload_n E dX0_dump_33 rfl 0 rfl ?_
      refine r_callV E [(6, v1)] [] rfl zc_67 zr_67 (fun o _ => ⟨_, zw_X65.1 o, rfl⟩) (lw_V q3031 q3032 q3033 q292 q3034) dX0_dump_34 zy_X65_dump rfl (by omega) (by decide) (Nat.le_of_ble_eq_true rfl) (by decide) (fun l G => k_fX65_dump l G v1) (fun v3 => ?_)
      exact r_ireturn E rfl hT dX0_dump_37
    · refine r_bipush E dX0_dump_24 (by decide) (zkI (by decide) (by decide)) ?_
      refine r_goto E 37 (by decide) dX0_dump_26 ?_
      exact r_ireturn E rfl hT dX0_dump_37
theorem k_fX0_dump (l : Launch) (G : zG) (x1 : Int) : zCt l G yX0_dump cX0_dump 3 (some .int) 304 [(2, 0), (0, x1)] (some 0) (fX0_dump x1) := zCt.of (by decide) (Nat.le_of_ble_eq_true rfl) (fun K E _ _ hN hT => w_fX0_dump E hN hT x1)
theorem dX0_tape_0 : decode cX0_tape 0 = .ok (.iload_n 1, 1) := by decide +kernel
theorem dX0_tape_1 : decode cX0_tape 1 = .ok (.i2l, 1) := by decide +kernel
theorem dX0_tape_2 : decode cX0_tape 2 = .ok (.lconst 0, 1) := by decide +kernel
theorem dX0_tape_3 : decode cX0_tape 3 = .ok (.aload_n 0, 1) := by decide +kernel
theorem dX0_tape_4 : decode cX0_tape 4 = .ok (.getfield 98, 3) := by decide +kernel
theorem dX0_tape_7 : decode cX0_tape 7 = .ok (.getfield 474, 3) := by decide +kernel
theorem dX0_tape_10 : decode cX0_tape 10 = .ok (.i2l, 1) := by decide +kernel
theorem dX0_tape_11 : decode cX0_tape 11 = .ok (.lconst 1, 1) := by decide +kernel
theorem dX0_tape_12 : decode cX0_tape 12 = .ok (.lsub, 1) := by decide +kernel
theorem dX0_tape_13 : decode cX0_tape 13 = .ok (.invokestatic 17, 3) := by decide +kernel
theorem dX0_tape_16 : decode cX0_tape 16 = .ok (.ifCond .eq 19, 3) := by decide +kernel
theorem dX0_tape_19 : decode cX0_tape 19 = .ok (.aload_n 0, 1) := by decide +kernel
theorem dX0_tape_20 : decode cX0_tape 20 = .ok (.getfield 98, 3) := by decide +kernel
theorem dX0_tape_23 : decode cX0_tape 23 = .ok (.getfield 475, 3) := by decide +kernel
theorem dX0_tape_26 : decode cX0_tape 26 = .ok (.iload_n 1, 1) := by decide +kernel
theorem dX0_tape_27 : decode cX0_tape 27 = .ok (.baload, 1) := by decide +kernel
theorem dX0_tape_28 : decode cX0_tape 28 = .ok (.sipush 255, 3) := by decide +kernel
theorem dX0_tape_31 : decode cX0_tape 31 = .ok (.iand, 1) := by decide +kernel
theorem dX0_tape_32 : decode cX0_tape 32 = .ok (.goto 4, 3) := by decide +kernel
theorem dX0_tape_35 : decode cX0_tape 35 = .ok (.iconst (-1), 1) := by decide +kernel
theorem dX0_tape_36 : decode cX0_tape 36 = .ok (.ireturn, 1) := by decide +kernel
theorem zy_X0_tape : yX0_tape.cls ≠ "java/lang/invoke/MethodHandle" ∧ yX0_tape.cls ≠ "java/lang/invoke/VarHandle" ∧ (parseMethodDescriptor yX0_tape.desc).map (fun d => d.parameters.length) = some 1 := by decide +kernel
theorem w_fX0_tape {K : zK} (E : zE K cX0_tape "RingHouse" (some .int) 1) (hN : zNl K = 2) (hT : zTr K = (some 0)) (x1 : Int) : zR K 0 [(0, 2, 0), (1, 0, x1)] [] (fX0_tape x1) := by
  refine r_iload_n E dX0_tape_0 rfl 1 rfl ?_
  refine r_i2l E dX0_tape_1 ?_
  refine r_lconst (v := 0) E dX0_tape_2 (by decide) (zkJ (by decide) (by decide)) ?_
  refine r_aload_n E dX0_tape_3 rfl 0 rfl ?_
  refine r_gec (y := 0) E zc_2 dX0_tape_4 q1794 zr_2 (zh_104 (by decide)) (by decide) ?_
  refine r_getN E zc_67 zt_6602 dX0_tape_7 q1717 zr_67 (zg_6602 _) (by decide) (fun v1 => ?_)
  refine r_i2l E dX0_tape_10 ?_
  refine r_lconst (v := 1) E dX0_tape_11 (by decide) (zkJ (by decide) (by decide)) ?_
  refine r_lsub E dX0_tape_12 ?_
  refine r_callS E [(1, x1), (1, 0), (1, (zl (v1 - 1)))] [] rfl q1853 q1835 q227 q1836 dX0_tape_13 zy_X0_isIn rfl (by omega) (by decide) (Nat.le_of_ble_eq_true rfl) (fun l G => k_fX0_isIn l G x1 0 (zl (v1 - 1))) (fun v2 => ?_)
  refine r_if_eq E 35 (by decide) dX0_tape_16 (fun _ => ?_) (fun _ => ?_)
  · refine r_iconst E dX0_tape_35 (zkI (by decide) (by decide)) ?_
    exact r_ireturn E rfl hT dX0_tape_36
  · refine r_aload_n E dX0_tape_19 rfl 0 rfl ?_
    refine r_gec (y := 0) E zc_2 dX0_tape_20 q1794 zr_2 (zh_104 (by decide)) (by decide) ?_
    refine r_gecN (y := 0) E zc_67 dX0_tape_23 q1715 zr_67 (zh_6601 (by decide)) (by decide) ?_
    refine r_iload_n E dX0_tape_26 rfl 1 rfl ?_
    refine r_baload E zc_6601 za_6601 zt_6601 zx_6601 rfl rfl dX0_tape_27 (by decide) (fun v3 => ?_)
    refine r_sipush E dX0_tape_28 (by decide) (zkI (by decide) (by decide)) ?_
    refine r_imask (P := 256) E 8 (by decide) (by decide) (by decide) dX0_tape_31 ?_
    refine r_goto E 36 (by decide) dX0_tape_32 ?_
    exact r_ireturn E rfl hT dX0_tape_36
theorem k_fX0_tape (l : Launch) (G : zG) (x1 : Int) : zCt l G yX0_tape cX0_tape 2 (some .int) 1 [(2, 0), (0, x1)] (some 0) (fX0_tape x1) := zCt.of (by decide) (Nat.le_of_ble_eq_true rfl) (fun K E _ _ hN hT => w_fX0_tape E hN hT x1)
theorem dX0_alter_0 : decode cX0_alter 0 = .ok (.iload_n 1, 1) := by decide +kernel
theorem dX0_alter_1 : decode cX0_alter 1 = .ok (.i2l, 1) := by decide +kernel
theorem dX0_alter_2 : decode cX0_alter 2 = .ok (.lconst 0, 1) := by decide +kernel
theorem dX0_alter_3 : decode cX0_alter 3 = .ok (.aload_n 0, 1) := by decide +kernel
theorem dX0_alter_4 : decode cX0_alter 4 = .ok (.getfield 98, 3) := by decide +kernel
theorem dX0_alter_7 : decode cX0_alter 7 = .ok (.getfield 474, 3) := by decide +kernel
theorem dX0_alter_10 : decode cX0_alter 10 = .ok (.i2l, 1) := by decide +kernel
theorem dX0_alter_11 : decode cX0_alter 11 = .ok (.invokestatic 17, 3) := by decide +kernel
theorem dX0_alter_14 : decode cX0_alter 14 = .ok (.ifCond .eq 15, 3) := by decide +kernel
theorem dX0_alter_17 : decode cX0_alter 17 = .ok (.iload_n 2, 1) := by decide +kernel
theorem dX0_alter_18 : decode cX0_alter 18 = .ok (.i2l, 1) := by decide +kernel
theorem dX0_alter_19 : decode cX0_alter 19 = .ok (.lconst 0, 1) := by decide +kernel
theorem dX0_alter_20 : decode cX0_alter 20 = .ok (.ldc2_w 31, 3) := by decide +kernel
theorem dX0_alter_23 : decode cX0_alter 23 = .ok (.invokestatic 17, 3) := by decide +kernel
theorem dX0_alter_26 : decode cX0_alter 26 = .ok (.ifCond .ne 6, 3) := by decide +kernel
theorem dX0_alter_29 : decode cX0_alter 29 = .ok (.bipush (-8), 2) := by decide +kernel
theorem dX0_alter_31 : decode cX0_alter 31 = .ok (.ireturn, 1) := by decide +kernel
theorem dX0_alter_32 : decode cX0_alter 32 = .ok (.iload_n 1, 1) := by decide +kernel
theorem dX0_alter_33 : decode cX0_alter 33 = .ok (.ldc_w 479, 3) := by decide +kernel
theorem dX0_alter_36 : decode cX0_alter 36 = .ok (.if_icmp .ne 6, 3) := by decide +kernel
theorem dX0_alter_39 : decode cX0_alter 39 = .ok (.bipush (-5), 2) := by decide +kernel
theorem dX0_alter_41 : decode cX0_alter 41 = .ok (.ireturn, 1) := by decide +kernel
theorem dX0_alter_42 : decode cX0_alter 42 = .ok (.aload_n 0, 1) := by decide +kernel
theorem dX0_alter_43 : decode cX0_alter 43 = .ok (.getfield 98, 3) := by decide +kernel
theorem dX0_alter_46 : decode cX0_alter 46 = .ok (.getfield 475, 3) := by decide +kernel
theorem dX0_alter_49 : decode cX0_alter 49 = .ok (.iload_n 1, 1) := by decide +kernel
theorem dX0_alter_50 : decode cX0_alter 50 = .ok (.iload_n 2, 1) := by decide +kernel
theorem dX0_alter_51 : decode cX0_alter 51 = .ok (.i2b, 1) := by decide +kernel
theorem dX0_alter_52 : decode cX0_alter 52 = .ok (.bastore, 1) := by decide +kernel
theorem dX0_alter_53 : decode cX0_alter 53 = .ok (.aload_n 0, 1) := by decide +kernel
theorem dX0_alter_54 : decode cX0_alter 54 = .ok (.getfield 98, 3) := by decide +kernel
theorem dX0_alter_57 : decode cX0_alter 57 = .ok (.iload_n 1, 1) := by decide +kernel
theorem dX0_alter_58 : decode cX0_alter 58 = .ok (.aload_n 0, 1) := by decide +kernel
theorem dX0_alter_59 : decode cX0_alter 59 = .ok (.getfield 98, 3) := by decide +kernel
theorem dX0_alter_62 : decode cX0_alter 62 = .ok (.getfield 474, 3) := by decide +kernel
theorem dX0_alter_65 : decode cX0_alter 65 = .ok (.if_icmp .ne 9, 3) := by decide +kernel
theorem dX0_alter_68 : decode cX0_alter 68 = .ok (.iload_n 1, 1) := by decide +kernel
theorem dX0_alter_69 : decode cX0_alter 69 = .ok (.iconst 1, 1) := by decide +kernel
theorem dX0_alter_70 : decode cX0_alter 70 = .ok (.iadd, 1) := by decide +kernel
theorem dX0_alter_71 : decode cX0_alter 71 = .ok (.goto 10, 3) := by decide +kernel
theorem dX0_alter_74 : decode cX0_alter 74 = .ok (.aload_n 0, 1) := by decide +kernel
theorem dX0_alter_75 : decode cX0_alter 75 = .ok (.getfield 98, 3) := by decide +kernel
theorem dX0_alter_78 : decode cX0_alter 78 = .ok (.getfield 474, 3) := by decide +kernel
theorem dX0_alter_81 : decode cX0_alter 81 = .ok (.putfield 474, 3) := by decide +kernel
theorem dX0_alter_84 : decode cX0_alter 84 = .ok (.aload_n 0, 1) := by decide +kernel
theorem dX0_alter_85 : decode cX0_alter 85 = .ok (.getfield 98, 3) := by decide +kernel
theorem dX0_alter_88 : decode cX0_alter 88 = .ok (.getfield 474, 3) := by decide +kernel
theorem dX0_alter_91 : decode cX0_alter 91 = .ok (.ireturn, 1) := by decide +kernel
theorem zy_X0_alter : yX0_alter.cls ≠ "java/lang/invoke/MethodHandle" ∧ yX0_alter.cls ≠ "java/lang/invoke/VarHandle" ∧ (parseMethodDescriptor yX0_alter.desc).map (fun d => d.parameters.length) = some 2 := by decide +kernel
theorem w_fX0_alter_J81 {K : zK} (E : zE K cX0_alter "RingHouse" (some .int) 1) (hN : zNl K = 3) (hT : zTr K = (some 0)) (s1 : Int) : zR K 81 [(0, 2, 0)] [(0, s1), (67, 0)] (fX0_alter_J81 s1) := by
  refine r_putN E zc_67 zt_6602 zo_6602 dX0_alter_81 q1717 zr_67 zw_X65 zp_6602 (fun _ => rfl) (fun _ => rfl) (by decide) ?_
  refine r_aload_n E dX0_alter_84 rfl 0 rfl ?_
  refine r_gec (y := 0) E zc_2 dX0_alter_85 q1794 zr_2 (zh_104 (by decide)) (by decide) ?_
  refine r_getN E zc_67 zt_6602 dX0_alter_88 q1717 zr_67 (zg_6602 _) (by decide) (fun v6 => ?_)
  exact r_ireturn E rfl hT dX0_alter_91
theorem w_fX0_alter {K : zK} (E : zE K cX0_alter "RingHouse" (some .int) 1) (hN : zNl K = 3) (hT : zTr K = (some 0)) (x1 : Int) (x2 : Int) : zR K 0 [(0, 2, 0), (1, 0, x1), (2, 0, x2)] [] (fX0_alter x1 x2) := by
  refine r_iload_n E dX0_alter_0 rfl 1 rfl ?_
  refine r_i2l E dX0_alter_1 ?_
  refine r_lconst (v := 0) E dX0_alter_2 (by decide) (zkJ (by decide) (by decide)) ?_
  refine r_aload_n E dX0_alter_3 rfl 0 rfl ?_
  refine r_gec (y := 0) E zc_2 dX0_alter_4 q1794 zr_2 (zh_104 (by decide)) (by decide) ?_
  refine r_getN E zc_67 zt_6602 dX0_alter_7 q1717 zr_67 (zg_6602 _) (by decide) (fun v1 => ?_)
  refine r_i2l E dX0_alter_10 ?_
  refine r_callS E [(1, x1), (1, 0), (1, v1)] [] rfl q1853 q1835 q227 q1836 dX0_alter_11 zy_X0_isIn rfl (by omega) (by decide) (Nat.le_of_ble_eq_true rfl) (fun l G => k_fX0_isIn l G x1 0 v1) (fun v2 => ?_)
  refine r_if_eq E 29 (by decide) dX0_alter_14 (fun _ => ?_) (fun _ => ?_)
  · refine r_bipush E dX0_alter_29 (by decide) (zkI (by decide) (by decide)) ?_
    exact r_ireturn E rfl hT dX0_alter_31
  · refine r_iload_n E dX0_alter_17 rfl 2 rfl ?_
    refine r_i2l E dX0_alter_18 ?_
    refine r_lconst (v := 0) E dX0_alter_19 (by decide) (zkJ (by decide) (by decide)) ?_
    refine r_ldc2 (v := 255) E dX0_alter_20 q1860 (by decide) (zkJ (by decide) (by decide)) ?_
    refine r_callS E [(1, x2), (1, 0), (1, 255)] [] rfl q1853 q1835 q227 q1836 dX0_alter_23 zy_X0_isIn rfl (by omega) (by decide) (Nat.le_of_ble_eq_true rfl) (fun l G => k_fX0_isIn l G x2 0 255) (fun v3 => ?_)
    refine r_if_ne E 32 (by decide) dX0_alter_26 (fun _ => ?_) (fun _ => ?_)
    · refine r_iload_n E dX0_alter_32 rfl 1 rfl ?_
      refine r_ldcw (v := 98304) E dX0_alter_33 q3069 (by decide) (zkI (by decide) (by decide)) ?_
      refine r_icmp_ne E 42 (by decide) dX0_alter_36 (fun _ => ?_) (fun _ => ?_)
      · refine r_aload_n E dX0_alter_42 rfl 0 rfl ?_
        refine r_gec (y := 0) E zc_2 dX0_alter_43 q1794 zr_2 (zh_104 (by decide)) (by decide) ?_
        refine r_gecN (y := 0) E zc_67 dX0_alter_46 q1715 zr_67 (zh_6601 (by decide)) (by decide) ?_
        refine r_iload_n E dX0_alter_49 rfl 1 rfl ?_
        refine r_iload_n E dX0_alter_50 rfl 2 rfl ?_
        refine r_i2b E dX0_alter_51 ?_
        refine r_bastore E zc_6601 za_6601 zt_6601 zo_6601 zx_6601 rfl rfl dX0_alter_52 (by decide) ?_
        refine r_aload_n E dX0_alter_53 rfl 0 rfl ?_
        refine r_gec (y := 0) E zc_2 dX0_alter_54 q1794 zr_2 (zh_104 (by decide)) (by decide) ?_
        refine r_iload_n E dX0_alter_57 rfl 1 rfl ?_
        refine r_aload_n E dX0_alter_58 rfl 0 rfl ?_
        refine r_gec (y := 0) E zc_2 dX0_alter_59 q1794 zr_2 (zh_104 (by decide)) (by decide) ?_
        refine r_getN E zc_67 zt_6602 dX0_alter_62 q1717 zr_67 (zg_6602 _) (by decide) (fun v4 => ?_)
        refine r_icmp_ne E 74 (by decide) dX0_alter_65 (fun _ => ?_) (fun _ => ?_)
        · refine r_aload_n E dX0_alter_74 rfl 0 rfl ?_
          refine r_gec (y := 0) E zc_2 dX0_alter_75 q1794 zr_2 (zh_104 (by decide)) (by decide) ?_
          refine r_getN E zc_67 zt_6602 dX0_alter_78 q1717 zr_67 (zg_6602 _) (by decide) (fun v5 => ?_)
          refine r_pick E [0] rfl ?_
          exact w_fX0_alter_J81 E hN hT v5
        · refine r_iload_n E dX0_alter_68 rfl 1 rfl ?_
          refine r_iconst E dX0_alter_69 (zkI (by decide) (by decide)) ?_
          refine r_iadd E dX0_alter_70 ?_
          refine r_goto E 81 (by decide) dX0_alter_71 ?_
          refine r_pick E [0] rfl ?_
          exact w_fX0_alter_J81 E hN hT (zi (x1 + 1))
      · refine r_bipush E dX0_alter_39 (by decide) (zkI (by decide) (by decide)) ?_
        exact r_ireturn E rfl hT dX0_alter_41
    · refine r_bipush E dX0_alter_29 (by decide) (zkI (by decide) (by decide)) ?_
      exact r_ireturn E rfl hT dX0_alter_31
theorem k_fX0_alter (l : Launch) (G : zG) (x1 : Int) (x2 : Int) : zCt l G yX0_alter cX0_alter 3 (some .int) 1 [(2, 0), (0, x1), (0, x2)] (some 0) (fX0_alter x1 x2) := zCt.of (by decide) (Nat.le_of_ble_eq_true rfl) (fun K E _ _ hN hT => w_fX0_alter E hN hT x1 x2)
theorem dX0_cut_0 : decode cX0_cut 0 = .ok (.iload_n 1, 1) := by decide +kernel
theorem dX0_cut_1 : decode cX0_cut 1 = .ok (.i2l, 1) := by decide +kernel
theorem dX0_cut_2 : decode cX0_cut 2 = .ok (.lconst 0, 1) := by decide +kernel
theorem dX0_cut_3 : decode cX0_cut 3 = .ok (.aload_n 0, 1) := by decide +kernel
theorem dX0_cut_4 : decode cX0_cut 4 = .ok (.getfield 98, 3) := by decide +kernel
theorem dX0_cut_7 : decode cX0_cut 7 = .ok (.getfield 474, 3) := by decide +kernel
theorem dX0_cut_10 : decode cX0_cut 10 = .ok (.i2l, 1) := by decide +kernel
theorem dX0_cut_11 : decode cX0_cut 11 = .ok (.invokestatic 17, 3) := by decide +kernel
theorem dX0_cut_14 : decode cX0_cut 14 = .ok (.ifCond .ne 6, 3) := by decide +kernel
theorem dX0_cut_17 : decode cX0_cut 17 = .ok (.bipush (-8), 2) := by decide +kernel
theorem dX0_cut_19 : decode cX0_cut 19 = .ok (.ireturn, 1) := by decide +kernel
theorem dX0_cut_20 : decode cX0_cut 20 = .ok (.aload_n 0, 1) := by decide +kernel
theorem dX0_cut_21 : decode cX0_cut 21 = .ok (.getfield 98, 3) := by decide +kernel
theorem dX0_cut_24 : decode cX0_cut 24 = .ok (.getfield 474, 3) := by decide +kernel
theorem dX0_cut_27 : decode cX0_cut 27 = .ok (.iload_n 1, 1) := by decide +kernel
theorem dX0_cut_28 : decode cX0_cut 28 = .ok (.isub, 1) := by decide +kernel
theorem dX0_cut_29 : decode cX0_cut 29 = .ok (.istore_n 2, 1) := by decide +kernel
theorem dX0_cut_30 : decode cX0_cut 30 = .ok (.aload_n 0, 1) := by decide +kernel
theorem dX0_cut_31 : decode cX0_cut 31 = .ok (.getfield 98, 3) := by decide +kernel
theorem dX0_cut_34 : decode cX0_cut 34 = .ok (.iload_n 1, 1) := by decide +kernel
theorem dX0_cut_35 : decode cX0_cut 35 = .ok (.putfield 474, 3) := by decide +kernel
theorem dX0_cut_38 : decode cX0_cut 38 = .ok (.iload_n 2, 1) := by decide +kernel
theorem dX0_cut_39 : decode cX0_cut 39 = .ok (.ireturn, 1) := by decide +kernel
theorem zy_X0_cut : yX0_cut.cls ≠ "java/lang/invoke/MethodHandle" ∧ yX0_cut.cls ≠ "java/lang/invoke/VarHandle" ∧ (parseMethodDescriptor yX0_cut.desc).map (fun d => d.parameters.length) = some 1 := by decide +kernel
theorem w_fX0_cut {K : zK} (E : zE K cX0_cut "RingHouse" (some .int) 1) (hN : zNl K = 3) (hT : zTr K = (some 0)) (x1 : Int) : zR K 0 [(0, 2, 0), (1, 0, x1)] [] (fX0_cut x1) := by
  refine r_iload_n E dX0_cut_0 rfl 1 rfl ?_
  refine r_i2l E dX0_cut_1 ?_
  refine r_lconst (v := 0) E dX0_cut_2 (by decide) (zkJ (by decide) (by decide)) ?_
  refine r_aload_n E dX0_cut_3 rfl 0 rfl ?_
  refine r_gec (y := 0) E zc_2 dX0_cut_4 q1794 zr_2 (zh_104 (by decide)) (by decide) ?_
  refine r_getN E zc_67 zt_6602 dX0_cut_7 q1717 zr_67 (zg_6602 _) (by decide) (fun v1 => ?_)
  refine r_i2l E dX0_cut_10 ?_
  refine r_callS E [(1, x1), (1, 0), (1, v1)] [] rfl q1853 q1835 q227 q1836 dX0_cut_11 zy_X0_isIn rfl (by omega) (by decide) (Nat.le_of_ble_eq_true rfl) (fun l G => k_fX0_isIn l G x1 0 v1) (fun v2 => ?_)
  refine r_if_ne E 20 (by decide) dX0_cut_14 (fun _ => ?_) (fun _ => ?_)
  · refine r_aload_n E dX0_cut_20 rfl 0 rfl ?_
    refine r_gec (y := 0) E zc_2 dX0_cut_21 q1794 zr_2 (zh_104 (by decide)) (by decide) ?_
    refine r_getN E zc_67 zt_6602 dX0_cut_24 q1717 zr_67 (zg_6602 _) (by decide) (fun v3 => ?_)
    refine r_iload_n E dX0_cut_27 rfl 1 rfl ?_
    refine r_isub E dX0_cut_28 ?_
    refine r_let E (fun v4 ev4 => ?_)
    refine r_istore_n (ls' := [(2, 0, v4), (0, 2, 0), (1, 0, x1)]) E dX0_cut_29 rfl (by rw [hN]; decide) rfl ?_
    refine r_aload_n E dX0_cut_30 rfl 1 rfl ?_
    refine r_gec (y := 0) E zc_2 dX0_cut_31 q1794 zr_2 (zh_104 (by decide)) (by decide) ?_
    refine r_iload_n E dX0_cut_34 rfl 2 rfl ?_
    refine r_putN E zc_67 zt_6602 zo_6602 dX0_cut_35 q1717 zr_67 zw_X65 zp_6602 (fun _ => rfl) (fun _ => rfl) (by decide) ?_
    refine r_iload_n E dX0_cut_38 rfl 0 rfl ?_
    exact r_ireturn E rfl hT dX0_cut_39
  · refine r_bipush E dX0_cut_17 (by decide) (zkI (by decide) (by decide)) ?_
    exact r_ireturn E rfl hT dX0_cut_19
theorem k_fX0_cut (l : Launch) (G : zG) (x1 : Int) : zCt l G yX0_cut cX0_cut 3 (some .int) 1 [(2, 0), (0, x1)] (some 0) (fX0_cut x1) := zCt.of (by decide) (Nat.le_of_ble_eq_true rfl) (fun K E _ _ hN hT => w_fX0_cut E hN hT x1)
theorem dX65_wrong_0 : decode cX65_wrong 0 = .ok (.aload_n 0, 1) := by decide +kernel
theorem dX65_wrong_1 : decode cX65_wrong 1 = .ok (.getfield 160, 3) := by decide +kernel
theorem dX65_wrong_4 : decode cX65_wrong 4 = .ok (.ifCond .ne 13, 3) := by decide +kernel
theorem dX65_wrong_7 : decode cX65_wrong 7 = .ok (.aload_n 0, 1) := by decide +kernel
theorem dX65_wrong_8 : decode cX65_wrong 8 = .ok (.iload_n 1, 1) := by decide +kernel
theorem dX65_wrong_9 : decode cX65_wrong 9 = .ok (.putfield 160, 3) := by decide +kernel
theorem dX65_wrong_12 : decode cX65_wrong 12 = .ok (.aload_n 0, 1) := by decide +kernel
theorem dX65_wrong_13 : decode cX65_wrong 13 = .ok (.iload_n 2, 1) := by decide +kernel
theorem dX65_wrong_14 : decode cX65_wrong 14 = .ok (.putfield 163, 3) := by decide +kernel
theorem dX65_wrong_17 : decode cX65_wrong 17 = .ok (.iconst 0, 1) := by decide +kernel
theorem dX65_wrong_18 : decode cX65_wrong 18 = .ok (.ireturn, 1) := by decide +kernel
theorem zy_X65_wrong : yX65_wrong.cls ≠ "java/lang/invoke/MethodHandle" ∧ yX65_wrong.cls ≠ "java/lang/invoke/VarHandle" ∧ (parseMethodDescriptor yX65_wrong.desc).map (fun d => d.parameters.length) = some 2 := by decide +kernel
theorem w_fX65_wrong {K : zK} (E : zE K cX65_wrong "RingHouse$Tape" (some .boolean) 0) (hN : zNl K = 3) (hT : zTr K = (some 0)) (x1 : Int) (x2 : Int) : zR K 0 [(0, 67, 0), (1, 0, x1), (2, 0, x2)] [] (fX65_wrong x1 x2) := by
  refine r_aload_n E dX65_wrong_0 rfl 0 rfl ?_
  refine r_get E zc_67 zt_6604 dX65_wrong_1 q1719 zr_67 (zg_6604 _) (by decide) (fun v1 => ?_)
  refine r_if_ne E 17 (by decide) dX65_wrong_4 (fun _ => ?_) (fun _ => ?_)
  · refine r_iconst E dX65_wrong_17 (zkI (by decide) (by decide)) ?_
    exact r_zreturn E rfl hT (by decide) dX65_wrong_18
  · refine r_aload_n E dX65_wrong_7 rfl 0 rfl ?_
    refine r_iload_n E dX65_wrong_8 rfl 1 rfl ?_
    refine r_put E zc_67 zt_6604 zo_6604 dX65_wrong_9 q1719 zr_67 zw_X65 zp_6604 (fun _ => rfl) (fun _ => rfl) (by decide) ?_
    refine r_aload_n E dX65_wrong_12 rfl 0 rfl ?_
    refine r_iload_n E dX65_wrong_13 rfl 2 rfl ?_
    refine r_put E zc_67 zt_6605 zo_6605 dX65_wrong_14 q1720 zr_67 zw_X65 zp_6605 (fun _ => rfl) (fun _ => rfl) (by decide) ?_
    refine r_iconst E dX65_wrong_17 (zkI (by decide) (by decide)) ?_
    exact r_zreturn E rfl hT (by decide) dX65_wrong_18
theorem k_fX65_wrong (l : Launch) (G : zG) (x1 : Int) (x2 : Int) : zCt l G yX65_wrong cX65_wrong 3 (some .boolean) 0 [(67, 0), (0, x1), (0, x2)] (some 0) (fX65_wrong x1 x2) := zCt.of (by decide) (Nat.le_of_ble_eq_true rfl) (fun K E _ _ hN hT => w_fX65_wrong E hN hT x1 x2)
theorem dX65_take_0 : decode cX65_take 0 = .ok (.aload_n 0, 1) := by decide +kernel
theorem dX65_take_1 : decode cX65_take 1 = .ok (.getfield 166, 3) := by decide +kernel
theorem dX65_take_4 : decode cX65_take 4 = .ok (.aload_n 0, 1) := by decide +kernel
theorem dX65_take_5 : decode cX65_take 5 = .ok (.getfield 46, 3) := by decide +kernel
theorem dX65_take_8 : decode cX65_take 8 = .ok (.if_icmp .lt 15, 3) := by decide +kernel
theorem dX65_take_11 : decode cX65_take 11 = .ok (.aload_n 0, 1) := by decide +kernel
theorem dX65_take_12 : decode cX65_take 12 = .ok (.iconst 1, 1) := by decide +kernel
theorem dX65_take_13 : decode cX65_take 13 = .ok (.aload_n 0, 1) := by decide +kernel
theorem dX65_take_14 : decode cX65_take 14 = .ok (.getfield 46, 3) := by decide +kernel
theorem dX65_take_17 : decode cX65_take 17 = .ok (.invokevirtual 169, 3) := by decide +kernel
theorem dX65_take_20 : decode cX65_take 20 = .ok (.pop, 1) := by decide +kernel
theorem dX65_take_21 : decode cX65_take 21 = .ok (.iconst 0, 1) := by decide +kernel
theorem dX65_take_22 : decode cX65_take 22 = .ok (.ireturn, 1) := by decide +kernel
theorem dX65_take_23 : decode cX65_take 23 = .ok (.aload_n 0, 1) := by decide +kernel
theorem dX65_take_24 : decode cX65_take 24 = .ok (.dup, 1) := by decide +kernel
theorem dX65_take_25 : decode cX65_take 25 = .ok (.getfield 166, 3) := by decide +kernel
theorem dX65_take_28 : decode cX65_take 28 = .ok (.iconst 1, 1) := by decide +kernel
theorem dX65_take_29 : decode cX65_take 29 = .ok (.iadd, 1) := by decide +kernel
theorem dX65_take_30 : decode cX65_take 30 = .ok (.putfield 166, 3) := by decide +kernel
theorem dX65_take_33 : decode cX65_take 33 = .ok (.aload_n 0, 1) := by decide +kernel
theorem dX65_take_34 : decode cX65_take 34 = .ok (.getfield 10, 3) := by decide +kernel
theorem dX65_take_37 : decode cX65_take 37 = .ok (.aload_n 0, 1) := by decide +kernel
theorem dX65_take_38 : decode cX65_take 38 = .ok (.getfield 166, 3) := by decide +kernel
theorem dX65_take_41 : decode cX65_take 41 = .ok (.iconst 1, 1) := by decide +kernel
theorem dX65_take_42 : decode cX65_take 42 = .ok (.isub, 1) := by decide +kernel
theorem dX65_take_43 : decode cX65_take 43 = .ok (.baload, 1) := by decide +kernel
theorem dX65_take_44 : decode cX65_take 44 = .ok (.sipush 255, 3) := by decide +kernel
theorem dX65_take_47 : decode cX65_take 47 = .ok (.iand, 1) := by decide +kernel
theorem dX65_take_48 : decode cX65_take 48 = .ok (.ireturn, 1) := by decide +kernel
theorem zy_X65_take : yX65_take.cls ≠ "java/lang/invoke/MethodHandle" ∧ yX65_take.cls ≠ "java/lang/invoke/VarHandle" ∧ (parseMethodDescriptor yX65_take.desc).map (fun d => d.parameters.length) = some 0 := by decide +kernel
theorem w_fX65_take {K : zK} (E : zE K cX65_take "RingHouse$Tape" (some .int) 1) (hN : zNl K = 1) (hT : zTr K = (some 0)) : zR K 0 [(0, 67, 0)] [] (fX65_take) := by
  refine r_aload_n E dX65_take_0 rfl 0 rfl ?_
  refine r_get E zc_67 zt_6603 dX65_take_1 q1718 zr_67 (zg_6603 _) (by decide) (fun v1 => ?_)
  refine r_aload_n E dX65_take_4 rfl 0 rfl ?_
  refine r_get E zc_67 zt_6602 dX65_take_5 q1716 zr_67 (zg_6602 _) (by decide) (fun v2 => ?_)
  refine r_icmp_lt E 23 (by decide) dX65_take_8 (fun _ => ?_) (fun _ => ?_)
  · refine r_aload_n E dX65_take_23 rfl 0 rfl ?_
    refine r_dup E (zn1 rfl) dX65_take_24 ?_
    refine r_get E zc_67 zt_6603 dX65_take_25 q1718 zr_67 (zg_6603 _) (by decide) (fun v3 => ?_)
    refine r_iconst E dX65_take_28 (zkI (by decide) (by decide)) ?_
    refine r_iadd E dX65_take_29 ?_
    refine r_put E zc_67 zt_6603 zo_6603 dX65_take_30 q1718 zr_67 zw_X65 zp_6603 (fun _ => rfl) (fun _ => rfl) (by decide) ?_
    refine r_aload_n E dX65_take_33 rfl 0 rfl ?_
    refine r_gec (y := 0) E zc_67 dX65_take_34 q1714 zr_67 (zh_6601 (by decide)) (by decide) ?_
    refine r_aload_n E dX65_take_37 rfl 0 rfl ?_
    refine r_get E zc_67 zt_6603 dX65_take_38 q1718 zr_67 (zg_6603 _) (by decide) (fun v4 => ?_)
    refine r_iconst E dX65_take_41 (zkI (by decide) (by decide)) ?_
    refine r_isub E dX65_take_42 ?_
    refine r_baload E zc_6601 za_6601 zt_6601 zx_6601 rfl rfl dX65_take_43 (by decide) (fun v5 => ?_)
    refine r_sipush E dX65_take_44 (by decide) (zkI (by decide) (by decide)) ?_
    refine r_imask (P := 256) E 8 (by decide) (by decide) (by decide) dX65_take_47 ?_
    exact r_ireturn E rfl hT dX65_take_48
  · refine r_aload_n E dX65_take_11 rfl 0 rfl ?_
    refine r_iconst E dX65_take_12 (zkI (by decide) (by decide)) ?_
    refine r_aload_n E dX65_take_13 rfl 0 rfl ?_
    refine r_get E zc_67 zt_6602 dX65_take_14 q1716 zr_67 (zg_6602 _) (by decide) (fun v6 => ?_)
    refine r_callV E [(0, 1), (0, v6)] [] rfl zc_67 zr_67 (fun o _ => ⟨_, zw_X65.1 o, rfl⟩) (lw_V q3092 q3094 qs78 q292 q3095) dX65_take_17 zy_X65_wrong rfl (by omega) (by decide) (Nat.le_of_ble_eq_true rfl) (by decide) (fun l G => k_fX65_wrong l G 1 v6) (fun v7 => ?_)
    refine r_pop E (zn1 rfl) dX65_take_20 ?_
    refine r_iconst E dX65_take_21 (zkI (by decide) (by decide)) ?_
    exact r_ireturn E rfl hT dX65_take_22
theorem k_fX65_take (l : Launch) (G : zG) : zCt l G yX65_take cX65_take 1 (some .int) 1 [(67, 0)] (some 0) (fX65_take) := zCt.of (by decide) (Nat.le_of_ble_eq_true rfl) (fun K E _ _ hN hT => w_fX65_take E hN hT)
theorem dX65_take_2_0 : decode cX65_take_2 0 = .ok (.aload_n 0, 1) := by decide +kernel
theorem dX65_take_2_1 : decode cX65_take_2 1 = .ok (.getfield 166, 3) := by decide +kernel
theorem dX65_take_2_4 : decode cX65_take_2 4 = .ok (.istore_n 3, 1) := by decide +kernel
theorem dX65_take_2_5 : decode cX65_take_2 5 = .ok (.aload_n 0, 1) := by decide +kernel
theorem dX65_take_2_6 : decode cX65_take_2 6 = .ok (.invokevirtual 173, 3) := by decide +kernel
theorem dX65_take_2_9 : decode cX65_take_2 9 = .ok (.istore 4, 2) := by decide +kernel
theorem dX65_take_2_11 : decode cX65_take_2 11 = .ok (.aload_n 0, 1) := by decide +kernel
theorem dX65_take_2_12 : decode cX65_take_2 12 = .ok (.getfield 160, 3) := by decide +kernel
theorem dX65_take_2_15 : decode cX65_take_2 15 = .ok (.ifCond .ne 22, 3) := by decide +kernel
theorem dX65_take_2_18 : decode cX65_take_2 18 = .ok (.iload 4, 2) := by decide +kernel
theorem dX65_take_2_20 : decode cX65_take_2 20 = .ok (.iload_n 1, 1) := by decide +kernel
theorem dX65_take_2_21 : decode cX65_take_2 21 = .ok (.if_icmp .lt 9, 3) := by decide +kernel
theorem dX65_take_2_24 : decode cX65_take_2 24 = .ok (.iload 4, 2) := by decide +kernel
theorem dX65_take_2_26 : decode cX65_take_2 26 = .ok (.iload_n 2, 1) := by decide +kernel
theorem dX65_take_2_27 : decode cX65_take_2 27 = .ok (.if_icmp .le 10, 3) := by decide +kernel
theorem dX65_take_2_30 : decode cX65_take_2 30 = .ok (.aload_n 0, 1) := by decide +kernel
theorem dX65_take_2_31 : decode cX65_take_2 31 = .ok (.iconst 3, 1) := by decide +kernel
theorem dX65_take_2_32 : decode cX65_take_2 32 = .ok (.iload_n 3, 1) := by decide +kernel
theorem dX65_take_2_33 : decode cX65_take_2 33 = .ok (.invokevirtual 169, 3) := by decide +kernel
theorem dX65_take_2_36 : decode cX65_take_2 36 = .ok (.pop, 1) := by decide +kernel
theorem dX65_take_2_37 : decode cX65_take_2 37 = .ok (.iload 4, 2) := by decide +kernel
theorem dX65_take_2_39 : decode cX65_take_2 39 = .ok (.ireturn, 1) := by decide +kernel
theorem zy_X65_take_2 : yX65_take_2.cls ≠ "java/lang/invoke/MethodHandle" ∧ yX65_take_2.cls ≠ "java/lang/invoke/VarHandle" ∧ (parseMethodDescriptor yX65_take_2.desc).map (fun d => d.parameters.length) = some 2 := by decide +kernel
theorem w_fX65_take_2_J30 {K : zK} (E : zE K cX65_take_2 "RingHouse$Tape" (some .int) 2) (hN : zNl K = 5) (hT : zTr K = (some 0)) (x3 : Int) (x4 : Int) : zR K 30 [(0, 67, 0), (3, 0, x3), (4, 0, x4)] [] (fX65_take_2_J30 x3 x4) := by
  refine r_aload_n E dX65_take_2_30 rfl 0 rfl ?_
  refine r_iconst E dX65_take_2_31 (zkI (by decide) (by decide)) ?_
  refine r_iload_n E dX65_take_2_32 rfl 1 rfl ?_
  refine r_callV E [(0, 3), (0, x3)] [] rfl zc_67 zr_67 (fun o _ => ⟨_, zw_X65.1 o, rfl⟩) (lw_V q3092 q3094 qs78 q292 q3095) dX65_take_2_33 zy_X65_wrong rfl (by omega) (by decide) (Nat.le_of_ble_eq_true rfl) (by decide) (fun l G => k_fX65_wrong l G 3 x3) (fun v4 => ?_)
  refine r_pop E (zn1 rfl) dX65_take_2_36 ?_
  refine r_iload E dX65_take_2_37 2 rfl ?_
  exact r_ireturn E rfl hT dX65_take_2_39
theorem w_fX65_take_2 {K : zK} (E : zE K cX65_take_2 "RingHouse$Tape" (some .int) 2) (hN : zNl K = 5) (hT : zTr K = (some 0)) (x1 : Int) (x2 : Int) : zR K 0 [(0, 67, 0), (1, 0, x1), (2, 0, x2)] [] (fX65_take_2 x1 x2) := by
  refine r_aload_n E dX65_take_2_0 rfl 0 rfl ?_
  refine r_get E zc_67 zt_6603 dX65_take_2_1 q1718 zr_67 (zg_6603 _) (by decide) (fun v1 => ?_)
  refine r_istore_n (ls' := [(3, 0, v1), (0, 67, 0), (1, 0, x1), (2, 0, x2)]) E dX65_take_2_4 rfl (by rw [hN]; decide) rfl ?_
  refine r_aload_n E dX65_take_2_5 rfl 1 rfl ?_
  refine r_callV E [] [] rfl zc_67 zr_67 (fun o _ => ⟨_, zw_X65.1 o, rfl⟩) (lw_V q3088 q3090 qs77 q292 q3091) dX65_take_2_6 zy_X65_take rfl (by omega) (by decide) (Nat.le_of_ble_eq_true rfl) (by decide) (fun l G => k_fX65_take l G) (fun v2 => ?_)
  refine r_istore (ls' := [(4, 0, v2), (3, 0, v1), (0, 67, 0), (1, 0, x1), (2, 0, x2)]) E dX65_take_2_9 (by rw [hN]; decide) rfl ?_
  refine r_aload_n E dX65_take_2_11 rfl 2 rfl ?_
  refine r_get E zc_67 zt_6604 dX65_take_2_12 q1719 zr_67 (zg_6604 _) (by decide) (fun v3 => ?_)
  refine r_if_ne E 37 (by decide) dX65_take_2_15 (fun _ => ?_) (fun _ => ?_)
  · refine r_iload E dX65_take_2_37 0 rfl ?_
    exact r_ireturn E rfl hT dX65_take_2_39
  · refine r_iload E dX65_take_2_18 0 rfl ?_
    refine r_iload_n E dX65_take_2_20 rfl 3 rfl ?_
    refine r_icmp_lt E 30 (by decide) dX65_take_2_21 (fun _ => ?_) (fun _ => ?_)
    · refine r_pick E [2, 1, 0] rfl ?_
      exact w_fX65_take_2_J30 E hN hT v1 v2
    · refine r_iload E dX65_take_2_24 0 rfl ?_
      refine r_iload_n E dX65_take_2_26 rfl 4 rfl ?_
      refine r_icmp_le E 37 (by decide) dX65_take_2_27 (fun _ => ?_) (fun _ => ?_)
      · refine r_iload E dX65_take_2_37 0 rfl ?_
        exact r_ireturn E rfl hT dX65_take_2_39
      · refine r_pick E [2, 1, 0] rfl ?_
        exact w_fX65_take_2_J30 E hN hT v1 v2
theorem k_fX65_take_2 (l : Launch) (G : zG) (x1 : Int) (x2 : Int) : zCt l G yX65_take_2 cX65_take_2 5 (some .int) 2 [(67, 0), (0, x1), (0, x2)] (some 0) (fX65_take_2 x1 x2) := zCt.of (by decide) (Nat.le_of_ble_eq_true rfl) (fun K E _ _ hN hT => w_fX65_take_2 E hN hT x1 x2)
theorem dX65_takeWord_0 : decode cX65_takeWord 0 = .ok (.lconst 0, 1) := by decide +kernel
theorem dX65_takeWord_1 : decode cX65_takeWord 1 = .ok (.lstore_n 1, 1) := by decide +kernel
theorem dX65_takeWord_2 : decode cX65_takeWord 2 = .ok (.iconst 0, 1) := by decide +kernel
theorem dX65_takeWord_3 : decode cX65_takeWord 3 = .ok (.istore_n 3, 1) := by decide +kernel
theorem dX65_takeWord_4 : decode cX65_takeWord 4 = .ok (.iload_n 3, 1) := by decide +kernel
theorem dX65_takeWord_5 : decode cX65_takeWord 5 = .ok (.iconst 5, 1) := by decide +kernel
theorem dX65_takeWord_6 : decode cX65_takeWord 6 = .ok (.if_icmp .ge 20, 3) := by decide +kernel
theorem dX65_takeWord_9 : decode cX65_takeWord 9 = .ok (.lload_n 1, 1) := by decide +kernel
theorem dX65_takeWord_10 : decode cX65_takeWord 10 = .ok (.bipush 8, 2) := by decide +kernel
theorem dX65_takeWord_12 : decode cX65_takeWord 12 = .ok (.lshl, 1) := by decide +kernel
theorem dX65_takeWord_13 : decode cX65_takeWord 13 = .ok (.aload_n 0, 1) := by decide +kernel
theorem dX65_takeWord_14 : decode cX65_takeWord 14 = .ok (.invokevirtual 173, 3) := by decide +kernel
theorem dX65_takeWord_17 : decode cX65_takeWord 17 = .ok (.i2l, 1) := by decide +kernel
theorem dX65_takeWord_18 : decode cX65_takeWord 18 = .ok (.lor, 1) := by decide +kernel
theorem dX65_takeWord_19 : decode cX65_takeWord 19 = .ok (.lstore_n 1, 1) := by decide +kernel
theorem dX65_takeWord_20 : decode cX65_takeWord 20 = .ok (.iinc 3 1, 3) := by decide +kernel
theorem dX65_takeWord_23 : decode cX65_takeWord 23 = .ok (.goto (-19), 3) := by decide +kernel
theorem dX65_takeWord_26 : decode cX65_takeWord 26 = .ok (.lload_n 1, 1) := by decide +kernel
theorem dX65_takeWord_27 : decode cX65_takeWord 27 = .ok (.lreturn, 1) := by decide +kernel
theorem zy_X65_takeWord : yX65_takeWord.cls ≠ "java/lang/invoke/MethodHandle" ∧ yX65_takeWord.cls ≠ "java/lang/invoke/VarHandle" ∧ (parseMethodDescriptor yX65_takeWord.desc).map (fun d => d.parameters.length) = some 0 := by decide +kernel
theorem w_fX65_takeWord_B4 {K : zK} (E : zE K cX65_takeWord "RingHouse$Tape" (some .long) 2) (hN : zNl K = 4) (hT : zTr K = (some 1)) : ∀ r4 : Int × Int → zX, (∀ s : Int × Int, zR K 4 [(0, 67, 0), (1, 1, s.1), (3, 0, s.2)] [] (r4 s)) → ∀ s : Int × Int, zR K 4 [(0, 67, 0), (1, 1, s.1), (3, 0, s.2)] [] (fX65_takeWord_B4 r4 s) := by
  intro r4 hr4 s
  obtain ⟨x1, x3⟩ := s
  refine r_iload_n E dX65_takeWord_4 rfl 2 rfl ?_
  refine r_iconst E dX65_takeWord_5 (zkI (by decide) (by decide)) ?_
  refine r_icmp_ge E 26 (by decide) dX65_takeWord_6 (fun _ => ?_) (fun _ => ?_)
  · refine r_lload_n E dX65_takeWord_26 rfl 1 rfl ?_
    exact r_lreturn E rfl hT dX65_takeWord_27
  · refine r_lload_n E dX65_takeWord_9 rfl 1 rfl ?_
    refine r_bipush E dX65_takeWord_10 (by decide) (zkI (by decide) (by decide)) ?_
    refine r_lshl (P := 256) E (by decide) dX65_takeWord_12 ?_
    refine r_aload_n E dX65_takeWord_13 rfl 0 rfl ?_
    refine r_callV E [] [(1, (zl (x1 * 256)))] rfl zc_67 zr_67 (fun o _ => ⟨_, zw_X65.1 o, rfl⟩) (lw_V q3088 q3090 qs77 q292 q3091) dX65_takeWord_14 zy_X65_take rfl (by omega) (by decide) (Nat.le_of_ble_eq_true rfl) (by decide) (fun l G => k_fX65_take l G) (fun v1 => ?_)
    refine r_i2l E dX65_takeWord_17 ?_
    refine r_lor E dX65_takeWord_18 ?_
    refine r_let E (fun v2 ev2 => ?_)
    refine r_lstore_n (ls' := [(1, 1, v2), (0, 67, 0), (3, 0, x3)]) E dX65_takeWord_19 rfl (by rw [hN]; decide) rfl ?_
    refine r_iinc (ls' := fun v3 => [(3, 0, v3), (1, 1, v2), (0, 67, 0)]) E 2 rfl (by rw [hN]; decide) (fun _ => rfl) dX65_takeWord_20 (fun v3 _ => ?_)
    refine r_goto E 4 (by decide) dX65_takeWord_23 ?_
    refine r_pick E [2, 1, 0] rfl ?_
    exact hr4 (v2, v3)
theorem w_fX65_takeWord {K : zK} (E : zE K cX65_takeWord "RingHouse$Tape" (some .long) 2) (hN : zNl K = 4) (hT : zTr K = (some 1)) : zR K 0 [(0, 67, 0)] [] (fX65_takeWord) := by
  refine r_lconst (v := 0) E dX65_takeWord_0 (by decide) (zkJ (by decide) (by decide)) ?_
  refine r_lstore_n (ls' := [(1, 1, 0), (0, 67, 0)]) E dX65_takeWord_1 rfl (by rw [hN]; decide) rfl ?_
  refine r_iconst E dX65_takeWord_2 (zkI (by decide) (by decide)) ?_
  refine r_istore_n (ls' := [(3, 0, 0), (1, 1, 0), (0, 67, 0)]) E dX65_takeWord_3 rfl (by rw [hN]; decide) rfl ?_
  refine r_pick E [2, 1, 0] rfl ?_
  exact r_loop (L := fun s => [(0, 67, 0), (1, 1, s.1), (3, 0, s.2)]) (w_fX65_takeWord_B4 E hN hT) zBIG (0, 0)
theorem k_fX65_takeWord (l : Launch) (G : zG) : zCt l G yX65_takeWord cX65_takeWord 4 (some .long) 2 [(67, 0)] (some 1) (fX65_takeWord) := zCt.of (by decide) (Nat.le_of_ble_eq_true rfl) (fun K E _ _ hN hT => w_fX65_takeWord E hN hT)
theorem dX65_lookName_0 : decode cX65_lookName 0 = .ok (.aload_n 0, 1) := by decide +kernel
theorem dX65_lookName_1 : decode cX65_lookName 1 = .ok (.getfield 166, 3) := by decide +kernel
theorem dX65_lookName_4 : decode cX65_lookName 4 = .ok (.istore_n 1, 1) := by decide +kernel
theorem dX65_lookName_5 : decode cX65_lookName 5 = .ok (.aload_n 0, 1) := by decide +kernel
theorem dX65_lookName_6 : decode cX65_lookName 6 = .ok (.invokevirtual 177, 3) := by decide +kernel
theorem dX65_lookName_9 : decode cX65_lookName 9 = .ok (.lstore_n 2, 1) := by decide +kernel
theorem dX65_lookName_10 : decode cX65_lookName 10 = .ok (.aload_n 0, 1) := by decide +kernel
theorem dX65_lookName_11 : decode cX65_lookName 11 = .ok (.getfield 160, 3) := by decide +kernel
theorem dX65_lookName_14 : decode cX65_lookName 14 = .ok (.ifCond .le 4, 3) := by decide +kernel
theorem dX65_lookName_17 : decode cX65_lookName 17 = .ok (.return_, 1) := by decide +kernel
theorem dX65_lookName_18 : decode cX65_lookName 18 = .ok (.lload_n 2, 1) := by decide +kernel
theorem dX65_lookName_19 : decode cX65_lookName 19 = .ok (.invokestatic 181, 3) := by decide +kernel
theorem dX65_lookName_22 : decode cX65_lookName 22 = .ok (.ifCond .ne 11, 3) := by decide +kernel
theorem dX65_lookName_25 : decode cX65_lookName 25 = .ok (.aload_n 0, 1) := by decide +kernel
theorem dX65_lookName_26 : decode cX65_lookName 26 = .ok (.iconst 3, 1) := by decide +kernel
theorem dX65_lookName_27 : decode cX65_lookName 27 = .ok (.iload_n 1, 1) := by decide +kernel
theorem dX65_lookName_28 : decode cX65_lookName 28 = .ok (.invokevirtual 169, 3) := by decide +kernel
theorem dX65_lookName_31 : decode cX65_lookName 31 = .ok (.pop, 1) := by decide +kernel
theorem dX65_lookName_32 : decode cX65_lookName 32 = .ok (.return_, 1) := by decide +kernel
theorem dX65_lookName_33 : decode cX65_lookName 33 = .ok (.aload_n 0, 1) := by decide +kernel
theorem dX65_lookName_34 : decode cX65_lookName 34 = .ok (.getfield 185, 3) := by decide +kernel
theorem dX65_lookName_37 : decode cX65_lookName 37 = .ok (.ifCond .ne 10, 3) := by decide +kernel
theorem dX65_lookName_40 : decode cX65_lookName 40 = .ok (.aload_n 0, 1) := by decide +kernel
theorem dX65_lookName_41 : decode cX65_lookName 41 = .ok (.getfield 188, 3) := by decide +kernel
theorem dX65_lookName_44 : decode cX65_lookName 44 = .ok (.goto 14, 3) := by decide +kernel
theorem dX65_lookName_47 : decode cX65_lookName 47 = .ok (.aload_n 0, 1) := by decide +kernel
theorem dX65_lookName_48 : decode cX65_lookName 48 = .ok (.getfield 29, 3) := by decide +kernel
theorem dX65_lookName_51 : decode cX65_lookName 51 = .ok (.aload_n 0, 1) := by decide +kernel
theorem dX65_lookName_52 : decode cX65_lookName 52 = .ok (.getfield 185, 3) := by decide +kernel
theorem dX65_lookName_55 : decode cX65_lookName 55 = .ok (.iconst 1, 1) := by decide +kernel
theorem dX65_lookName_56 : decode cX65_lookName 56 = .ok (.isub, 1) := by decide +kernel
theorem dX65_lookName_57 : decode cX65_lookName 57 = .ok (.iaload, 1) := by decide +kernel
theorem dX65_lookName_58 : decode cX65_lookName 58 = .ok (.istore 4, 2) := by decide +kernel
theorem dX65_lookName_60 : decode cX65_lookName 60 = .ok (.iload 4, 2) := by decide +kernel
theorem dX65_lookName_62 : decode cX65_lookName 62 = .ok (.aload_n 0, 1) := by decide +kernel
theorem dX65_lookName_63 : decode cX65_lookName 63 = .ok (.getfield 188, 3) := by decide +kernel
theorem dX65_lookName_66 : decode cX65_lookName 66 = .ok (.if_icmp .ge 29, 3) := by decide +kernel
theorem dX65_lookName_69 : decode cX65_lookName 69 = .ok (.aload_n 0, 1) := by decide +kernel
theorem dX65_lookName_70 : decode cX65_lookName 70 = .ok (.getfield 32, 3) := by decide +kernel
theorem dX65_lookName_73 : decode cX65_lookName 73 = .ok (.iload 4, 2) := by decide +kernel
theorem dX65_lookName_75 : decode cX65_lookName 75 = .ok (.laload, 1) := by decide +kernel
theorem dX65_lookName_76 : decode cX65_lookName 76 = .ok (.lload_n 2, 1) := by decide +kernel
theorem dX65_lookName_77 : decode cX65_lookName 77 = .ok (.lcmp, 1) := by decide +kernel
theorem dX65_lookName_78 : decode cX65_lookName 78 = .ok (.ifCond .ne 11, 3) := by decide +kernel
theorem dX65_lookName_81 : decode cX65_lookName 81 = .ok (.aload_n 0, 1) := by decide +kernel
theorem dX65_lookName_82 : decode cX65_lookName 82 = .ok (.iconst 4, 1) := by decide +kernel
theorem dX65_lookName_83 : decode cX65_lookName 83 = .ok (.iload_n 1, 1) := by decide +kernel
theorem dX65_lookName_84 : decode cX65_lookName 84 = .ok (.invokevirtual 169, 3) := by decide +kernel
theorem dX65_lookName_87 : decode cX65_lookName 87 = .ok (.pop, 1) := by decide +kernel
theorem dX65_lookName_88 : decode cX65_lookName 88 = .ok (.return_, 1) := by decide +kernel
theorem dX65_lookName_89 : decode cX65_lookName 89 = .ok (.iinc 4 1, 3) := by decide +kernel
theorem dX65_lookName_92 : decode cX65_lookName 92 = .ok (.goto (-32), 3) := by decide +kernel
theorem dX65_lookName_95 : decode cX65_lookName 95 = .ok (.aload_n 0, 1) := by decide +kernel
theorem dX65_lookName_96 : decode cX65_lookName 96 = .ok (.getfield 32, 3) := by decide +kernel
theorem dX65_lookName_99 : decode cX65_lookName 99 = .ok (.aload_n 0, 1) := by decide +kernel
theorem dX65_lookName_100 : decode cX65_lookName 100 = .ok (.getfield 188, 3) := by decide +kernel
theorem dX65_lookName_103 : decode cX65_lookName 103 = .ok (.lload_n 2, 1) := by decide +kernel
theorem dX65_lookName_104 : decode cX65_lookName 104 = .ok (.lastore, 1) := by decide +kernel
theorem dX65_lookName_105 : decode cX65_lookName 105 = .ok (.aload_n 0, 1) := by decide +kernel
theorem dX65_lookName_106 : decode cX65_lookName 106 = .ok (.dup, 1) := by decide +kernel
theorem dX65_lookName_107 : decode cX65_lookName 107 = .ok (.getfield 188, 3) := by decide +kernel
theorem dX65_lookName_110 : decode cX65_lookName 110 = .ok (.iconst 1, 1) := by decide +kernel
theorem dX65_lookName_111 : decode cX65_lookName 111 = .ok (.iadd, 1) := by decide +kernel
theorem dX65_lookName_112 : decode cX65_lookName 112 = .ok (.putfield 188, 3) := by decide +kernel
theorem dX65_lookName_115 : decode cX65_lookName 115 = .ok (.return_, 1) := by decide +kernel
theorem zy_X65_lookName : yX65_lookName.cls ≠ "java/lang/invoke/MethodHandle" ∧ yX65_lookName.cls ≠ "java/lang/invoke/VarHandle" ∧ (parseMethodDescriptor yX65_lookName.desc).map (fun d => d.parameters.length) = some 0 := by decide +kernel
theorem w_fX65_lookName_J95 {K : zK} (E : zE K cX65_lookName "RingHouse$Tape" none 3) (hN : zNl K = 5) (hT : zTr K = none) (x2 : Int) : zR K 95 [(0, 67, 0), (2, 1, x2)] [] (fX65_lookName_J95 x2) := by
  refine r_aload_n E dX65_lookName_95 rfl 0 rfl ?_
  refine r_gec (y := 0) E zc_67 dX65_lookName_96 q1727 zr_67 (zh_6611 (by decide)) (by decide) ?_
  refine r_aload_n E dX65_lookName_99 rfl 0 rfl ?_
  refine r_get E zc_67 zt_6613 dX65_lookName_100 q1729 zr_67 (zg_6613 _) (by decide) (fun v9 => ?_)
  refine r_lload_n E dX65_lookName_103 rfl 1 rfl ?_
  refine r_lastore E zc_6611 za_6611 zt_6611 zo_6611 zx_6611 rfl rfl dX65_lookName_104 (by decide) ?_
  refine r_aload_n E dX65_lookName_105 rfl 0 rfl ?_
  refine r_dup E (zn1 rfl) dX65_lookName_106 ?_
  refine r_get E zc_67 zt_6613 dX65_lookName_107 q1729 zr_67 (zg_6613 _) (by decide) (fun v10 => ?_)
  refine r_iconst E dX65_lookName_110 (zkI (by decide) (by decide)) ?_
  refine r_iadd E dX65_lookName_111 ?_
  refine r_put E zc_67 zt_6613 zo_6613 dX65_lookName_112 q1729 zr_67 zw_X65 zp_6613 (fun _ => rfl) (fun _ => rfl) (by decide) ?_
  exact r_return E rfl hT dX65_lookName_115
theorem w_fX65_lookName_J81 {K : zK} (E : zE K cX65_lookName "RingHouse$Tape" none 3) (hN : zNl K = 5) (hT : zTr K = none) (x1 : Int) : zR K 81 [(0, 67, 0), (1, 0, x1)] [] (fX65_lookName_J81 x1) := by
  refine r_aload_n E dX65_lookName_81 rfl 0 rfl ?_
  refine r_iconst E dX65_lookName_82 (zkI (by decide) (by decide)) ?_
  refine r_iload_n E dX65_lookName_83 rfl 1 rfl ?_
  refine r_callV E [(0, 4), (0, x1)] [] rfl zc_67 zr_67 (fun o _ => ⟨_, zw_X65.1 o, rfl⟩) (lw_V q3092 q3094 qs78 q292 q3095) dX65_lookName_84 zy_X65_wrong rfl (by omega) (by decide) (Nat.le_of_ble_eq_true rfl) (by decide) (fun l G => k_fX65_wrong l G 4 x1) (fun v13 => ?_)
  refine r_pop E (zn1 rfl) dX65_lookName_87 ?_
  exact r_return E rfl hT dX65_lookName_88
theorem w_fX65_lookName_B60 {K : zK} (E : zE K cX65_lookName "RingHouse$Tape" none 3) (hN : zNl K = 5) (hT : zTr K = none) (x1 : Int) (x2 : Int) : ∀ r60 : Int → zX, (∀ s : Int, zR K 60 [(0, 67, 0), (1, 0, x1), (2, 1, x2), (4, 0, s)] [] (r60 s)) → ∀ s : Int, zR K 60 [(0, 67, 0), (1, 0, x1), (2, 1, x2), (4, 0, s)] [] (fX65_lookName_B60 x1 x2 r60 s) := by
  intro r60 hr60 x4
  refine r_iload E dX65_lookName_60 3 rfl ?_
  refine r_aload_n E dX65_lookName_62 rfl 0 rfl ?_
  refine r_get E zc_67 zt_6613 dX65_lookName_63 q1729 zr_67 (zg_6613 _) (by decide) (fun v8 => ?_)
  refine r_icmp_ge E 95 (by decide) dX65_lookName_66 (fun _ => ?_) (fun _ => ?_)
  · refine r_pick E [0, 2] rfl ?_
    exact w_fX65_lookName_J95 E hN hT x2
  · refine r_aload_n E dX65_lookName_69 rfl 0 rfl ?_
    refine r_gec (y := 0) E zc_67 dX65_lookName_70 q1727 zr_67 (zh_6611 (by decide)) (by decide) ?_
    refine r_iload E dX65_lookName_73 3 rfl ?_
    refine r_laload E zc_6611 za_6611 zt_6611 zx_6611 rfl rfl dX65_lookName_75 (by decide) (fun v11 => ?_)
    refine r_lload_n E dX65_lookName_76 rfl 2 rfl ?_
    refine r_lcmp_ne E 89 (by decide) dX65_lookName_77 dX65_lookName_78 (fun _ => ?_) (fun _ => ?_)
    · refine r_iinc (ls' := fun v12 => [(4, 0, v12), (0, 67, 0), (1, 0, x1), (2, 1, x2)]) E 3 rfl (by rw [hN]; decide) (fun _ => rfl) dX65_lookName_89 (fun v12 _ => ?_)
      refine r_goto E 60 (by decide) dX65_lookName_92 ?_
      refine r_pick E [1, 2, 3, 0] rfl ?_
      exact hr60 v12
    · refine r_pick E [0, 1] rfl ?_
      exact w_fX65_lookName_J81 E hN hT x1
theorem w_fX65_lookName_J58 {K : zK} (E : zE K cX65_lookName "RingHouse$Tape" none 3) (hN : zNl K = 5) (hT : zTr K = none) (x1 : Int) (x2 : Int) (s0 : Int) : zR K 58 [(0, 67, 0), (1, 0, x1), (2, 1, x2)] [(0, s0)] (fX65_lookName_J58 x1 x2 s0) := by
  refine r_istore (ls' := [(4, 0, s0), (0, 67, 0), (1, 0, x1), (2, 1, x2)]) E dX65_lookName_58 (by rw [hN]; decide) rfl ?_
  refine r_pick E [1, 2, 3, 0] rfl ?_
  exact r_loop (L := fun s => [(0, 67, 0), (1, 0, x1), (2, 1, x2), (4, 0, s)]) (w_fX65_lookName_B60 E hN hT x1 x2) zBIG s0
theorem w_fX65_lookName {K : zK} (E : zE K cX65_lookName "RingHouse$Tape" none 3) (hN : zNl K = 5) (hT : zTr K = none) : zR K 0 [(0, 67, 0)] [] (fX65_lookName) := by
  refine r_aload_n E dX65_lookName_0 rfl 0 rfl ?_
  refine r_get E zc_67 zt_6603 dX65_lookName_1 q1718 zr_67 (zg_6603 _) (by decide) (fun v1 => ?_)
  refine r_istore_n (ls' := [(1, 0, v1), (0, 67, 0)]) E dX65_lookName_4 rfl (by rw [hN]; decide) rfl ?_
  refine r_aload_n E dX65_lookName_5 rfl 1 rfl ?_
  refine r_callV E [] [] rfl zc_67 zr_67 (fun o _ => ⟨_, zw_X65.1 o, rfl⟩) (lw_V q3108 q3110 qs82 q292 q3111) dX65_lookName_6 zy_X65_takeWord rfl (by omega) (by decide) (Nat.le_of_ble_eq_true rfl) (by decide) (fun l G => k_fX65_takeWord l G) (fun v2 => ?_)
  refine r_lstore_n (ls' := [(2, 1, v2), (1, 0, v1), (0, 67, 0)]) E dX65_lookName_9 rfl (by rw [hN]; decide) rfl ?_
  refine r_aload_n E dX65_lookName_10 rfl 2 rfl ?_
  refine r_get E zc_67 zt_6604 dX65_lookName_11 q1719 zr_67 (zg_6604 _) (by decide) (fun v3 => ?_)
  refine r_if_le E 18 (by decide) dX65_lookName_14 (fun _ => ?_) (fun _ => ?_)
  · refine r_lload_n E dX65_lookName_18 rfl 0 rfl ?_
    refine r_callSN E [(1, v2)] [] rfl q3112 q1842 q227 q1843 dX65_lookName_19 zy_X0_isName rfl (by omega) (by decide) (Nat.le_of_ble_eq_true rfl) (fun l G => k_fX0_isName l G v2) (fun v4 => ?_)
    refine r_if_ne E 33 (by decide) dX65_lookName_22 (fun _ => ?_) (fun _ => ?_)
    · refine r_aload_n E dX65_lookName_33 rfl 2 rfl ?_
      refine r_get E zc_67 zt_6612 dX65_lookName_34 q1728 zr_67 (zg_6612 _) (by decide) (fun v5 => ?_)
      refine r_if_ne E 47 (by decide) dX65_lookName_37 (fun _ => ?_) (fun _ => ?_)
      · refine r_aload_n E dX65_lookName_47 rfl 2 rfl ?_
        refine r_gec (y := 0) E zc_67 dX65_lookName_48 q1726 zr_67 (zh_6610 (by decide)) (by decide) ?_
        refine r_aload_n E dX65_lookName_51 rfl 2 rfl ?_
        refine r_get E zc_67 zt_6612 dX65_lookName_52 q1728 zr_67 (zg_6612 _) (by decide) (fun v6 => ?_)
        refine r_iconst E dX65_lookName_55 (zkI (by decide) (by decide)) ?_
        refine r_isub E dX65_lookName_56 ?_
        refine r_iaload E zc_6610 za_6610 zt_6610 zx_6610 rfl rfl dX65_lookName_57 (by decide) (fun v7 => ?_)
        refine r_pick E [2, 1, 0] rfl ?_
        exact w_fX65_lookName_J58 E hN hT v1 v2 v7
      · refine r_aload_n E dX65_lookName_40 rfl 2 rfl ?_
        refine r_get E zc_67 zt_6613 dX65_lookName_41 q1729 zr_67 (zg_6613 _) (by decide) (fun v14 => ?_)
        refine r_goto E 58 (by decide) dX65_lookName_44 ?_
        refine r_pick E [2, 1, 0] rfl ?_
        exact w_fX65_lookName_J58 E hN hT v1 v2 v14
    · refine r_aload_n E dX65_lookName_25 rfl 2 rfl ?_
      refine r_iconst E dX65_lookName_26 (zkI (by decide) (by decide)) ?_
      refine r_iload_n E dX65_lookName_27 rfl 1 rfl ?_
      refine r_callV E [(0, 3), (0, v1)] [] rfl zc_67 zr_67 (fun o _ => ⟨_, zw_X65.1 o, rfl⟩) (lw_V q3092 q3094 qs78 q292 q3095) dX65_lookName_28 zy_X65_wrong rfl (by omega) (by decide) (Nat.le_of_ble_eq_true rfl) (by decide) (fun l G => k_fX65_wrong l G 3 v1) (fun v15 => ?_)
      refine r_pop E (zn1 rfl) dX65_lookName_31 ?_
      exact r_return E rfl hT dX65_lookName_32
  · exact r_return E rfl hT dX65_lookName_17
theorem k_fX65_lookName (l : Launch) (G : zG) : zCt l G yX65_lookName cX65_lookName 5 none 3 [(67, 0)] none (fX65_lookName) := zCt.of (by decide) (Nat.le_of_ble_eq_true rfl) (fun K E _ _ hN hT => w_fX65_lookName E hN hT)
theorem dX65_charge_0 : decode cX65_charge 0 = .ok (.aload_n 0, 1) := by decide +kernel
theorem dX65_charge_1 : decode cX65_charge 1 = .ok (.getfield 185, 3) := by decide +kernel
theorem dX65_charge_4 : decode cX65_charge 4 = .ok (.ifCond .le 18, 3) := by decide +kernel
theorem dX65_charge_7 : decode cX65_charge 7 = .ok (.aload_n 0, 1) := by decide +kernel
theorem dX65_charge_8 : decode cX65_charge 8 = .ok (.getfield 26, 3) := by decide +kernel
theorem dX65_charge_11 : decode cX65_charge 11 = .ok (.aload_n 0, 1) := by decide +kernel
theorem dX65_charge_12 : decode cX65_charge 12 = .ok (.getfield 185, 3) := by decide +kernel
theorem dX65_charge_15 : decode cX65_charge 15 = .ok (.iconst 1, 1) := by decide +kernel
theorem dX65_charge_16 : decode cX65_charge 16 = .ok (.isub, 1) := by decide +kernel
theorem dX65_charge_17 : decode cX65_charge 17 = .ok (.dup2, 1) := by decide +kernel
theorem dX65_charge_18 : decode cX65_charge 18 = .ok (.iaload, 1) := by decide +kernel
theorem dX65_charge_19 : decode cX65_charge 19 = .ok (.iload_n 1, 1) := by decide +kernel
theorem dX65_charge_20 : decode cX65_charge 20 = .ok (.iadd, 1) := by decide +kernel
theorem dX65_charge_21 : decode cX65_charge 21 = .ok (.iastore, 1) := by decide +kernel
theorem dX65_charge_22 : decode cX65_charge 22 = .ok (.return_, 1) := by decide +kernel
theorem zy_X65_charge : yX65_charge.cls ≠ "java/lang/invoke/MethodHandle" ∧ yX65_charge.cls ≠ "java/lang/invoke/VarHandle" ∧ (parseMethodDescriptor yX65_charge.desc).map (fun d => d.parameters.length) = some 1 := by decide +kernel
theorem w_fX65_charge {K : zK} (E : zE K cX65_charge "RingHouse$Tape" none 0) (hN : zNl K = 2) (hT : zTr K = none) (x1 : Int) : zR K 0 [(0, 67, 0), (1, 0, x1)] [] (fX65_charge x1) := by
  refine r_aload_n E dX65_charge_0 rfl 0 rfl ?_
  refine r_get E zc_67 zt_6612 dX65_charge_1 q1728 zr_67 (zg_6612 _) (by decide) (fun v1 => ?_)
  refine r_if_le E 22 (by decide) dX65_charge_4 (fun _ => ?_) (fun _ => ?_)
  · exact r_return E rfl hT dX65_charge_22
  · refine r_aload_n E dX65_charge_7 rfl 0 rfl ?_
    refine r_gec (y := 0) E zc_67 dX65_charge_8 q1725 zr_67 (zh_6609 (by decide)) (by decide) ?_
    refine r_aload_n E dX65_charge_11 rfl 0 rfl ?_
    refine r_get E zc_67 zt_6612 dX65_charge_12 q1728 zr_67 (zg_6612 _) (by decide) (fun v2 => ?_)
    refine r_iconst E dX65_charge_15 (zkI (by decide) (by decide)) ?_
    refine r_isub E dX65_charge_16 ?_
    refine r_dup22 E (zn1 rfl) (zn1 rfl) dX65_charge_17 ?_
    refine r_iaload E zc_6609 za_6609 zt_6609 zx_6609 rfl rfl dX65_charge_18 (by decide) (fun v3 => ?_)
    refine r_iload_n E dX65_charge_19 rfl 1 rfl ?_
    refine r_iadd E dX65_charge_20 ?_
    refine r_iastore E zc_6609 za_6609 zt_6609 zo_6609 zx_6609 rfl rfl dX65_charge_21 (by decide) ?_
    exact r_return E rfl hT dX65_charge_22
theorem k_fX65_charge (l : Launch) (G : zG) (x1 : Int) : zCt l G yX65_charge cX65_charge 2 none 0 [(67, 0), (0, x1)] none (fX65_charge x1) := zCt.of (by decide) (Nat.le_of_ble_eq_true rfl) (fun K E _ _ hN hT => w_fX65_charge E hN hT x1)
theorem dX65_lookMailbox_0 : decode cX65_lookMailbox 0 = .ok (.aload_n 0, 1) := by decide +kernel
theorem dX65_lookMailbox_1 : decode cX65_lookMailbox 1 = .ok (.iconst 0, 1) := by decide +kernel
theorem dX65_lookMailbox_2 : decode cX65_lookMailbox 2 = .ok (.sipush 128, 3) := by decide +kernel
theorem dX65_lookMailbox_5 : decode cX65_lookMailbox 5 = .ok (.invokevirtual 191, 3) := by decide +kernel
theorem dX65_lookMailbox_8 : decode cX65_lookMailbox 8 = .ok (.istore_n 2, 1) := by decide +kernel
theorem dX65_lookMailbox_9 : decode cX65_lookMailbox 9 = .ok (.iconst 0, 1) := by decide +kernel
theorem dX65_lookMailbox_10 : decode cX65_lookMailbox 10 = .ok (.istore_n 3, 1) := by decide +kernel
theorem dX65_lookMailbox_11 : decode cX65_lookMailbox 11 = .ok (.iload_n 3, 1) := by decide +kernel
theorem dX65_lookMailbox_12 : decode cX65_lookMailbox 12 = .ok (.bipush 32, 2) := by decide +kernel
theorem dX65_lookMailbox_14 : decode cX65_lookMailbox 14 = .ok (.if_icmp .ge 16, 3) := by decide +kernel
theorem dX65_lookMailbox_17 : decode cX65_lookMailbox 17 = .ok (.aload_n 0, 1) := by decide +kernel
theorem dX65_lookMailbox_18 : decode cX65_lookMailbox 18 = .ok (.getfield 39, 3) := by decide +kernel
theorem dX65_lookMailbox_21 : decode cX65_lookMailbox 21 = .ok (.iload_n 3, 1) := by decide +kernel
theorem dX65_lookMailbox_22 : decode cX65_lookMailbox 22 = .ok (.iconst 0, 1) := by decide +kernel
theorem dX65_lookMailbox_23 : decode cX65_lookMailbox 23 = .ok (.iastore, 1) := by decide +kernel
theorem dX65_lookMailbox_24 : decode cX65_lookMailbox 24 = .ok (.iinc 3 1, 3) := by decide +kernel
theorem dX65_lookMailbox_27 : decode cX65_lookMailbox 27 = .ok (.goto (-16), 3) := by decide +kernel
theorem dX65_lookMailbox_30 : decode cX65_lookMailbox 30 = .ok (.iconst 0, 1) := by decide +kernel
theorem dX65_lookMailbox_31 : decode cX65_lookMailbox 31 = .ok (.istore_n 3, 1) := by decide +kernel
theorem dX65_lookMailbox_32 : decode cX65_lookMailbox 32 = .ok (.iload_n 3, 1) := by decide +kernel
theorem dX65_lookMailbox_33 : decode cX65_lookMailbox 33 = .ok (.iload_n 2, 1) := by decide +kernel
theorem dX65_lookMailbox_34 : decode cX65_lookMailbox 34 = .ok (.if_icmp .ge 134, 3) := by decide +kernel
theorem dX65_lookMailbox_37 : decode cX65_lookMailbox 37 = .ok (.aload_n 0, 1) := by decide +kernel
theorem dX65_lookMailbox_38 : decode cX65_lookMailbox 38 = .ok (.getfield 160, 3) := by decide +kernel
theorem dX65_lookMailbox_41 : decode cX65_lookMailbox 41 = .ok (.ifCond .ne 127, 3) := by decide +kernel
theorem dX65_lookMailbox_44 : decode cX65_lookMailbox 44 = .ok (.aload_n 0, 1) := by decide +kernel
theorem dX65_lookMailbox_45 : decode cX65_lookMailbox 45 = .ok (.getfield 166, 3) := by decide +kernel
theorem dX65_lookMailbox_48 : decode cX65_lookMailbox 48 = .ok (.istore 4, 2) := by decide +kernel
theorem dX65_lookMailbox_50 : decode cX65_lookMailbox 50 = .ok (.aload_n 0, 1) := by decide +kernel
theorem dX65_lookMailbox_51 : decode cX65_lookMailbox 51 = .ok (.iconst 0, 1) := by decide +kernel
theorem dX65_lookMailbox_52 : decode cX65_lookMailbox 52 = .ok (.bipush 31, 2) := by decide +kernel
theorem dX65_lookMailbox_54 : decode cX65_lookMailbox 54 = .ok (.invokevirtual 191, 3) := by decide +kernel
theorem dX65_lookMailbox_57 : decode cX65_lookMailbox 57 = .ok (.istore 5, 2) := by decide +kernel
theorem dX65_lookMailbox_59 : decode cX65_lookMailbox 59 = .ok (.aload_n 0, 1) := by decide +kernel
theorem dX65_lookMailbox_60 : decode cX65_lookMailbox 60 = .ok (.getfield 160, 3) := by decide +kernel
theorem dX65_lookMailbox_63 : decode cX65_lookMailbox 63 = .ok (.ifCond .ne 20, 3) := by decide +kernel
theorem dX65_lookMailbox_66 : decode cX65_lookMailbox 66 = .ok (.iload 5, 2) := by decide +kernel
theorem dX65_lookMailbox_68 : decode cX65_lookMailbox 68 = .ok (.iload_n 1, 1) := by decide +kernel
theorem dX65_lookMailbox_69 : decode cX65_lookMailbox 69 = .ok (.invokestatic 194, 3) := by decide +kernel
theorem dX65_lookMailbox_72 : decode cX65_lookMailbox 72 = .ok (.ifCond .ne 11, 3) := by decide +kernel
theorem dX65_lookMailbox_75 : decode cX65_lookMailbox 75 = .ok (.aload_n 0, 1) := by decide +kernel
theorem dX65_lookMailbox_76 : decode cX65_lookMailbox 76 = .ok (.iconst 5, 1) := by decide +kernel
theorem dX65_lookMailbox_77 : decode cX65_lookMailbox 77 = .ok (.iload 4, 2) := by decide +kernel
theorem dX65_lookMailbox_79 : decode cX65_lookMailbox 79 = .ok (.invokevirtual 169, 3) := by decide +kernel
theorem dX65_lookMailbox_82 : decode cX65_lookMailbox 82 = .ok (.pop, 1) := by decide +kernel
theorem dX65_lookMailbox_83 : decode cX65_lookMailbox 83 = .ok (.aload_n 0, 1) := by decide +kernel
theorem dX65_lookMailbox_84 : decode cX65_lookMailbox 84 = .ok (.getfield 160, 3) := by decide +kernel
theorem dX65_lookMailbox_87 : decode cX65_lookMailbox 87 = .ok (.ifCond .ne 14, 3) := by decide +kernel
theorem dX65_lookMailbox_90 : decode cX65_lookMailbox 90 = .ok (.aload_n 0, 1) := by decide +kernel
theorem dX65_lookMailbox_91 : decode cX65_lookMailbox 91 = .ok (.getfield 39, 3) := by decide +kernel
theorem dX65_lookMailbox_94 : decode cX65_lookMailbox 94 = .ok (.iload 5, 2) := by decide +kernel
theorem dX65_lookMailbox_96 : decode cX65_lookMailbox 96 = .ok (.dup2, 1) := by decide +kernel
theorem dX65_lookMailbox_97 : decode cX65_lookMailbox 97 = .ok (.iaload, 1) := by decide +kernel
theorem dX65_lookMailbox_98 : decode cX65_lookMailbox 98 = .ok (.iconst 1, 1) := by decide +kernel
theorem dX65_lookMailbox_99 : decode cX65_lookMailbox 99 = .ok (.iadd, 1) := by decide +kernel
theorem dX65_lookMailbox_100 : decode cX65_lookMailbox 100 = .ok (.iastore, 1) := by decide +kernel
theorem dX65_lookMailbox_101 : decode cX65_lookMailbox 101 = .ok (.aload_n 0, 1) := by decide +kernel
theorem dX65_lookMailbox_102 : decode cX65_lookMailbox 102 = .ok (.getfield 160, 3) := by decide +kernel
theorem dX65_lookMailbox_105 : decode cX65_lookMailbox 105 = .ok (.ifCond .ne 22, 3) := by decide +kernel
theorem dX65_lookMailbox_108 : decode cX65_lookMailbox 108 = .ok (.aload_n 0, 1) := by decide +kernel
theorem dX65_lookMailbox_109 : decode cX65_lookMailbox 109 = .ok (.getfield 39, 3) := by decide +kernel
theorem dX65_lookMailbox_112 : decode cX65_lookMailbox 112 = .ok (.iload 5, 2) := by decide +kernel
theorem dX65_lookMailbox_114 : decode cX65_lookMailbox 114 = .ok (.iaload, 1) := by decide +kernel
theorem dX65_lookMailbox_115 : decode cX65_lookMailbox 115 = .ok (.iconst 4, 1) := by decide +kernel
theorem dX65_lookMailbox_116 : decode cX65_lookMailbox 116 = .ok (.if_icmp .le 11, 3) := by decide +kernel
theorem dX65_lookMailbox_119 : decode cX65_lookMailbox 119 = .ok (.aload_n 0, 1) := by decide +kernel
theorem dX65_lookMailbox_120 : decode cX65_lookMailbox 120 = .ok (.iconst 3, 1) := by decide +kernel
theorem dX65_lookMailbox_121 : decode cX65_lookMailbox 121 = .ok (.iload 4, 2) := by decide +kernel
theorem dX65_lookMailbox_123 : decode cX65_lookMailbox 123 = .ok (.invokevirtual 169, 3) := by decide +kernel
theorem dX65_lookMailbox_126 : decode cX65_lookMailbox 126 = .ok (.pop, 1) := by decide +kernel
theorem dX65_lookMailbox_127 : decode cX65_lookMailbox 127 = .ok (.aload_n 0, 1) := by decide +kernel
theorem dX65_lookMailbox_128 : decode cX65_lookMailbox 128 = .ok (.getfield 166, 3) := by decide +kernel
theorem dX65_lookMailbox_131 : decode cX65_lookMailbox 131 = .ok (.istore 4, 2) := by decide +kernel
theorem dX65_lookMailbox_133 : decode cX65_lookMailbox 133 = .ok (.aload_n 0, 1) := by decide +kernel
theorem dX65_lookMailbox_134 : decode cX65_lookMailbox 134 = .ok (.invokevirtual 177, 3) := by decide +kernel
theorem dX65_lookMailbox_137 : decode cX65_lookMailbox 137 = .ok (.lstore 6, 2) := by decide +kernel
theorem dX65_lookMailbox_139 : decode cX65_lookMailbox 139 = .ok (.aload_n 0, 1) := by decide +kernel
theorem dX65_lookMailbox_140 : decode cX65_lookMailbox 140 = .ok (.getfield 160, 3) := by decide +kernel
theorem dX65_lookMailbox_143 : decode cX65_lookMailbox 143 = .ok (.ifCond .ne 19, 3) := by decide +kernel
theorem dX65_lookMailbox_146 : decode cX65_lookMailbox 146 = .ok (.lload 6, 2) := by decide +kernel
theorem dX65_lookMailbox_148 : decode cX65_lookMailbox 148 = .ok (.invokestatic 200, 3) := by decide +kernel
theorem dX65_lookMailbox_151 : decode cX65_lookMailbox 151 = .ok (.ifCond .ne 11, 3) := by decide +kernel
theorem dX65_lookMailbox_154 : decode cX65_lookMailbox 154 = .ok (.aload_n 0, 1) := by decide +kernel
theorem dX65_lookMailbox_155 : decode cX65_lookMailbox 155 = .ok (.iconst 3, 1) := by decide +kernel
theorem dX65_lookMailbox_156 : decode cX65_lookMailbox 156 = .ok (.iload 4, 2) := by decide +kernel
theorem dX65_lookMailbox_158 : decode cX65_lookMailbox 158 = .ok (.invokevirtual 169, 3) := by decide +kernel
theorem dX65_lookMailbox_161 : decode cX65_lookMailbox 161 = .ok (.pop, 1) := by decide +kernel
theorem dX65_lookMailbox_162 : decode cX65_lookMailbox 162 = .ok (.iinc 3 1, 3) := by decide +kernel
theorem dX65_lookMailbox_165 : decode cX65_lookMailbox 165 = .ok (.goto (-133), 3) := by decide +kernel
theorem dX65_lookMailbox_168 : decode cX65_lookMailbox 168 = .ok (.aload_n 0, 1) := by decide +kernel
theorem dX65_lookMailbox_169 : decode cX65_lookMailbox 169 = .ok (.bipush 17, 2) := by decide +kernel
theorem dX65_lookMailbox_171 : decode cX65_lookMailbox 171 = .ok (.invokevirtual 206, 3) := by decide +kernel
theorem dX65_lookMailbox_174 : decode cX65_lookMailbox 174 = .ok (.aload_n 0, 1) := by decide +kernel
theorem dX65_lookMailbox_175 : decode cX65_lookMailbox 175 = .ok (.aload_n 0, 1) := by decide +kernel
theorem dX65_lookMailbox_176 : decode cX65_lookMailbox 176 = .ok (.getfield 185, 3) := by decide +kernel
theorem dX65_lookMailbox_179 : decode cX65_lookMailbox 179 = .ok (.ifCond .ne 8, 3) := by decide +kernel
theorem dX65_lookMailbox_182 : decode cX65_lookMailbox 182 = .ok (.bipush 17, 2) := by decide +kernel
theorem dX65_lookMailbox_184 : decode cX65_lookMailbox 184 = .ok (.goto 7, 3) := by decide +kernel
theorem dX65_lookMailbox_187 : decode cX65_lookMailbox 187 = .ok (.aload_n 0, 1) := by decide +kernel
theorem dX65_lookMailbox_188 : decode cX65_lookMailbox 188 = .ok (.getfield 209, 3) := by decide +kernel
theorem dX65_lookMailbox_191 : decode cX65_lookMailbox 191 = .ok (.putfield 209, 3) := by decide +kernel
theorem dX65_lookMailbox_194 : decode cX65_lookMailbox 194 = .ok (.return_, 1) := by decide +kernel
theorem zy_X65_lookMailbox : yX65_lookMailbox.cls ≠ "java/lang/invoke/MethodHandle" ∧ yX65_lookMailbox.cls ≠ "java/lang/invoke/VarHandle" ∧ (parseMethodDescriptor yX65_lookMailbox.desc).map (fun d => d.parameters.length) = some 1 := by decide +kernel
theorem w_fX65_lookMailbox_J191 {K : zK} (E : zE K cX65_lookMailbox "RingHouse$Tape" none 3) (hN : zNl K = 8) (hT : zTr K = none) (s1 : Int) : zR K 191 [] [(0, s1), (67, 0)] (fX65_lookMailbox_J191 s1) := by
  refine r_put E zc_67 zt_6617 zo_6617 dX65_lookMailbox_191 q1733 zr_67 zw_X65 zp_6617 (fun _ => rfl) (fun _ => rfl) (by decide) ?_
  exact r_return E rfl hT dX65_lookMailbox_194
theorem w_fX65_lookMailbox_J168 {K : zK} (E : zE K cX65_lookMailbox "RingHouse$Tape" none 3) (hN : zNl K = 8) (hT : zTr K = none) : zR K 168 [(0, 67, 0)] [] (fX65_lookMailbox_J168) := by
  refine r_aload_n E dX65_lookMailbox_168 rfl 0 rfl ?_
  refine r_bipush E dX65_lookMailbox_169 (by decide) (zkI (by decide) (by decide)) ?_
  refine r_callV E [(0, 17)] [] rfl zc_67 zr_67 (fun o _ => ⟨_, zw_X65.1 o, rfl⟩) (lw_V q3128 q3130 qs86 q292 q3131) dX65_lookMailbox_171 zy_X65_charge rfl (by omega) (by decide) (Nat.le_of_ble_eq_true rfl) (by decide) (fun l G => k_fX65_charge l G 17) (fun _ => ?_)
  refine r_aload_n E dX65_lookMailbox_174 rfl 0 rfl ?_
  refine r_aload_n E dX65_lookMailbox_175 rfl 0 rfl ?_
  refine r_get E zc_67 zt_6612 dX65_lookMailbox_176 q1728 zr_67 (zg_6612 _) (by decide) (fun v3 => ?_)
  refine r_if_ne E 187 (by decide) dX65_lookMailbox_179 (fun _ => ?_) (fun _ => ?_)
  · refine r_aload_n E dX65_lookMailbox_187 rfl 0 rfl ?_
    refine r_get E zc_67 zt_6617 dX65_lookMailbox_188 q1733 zr_67 (zg_6617 _) (by decide) (fun v4 => ?_)
    refine r_pick E [] rfl ?_
    exact w_fX65_lookMailbox_J191 E hN hT v4
  · refine r_bipush E dX65_lookMailbox_182 (by decide) (zkI (by decide) (by decide)) ?_
    refine r_goto E 191 (by decide) dX65_lookMailbox_184 ?_
    refine r_pick E [] rfl ?_
    exact w_fX65_lookMailbox_J191 E hN hT 17
theorem w_fX65_lookMailbox_J162 {K : zK} (E : zE K cX65_lookMailbox "RingHouse$Tape" none 3) (hN : zNl K = 8) (hT : zTr K = none) (x1 : Int) (x2 : Int) (x3 : Int) {r32 : Int → zX} (hr32 : ∀ s : Int, zR K 32 [(0, 67, 0), (1, 0, x1), (2, 0, x2), (3, 0, s)] [] (r32 s)) : zR K 162 [(0, 67, 0), (1, 0, x1), (2, 0, x2), (3, 0, x3)] [] (fX65_lookMailbox_J162 r32 x1 x2 x3) := by
  refine r_iinc (ls' := fun v14 => [(3, 0, v14), (0, 67, 0), (1, 0, x1), (2, 0, x2)]) E 3 rfl (by rw [hN]; decide) (fun _ => rfl) dX65_lookMailbox_162 (fun v14 _ => ?_)
  refine r_goto E 32 (by decide) dX65_lookMailbox_165 ?_
  refine r_pick E [1, 2, 3, 0] rfl ?_
  exact hr32 v14
theorem w_fX65_lookMailbox_J127 {K : zK} (E : zE K cX65_lookMailbox "RingHouse$Tape" none 3) (hN : zNl K = 8) (hT : zTr K = none) (x1 : Int) (x2 : Int) (x3 : Int) {r32 : Int → zX} (hr32 : ∀ s : Int, zR K 32 [(0, 67, 0), (1, 0, x1), (2, 0, x2), (3, 0, s)] [] (r32 s)) : zR K 127 [(0, 67, 0), (1, 0, x1), (2, 0, x2), (3, 0, x3)] [] (fX65_lookMailbox_J127 r32 x1 x2 x3) := by
  refine r_aload_n E dX65_lookMailbox_127 rfl 0 rfl ?_
  refine r_get E zc_67 zt_6603 dX65_lookMailbox_128 q1718 zr_67 (zg_6603 _) (by decide) (fun v11 => ?_)
  refine r_istore (ls' := [(4, 0, v11), (0, 67, 0), (1, 0, x1), (2, 0, x2), (3, 0, x3)]) E dX65_lookMailbox_131 (by rw [hN]; decide) rfl ?_
  refine r_aload_n E dX65_lookMailbox_133 rfl 1 rfl ?_
  refine r_callV E [] [] rfl zc_67 zr_67 (fun o _ => ⟨_, zw_X65.1 o, rfl⟩) (lw_V q3108 q3110 qs82 q292 q3111) dX65_lookMailbox_134 zy_X65_takeWord rfl (by omega) (by decide) (Nat.le_of_ble_eq_true rfl) (by decide) (fun l G => k_fX65_takeWord l G) (fun v12 => ?_)
  refine r_lstore (ls' := [(6, 1, v12), (4, 0, v11), (0, 67, 0), (1, 0, x1), (2, 0, x2), (3, 0, x3)]) E dX65_lookMailbox_137 (by rw [hN]; decide) rfl ?_
  refine r_aload_n E dX65_lookMailbox_139 rfl 2 rfl ?_
  refine r_get E zc_67 zt_6604 dX65_lookMailbox_140 q1719 zr_67 (zg_6604 _) (by decide) (fun v13 => ?_)
  refine r_if_ne E 162 (by decide) dX65_lookMailbox_143 (fun _ => ?_) (fun _ => ?_)
  · refine r_pick E [2, 3, 4, 5] rfl ?_
    exact w_fX65_lookMailbox_J162 E hN hT x1 x2 x3 hr32
  · refine r_lload E dX65_lookMailbox_146 0 rfl ?_
    refine r_callSN E [(1, v12)] [] rfl q3126 q1845 q227 q1846 dX65_lookMailbox_148 zy_X0_isWord rfl (by omega) (by decide) (Nat.le_of_ble_eq_true rfl) (fun l G => k_fX0_isWord l G v12) (fun v15 => ?_)
    refine r_if_ne E 162 (by decide) dX65_lookMailbox_151 (fun _ => ?_) (fun _ => ?_)
    · refine r_pick E [2, 3, 4, 5] rfl ?_
      exact w_fX65_lookMailbox_J162 E hN hT x1 x2 x3 hr32
    · refine r_aload_n E dX65_lookMailbox_154 rfl 2 rfl ?_
      refine r_iconst E dX65_lookMailbox_155 (zkI (by decide) (by decide)) ?_
      refine r_iload E dX65_lookMailbox_156 1 rfl ?_
      refine r_callV E [(0, 3), (0, v11)] [] rfl zc_67 zr_67 (fun o _ => ⟨_, zw_X65.1 o, rfl⟩) (lw_V q3092 q3094 qs78 q292 q3095) dX65_lookMailbox_158 zy_X65_wrong rfl (by omega) (by decide) (Nat.le_of_ble_eq_true rfl) (by decide) (fun l G => k_fX65_wrong l G 3 v11) (fun v16 => ?_)
      refine r_pop E (zn1 rfl) dX65_lookMailbox_161 ?_
      refine r_pick E [2, 3, 4, 5] rfl ?_
      exact w_fX65_lookMailbox_J162 E hN hT x1 x2 x3 hr32
theorem w_fX65_lookMailbox_J101 {K : zK} (E : zE K cX65_lookMailbox "RingHouse$Tape" none 3) (hN : zNl K = 8) (hT : zTr K = none) (x1 : Int) (x2 : Int) (x3 : Int) (x4 : Int) (x5 : Int) {r32 : Int → zX} (hr32 : ∀ s : Int, zR K 32 [(0, 67, 0), (1, 0, x1), (2, 0, x2), (3, 0, s)] [] (r32 s)) : zR K 101 [(0, 67, 0), (1, 0, x1), (2, 0, x2), (3, 0, x3), (4, 0, x4), (5, 0, x5)] [] (fX65_lookMailbox_J101 r32 x1 x2 x3 x4 x5) := by
  refine r_aload_n E dX65_lookMailbox_101 rfl 0 rfl ?_
  refine r_get E zc_67 zt_6604 dX65_lookMailbox_102 q1719 zr_67 (zg_6604 _) (by decide) (fun v10 => ?_)
  refine r_if_ne E 127 (by decide) dX65_lookMailbox_105 (fun _ => ?_) (fun _ => ?_)
  · refine r_pick E [0, 1, 2, 3] rfl ?_
    exact w_fX65_lookMailbox_J127 E hN hT x1 x2 x3 hr32
  · refine r_aload_n E dX65_lookMailbox_108 rfl 0 rfl ?_
    refine r_gec (y := 0) E zc_67 dX65_lookMailbox_109 q1732 zr_67 (zh_6616 (by decide)) (by decide) ?_
    refine r_iload E dX65_lookMailbox_112 5 rfl ?_
    refine r_iaload E zc_6616 za_6616 zt_6616 zx_6616 rfl rfl dX65_lookMailbox_114 (by decide) (fun v17 => ?_)
    refine r_iconst E dX65_lookMailbox_115 (zkI (by decide) (by decide)) ?_
    refine r_icmp_le E 127 (by decide) dX65_lookMailbox_116 (fun _ => ?_) (fun _ => ?_)
    · refine r_pick E [0, 1, 2, 3] rfl ?_
      exact w_fX65_lookMailbox_J127 E hN hT x1 x2 x3 hr32
    · refine r_aload_n E dX65_lookMailbox_119 rfl 0 rfl ?_
      refine r_iconst E dX65_lookMailbox_120 (zkI (by decide) (by decide)) ?_
      refine r_iload E dX65_lookMailbox_121 4 rfl ?_
      refine r_callV E [(0, 3), (0, x4)] [] rfl zc_67 zr_67 (fun o _ => ⟨_, zw_X65.1 o, rfl⟩) (lw_V q3092 q3094 qs78 q292 q3095) dX65_lookMailbox_123 zy_X65_wrong rfl (by omega) (by decide) (Nat.le_of_ble_eq_true rfl) (by decide) (fun l G => k_fX65_wrong l G 3 x4) (fun v18 => ?_)
      refine r_pop E (zn1 rfl) dX65_lookMailbox_126 ?_
      refine r_pick E [0, 1, 2, 3] rfl ?_
      exact w_fX65_lookMailbox_J127 E hN hT x1 x2 x3 hr32
theorem w_fX65_lookMailbox_J83 {K : zK} (E : zE K cX65_lookMailbox "RingHouse$Tape" none 3) (hN : zNl K = 8) (hT : zTr K = none) (x1 : Int) (x2 : Int) (x3 : Int) (x4 : Int) (x5 : Int) {r32 : Int → zX} (hr32 : ∀ s : Int, zR K 32 [(0, 67, 0), (1, 0, x1), (2, 0, x2), (3, 0, s)] [] (r32 s)) : zR K 83 [(0, 67, 0), (1, 0, x1), (2, 0, x2), (3, 0, x3), (4, 0, x4), (5, 0, x5)] [] (fX65_lookMailbox_J83 r32 x1 x2 x3 x4 x5) := by
  refine r_aload_n E dX65_lookMailbox_83 rfl 0 rfl ?_
  refine r_get E zc_67 zt_6604 dX65_lookMailbox_84 q1719 zr_67 (zg_6604 _) (by decide) (fun v9 => ?_)
  refine r_if_ne E 101 (by decide) dX65_lookMailbox_87 (fun _ => ?_) (fun _ => ?_)
  · exact w_fX65_lookMailbox_J101 E hN hT x1 x2 x3 x4 x5 hr32
  · refine r_aload_n E dX65_lookMailbox_90 rfl 0 rfl ?_
    refine r_gec (y := 0) E zc_67 dX65_lookMailbox_91 q1732 zr_67 (zh_6616 (by decide)) (by decide) ?_
    refine r_iload E dX65_lookMailbox_94 5 rfl ?_
    refine r_dup22 E (zn1 rfl) (zn1 rfl) dX65_lookMailbox_96 ?_
    refine r_iaload E zc_6616 za_6616 zt_6616 zx_6616 rfl rfl dX65_lookMailbox_97 (by decide) (fun v19 => ?_)
    refine r_iconst E dX65_lookMailbox_98 (zkI (by decide) (by decide)) ?_
    refine r_iadd E dX65_lookMailbox_99 ?_
    refine r_iastore E zc_6616 za_6616 zt_6616 zo_6616 zx_6616 rfl rfl dX65_lookMailbox_100 (by decide) ?_
    exact w_fX65_lookMailbox_J101 E hN hT x1 x2 x3 x4 x5 hr32
theorem w_fX65_lookMailbox_B32 {K : zK} (E : zE K cX65_lookMailbox "RingHouse$Tape" none 3) (hN : zNl K = 8) (hT : zTr K = none) (x1 : Int) (x2 : Int) : ∀ r32 : Int → zX, (∀ s : Int, zR K 32 [(0, 67, 0), (1, 0, x1), (2, 0, x2), (3, 0, s)] [] (r32 s)) → ∀ s : Int, zR K 32 [(0, 67, 0), (1, 0, x1), (2, 0, x2), (3, 0, s)] [] (fX65_lookMailbox_B32 x1 x2 r32 s) := by
  intro r32 hr32 x3
  refine r_iload_n E dX65_lookMailbox_32 rfl 3 rfl ?_
  refine r_iload_n E dX65_lookMailbox_33 rfl 2 rfl ?_
  refine r_icmp_ge E 168 (by decide) dX65_lookMailbox_34 (fun _ => ?_) (fun _ => ?_)
  · refine r_pick E [0] rfl ?_
    exact w_fX65_lookMailbox_J168 E hN hT
  · refine r_aload_n E dX65_lookMailbox_37 rfl 0 rfl ?_
    refine r_get E zc_67 zt_6604 dX65_lookMailbox_38 q1719 zr_67 (zg_6604 _) (by decide) (fun v5 => ?_)
    refine r_if_ne E 168 (by decide) dX65_lookMailbox_41 (fun _ => ?_) (fun _ => ?_)
    · refine r_pick E [0] rfl ?_
      exact w_fX65_lookMailbox_J168 E hN hT
    · refine r_aload_n E dX65_lookMailbox_44 rfl 0 rfl ?_
      refine r_get E zc_67 zt_6603 dX65_lookMailbox_45 q1718 zr_67 (zg_6603 _) (by decide) (fun v6 => ?_)
      refine r_istore (ls' := [(4, 0, v6), (0, 67, 0), (1, 0, x1), (2, 0, x2), (3, 0, x3)]) E dX65_lookMailbox_48 (by rw [hN]; decide) rfl ?_
      refine r_aload_n E dX65_lookMailbox_50 rfl 1 rfl ?_
      refine r_iconst E dX65_lookMailbox_51 (zkI (by decide) (by decide)) ?_
      refine r_bipush E dX65_lookMailbox_52 (by decide) (zkI (by decide) (by decide)) ?_
      refine r_callV E [(0, 0), (0, 31)] [] rfl zc_67 zr_67 (fun o _ => ⟨_, zw_X65.1 o, rfl⟩) (lw_V q3100 q3102 qs80 q292 q3103) dX65_lookMailbox_54 zy_X65_take_2 rfl (by omega) (by decide) (Nat.le_of_ble_eq_true rfl) (by decide) (fun l G => k_fX65_take_2 l G 0 31) (fun v7 => ?_)
      refine r_istore (ls' := [(5, 0, v7), (4, 0, v6), (0, 67, 0), (1, 0, x1), (2, 0, x2), (3, 0, x3)]) E dX65_lookMailbox_57 (by rw [hN]; decide) rfl ?_
      refine r_aload_n E dX65_lookMailbox_59 rfl 2 rfl ?_
      refine r_get E zc_67 zt_6604 dX65_lookMailbox_60 q1719 zr_67 (zg_6604 _) (by decide) (fun v8 => ?_)
      refine r_if_ne E 83 (by decide) dX65_lookMailbox_63 (fun _ => ?_) (fun _ => ?_)
      · refine r_pick E [2, 3, 4, 5, 1, 0] rfl ?_
        exact w_fX65_lookMailbox_J83 E hN hT x1 x2 x3 v6 v7 hr32
      · refine r_iload E dX65_lookMailbox_66 0 rfl ?_
        refine r_iload_n E dX65_lookMailbox_68 rfl 3 rfl ?_
        refine r_callSN E [(0, v7), (0, x1)] [] rfl q3121 q1858 q227 q1859 dX65_lookMailbox_69 zy_X0_dominates rfl (by omega) (by decide) (Nat.le_of_ble_eq_true rfl) (fun l G => k_fX0_dominates l G v7 x1) (fun v20 => ?_)
        refine r_if_ne E 83 (by decide) dX65_lookMailbox_72 (fun _ => ?_) (fun _ => ?_)
        · refine r_pick E [2, 3, 4, 5, 1, 0] rfl ?_
          exact w_fX65_lookMailbox_J83 E hN hT x1 x2 x3 v6 v7 hr32
        · refine r_aload_n E dX65_lookMailbox_75 rfl 2 rfl ?_
          refine r_iconst E dX65_lookMailbox_76 (zkI (by decide) (by decide)) ?_
          refine r_iload E dX65_lookMailbox_77 1 rfl ?_
          refine r_callV E [(0, 5), (0, v6)] [] rfl zc_67 zr_67 (fun o _ => ⟨_, zw_X65.1 o, rfl⟩) (lw_V q3092 q3094 qs78 q292 q3095) dX65_lookMailbox_79 zy_X65_wrong rfl (by omega) (by decide) (Nat.le_of_ble_eq_true rfl) (by decide) (fun l G => k_fX65_wrong l G 5 v6) (fun v21 => ?_)
          refine r_pop E (zn1 rfl) dX65_lookMailbox_82 ?_
          refine r_pick E [2, 3, 4, 5, 1, 0] rfl ?_
          exact w_fX65_lookMailbox_J83 E hN hT x1 x2 x3 v6 v7 hr32
theorem w_fX65_lookMailbox_J30 {K : zK} (E : zE K cX65_lookMailbox "RingHouse$Tape" none 3) (hN : zNl K = 8) (hT : zTr K = none) (x1 : Int) (x2 : Int) : zR K 30 [(0, 67, 0), (1, 0, x1), (2, 0, x2)] [] (fX65_lookMailbox_J30 x1 x2) := by
  refine r_iconst E dX65_lookMailbox_30 (zkI (by decide) (by decide)) ?_
  refine r_istore_n (ls' := [(3, 0, 0), (0, 67, 0), (1, 0, x1), (2, 0, x2)]) E dX65_lookMailbox_31 rfl (by rw [hN]; decide) rfl ?_
  refine r_pick E [1, 2, 3, 0] rfl ?_
  exact r_loop (L := fun s => [(0, 67, 0), (1, 0, x1), (2, 0, x2), (3, 0, s)]) (w_fX65_lookMailbox_B32 E hN hT x1 x2) zBIG 0
theorem w_fX65_lookMailbox_B11 {K : zK} (E : zE K cX65_lookMailbox "RingHouse$Tape" none 3) (hN : zNl K = 8) (hT : zTr K = none) (x1 : Int) (x2 : Int) : ∀ r11 : Int → zX, (∀ s : Int, zR K 11 [(0, 67, 0), (1, 0, x1), (2, 0, x2), (3, 0, s)] [] (r11 s)) → ∀ s : Int, zR K 11 [(0, 67, 0), (1, 0, x1), (2, 0, x2), (3, 0, s)] [] (fX65_lookMailbox_B11 x1 x2 r11 s) := by
  intro r11 hr11 x3
  refine r_iload_n E dX65_lookMailbox_11 rfl 3 rfl ?_
  refine r_bipush E dX65_lookMailbox_12 (by decide) (zkI (by decide) (by decide)) ?_
  refine r_icmp_ge E 30 (by decide) dX65_lookMailbox_14 (fun _ => ?_) (fun _ => ?_)
  · refine r_pick E [0, 1, 2] rfl ?_
    exact w_fX65_lookMailbox_J30 E hN hT x1 x2
  · refine r_aload_n E dX65_lookMailbox_17 rfl 0 rfl ?_
    refine r_gec (y := 0) E zc_67 dX65_lookMailbox_18 q1732 zr_67 (zh_6616 (by decide)) (by decide) ?_
    refine r_iload_n E dX65_lookMailbox_21 rfl 3 rfl ?_
    refine r_iconst E dX65_lookMailbox_22 (zkI (by decide) (by decide)) ?_
    refine r_iastore E zc_6616 za_6616 zt_6616 zo_6616 zx_6616 rfl rfl dX65_lookMailbox_23 (by decide) ?_
    refine r_iinc (ls' := fun v22 => [(3, 0, v22), (0, 67, 0), (1, 0, x1), (2, 0, x2)]) E 3 rfl (by rw [hN]; decide) (fun _ => rfl) dX65_lookMailbox_24 (fun v22 _ => ?_)
    refine r_goto E 11 (by decide) dX65_lookMailbox_27 ?_
    refine r_pick E [1, 2, 3, 0] rfl ?_
    exact hr11 v22
theorem w_fX65_lookMailbox {K : zK} (E : zE K cX65_lookMailbox "RingHouse$Tape" none 3) (hN : zNl K = 8) (hT : zTr K = none) (x1 : Int) : zR K 0 [(0, 67, 0), (1, 0, x1)] [] (fX65_lookMailbox x1) := by
  refine r_aload_n E dX65_lookMailbox_0 rfl 0 rfl ?_
  refine r_iconst E dX65_lookMailbox_1 (zkI (by decide) (by decide)) ?_
  refine r_sipush E dX65_lookMailbox_2 (by decide) (zkI (by decide) (by decide)) ?_
  refine r_callV E [(0, 0), (0, 128)] [] rfl zc_67 zr_67 (fun o _ => ⟨_, zw_X65.1 o, rfl⟩) (lw_V q3100 q3102 qs80 q292 q3103) dX65_lookMailbox_5 zy_X65_take_2 rfl (by omega) (by decide) (Nat.le_of_ble_eq_true rfl) (by decide) (fun l G => k_fX65_take_2 l G 0 128) (fun v1 => ?_)
  refine r_istore_n (ls' := [(2, 0, v1), (0, 67, 0), (1, 0, x1)]) E dX65_lookMailbox_8 rfl (by rw [hN]; decide) rfl ?_
  refine r_iconst E dX65_lookMailbox_9 (zkI (by decide) (by decide)) ?_
  refine r_istore_n (ls' := [(3, 0, 0), (2, 0, v1), (0, 67, 0), (1, 0, x1)]) E dX65_lookMailbox_10 rfl (by rw [hN]; decide) rfl ?_
  refine r_pick E [2, 3, 1, 0] rfl ?_
  exact r_loop (L := fun s => [(0, 67, 0), (1, 0, x1), (2, 0, v1), (3, 0, s)]) (w_fX65_lookMailbox_B11 E hN hT x1 v1) zBIG 0
theorem k_fX65_lookMailbox (l : Launch) (G : zG) (x1 : Int) : zCt l G yX65_lookMailbox cX65_lookMailbox 8 none 3 [(67, 0), (0, x1)] none (fX65_lookMailbox x1) := zCt.of (by decide) (Nat.le_of_ble_eq_true rfl) (fun K E _ _ hN hT => w_fX65_lookMailbox E hN hT x1)
theorem dX65_shut_0 : decode cX65_shut 0 = .ok (.aload_n 0, 1) := by decide +kernel
theorem dX65_shut_1 : decode cX65_shut 1 = .ok (.getfield 185, 3) := by decide +kernel
theorem dX65_shut_4 : decode cX65_shut 4 = .ok (.ifCond .le 152, 3) := by decide +kernel
theorem dX65_shut_7 : decode cX65_shut 7 = .ok (.aload_n 0, 1) := by decide +kernel
theorem dX65_shut_8 : decode cX65_shut 8 = .ok (.getfield 16, 3) := by decide +kernel
theorem dX65_shut_11 : decode cX65_shut 11 = .ok (.aload_n 0, 1) := by decide +kernel
theorem dX65_shut_12 : decode cX65_shut 12 = .ok (.getfield 185, 3) := by decide +kernel
theorem dX65_shut_15 : decode cX65_shut 15 = .ok (.iconst 1, 1) := by decide +kernel
theorem dX65_shut_16 : decode cX65_shut 16 = .ok (.isub, 1) := by decide +kernel
theorem dX65_shut_17 : decode cX65_shut 17 = .ok (.iaload, 1) := by decide +kernel
theorem dX65_shut_18 : decode cX65_shut 18 = .ok (.ifCond .ne 138, 3) := by decide +kernel
theorem dX65_shut_21 : decode cX65_shut 21 = .ok (.aload_n 0, 1) := by decide +kernel
theorem dX65_shut_22 : decode cX65_shut 22 = .ok (.dup, 1) := by decide +kernel
theorem dX65_shut_23 : decode cX65_shut 23 = .ok (.getfield 185, 3) := by decide +kernel
theorem dX65_shut_26 : decode cX65_shut 26 = .ok (.iconst 1, 1) := by decide +kernel
theorem dX65_shut_27 : decode cX65_shut 27 = .ok (.isub, 1) := by decide +kernel
theorem dX65_shut_28 : decode cX65_shut 28 = .ok (.putfield 185, 3) := by decide +kernel
theorem dX65_shut_31 : decode cX65_shut 31 = .ok (.aload_n 0, 1) := by decide +kernel
theorem dX65_shut_32 : decode cX65_shut 32 = .ok (.aload_n 0, 1) := by decide +kernel
theorem dX65_shut_33 : decode cX65_shut 33 = .ok (.getfield 212, 3) := by decide +kernel
theorem dX65_shut_36 : decode cX65_shut 36 = .ok (.ifCond .ne 36, 3) := by decide +kernel
theorem dX65_shut_39 : decode cX65_shut 39 = .ok (.aload_n 0, 1) := by decide +kernel
theorem dX65_shut_40 : decode cX65_shut 40 = .ok (.getfield 23, 3) := by decide +kernel
theorem dX65_shut_43 : decode cX65_shut 43 = .ok (.aload_n 0, 1) := by decide +kernel
theorem dX65_shut_44 : decode cX65_shut 44 = .ok (.getfield 185, 3) := by decide +kernel
theorem dX65_shut_47 : decode cX65_shut 47 = .ok (.iaload, 1) := by decide +kernel
theorem dX65_shut_48 : decode cX65_shut 48 = .ok (.ifCond .le 28, 3) := by decide +kernel
theorem dX65_shut_51 : decode cX65_shut 51 = .ok (.aload_n 0, 1) := by decide +kernel
theorem dX65_shut_52 : decode cX65_shut 52 = .ok (.getfield 26, 3) := by decide +kernel
theorem dX65_shut_55 : decode cX65_shut 55 = .ok (.aload_n 0, 1) := by decide +kernel
theorem dX65_shut_56 : decode cX65_shut 56 = .ok (.getfield 185, 3) := by decide +kernel
theorem dX65_shut_59 : decode cX65_shut 59 = .ok (.iaload, 1) := by decide +kernel
theorem dX65_shut_60 : decode cX65_shut 60 = .ok (.aload_n 0, 1) := by decide +kernel
theorem dX65_shut_61 : decode cX65_shut 61 = .ok (.getfield 23, 3) := by decide +kernel
theorem dX65_shut_64 : decode cX65_shut 64 = .ok (.aload_n 0, 1) := by decide +kernel
theorem dX65_shut_65 : decode cX65_shut 65 = .ok (.getfield 185, 3) := by decide +kernel
theorem dX65_shut_68 : decode cX65_shut 68 = .ok (.iaload, 1) := by decide +kernel
theorem dX65_shut_69 : decode cX65_shut 69 = .ok (.if_icmp .le 7, 3) := by decide +kernel
theorem dX65_shut_72 : decode cX65_shut 72 = .ok (.iconst 1, 1) := by decide +kernel
theorem dX65_shut_73 : decode cX65_shut 73 = .ok (.goto 4, 3) := by decide +kernel
theorem dX65_shut_76 : decode cX65_shut 76 = .ok (.iconst 0, 1) := by decide +kernel
theorem dX65_shut_77 : decode cX65_shut 77 = .ok (.putfield 212, 3) := by decide +kernel
theorem dX65_shut_80 : decode cX65_shut 80 = .ok (.iconst 1, 1) := by decide +kernel
theorem dX65_shut_81 : decode cX65_shut 81 = .ok (.aload_n 0, 1) := by decide +kernel
theorem dX65_shut_82 : decode cX65_shut 82 = .ok (.getfield 23, 3) := by decide +kernel
theorem dX65_shut_85 : decode cX65_shut 85 = .ok (.aload_n 0, 1) := by decide +kernel
theorem dX65_shut_86 : decode cX65_shut 86 = .ok (.getfield 185, 3) := by decide +kernel
theorem dX65_shut_89 : decode cX65_shut 89 = .ok (.iaload, 1) := by decide +kernel
theorem dX65_shut_90 : decode cX65_shut 90 = .ok (.ifCond .le 15, 3) := by decide +kernel
theorem dX65_shut_93 : decode cX65_shut 93 = .ok (.aload_n 0, 1) := by decide +kernel
theorem dX65_shut_94 : decode cX65_shut 94 = .ok (.getfield 23, 3) := by decide +kernel
theorem dX65_shut_97 : decode cX65_shut 97 = .ok (.aload_n 0, 1) := by decide +kernel
theorem dX65_shut_98 : decode cX65_shut 98 = .ok (.getfield 185, 3) := by decide +kernel
theorem dX65_shut_101 : decode cX65_shut 101 = .ok (.iaload, 1) := by decide +kernel
theorem dX65_shut_102 : decode cX65_shut 102 = .ok (.goto 12, 3) := by decide +kernel
theorem dX65_shut_105 : decode cX65_shut 105 = .ok (.aload_n 0, 1) := by decide +kernel
theorem dX65_shut_106 : decode cX65_shut 106 = .ok (.getfield 26, 3) := by decide +kernel
theorem dX65_shut_109 : decode cX65_shut 109 = .ok (.aload_n 0, 1) := by decide +kernel
theorem dX65_shut_110 : decode cX65_shut 110 = .ok (.getfield 185, 3) := by decide +kernel
theorem dX65_shut_113 : decode cX65_shut 113 = .ok (.iaload, 1) := by decide +kernel
theorem dX65_shut_114 : decode cX65_shut 114 = .ok (.iadd, 1) := by decide +kernel
theorem dX65_shut_115 : decode cX65_shut 115 = .ok (.istore_n 1, 1) := by decide +kernel
theorem dX65_shut_116 : decode cX65_shut 116 = .ok (.aload_n 0, 1) := by decide +kernel
theorem dX65_shut_117 : decode cX65_shut 117 = .ok (.aload_n 0, 1) := by decide +kernel
theorem dX65_shut_118 : decode cX65_shut 118 = .ok (.getfield 29, 3) := by decide +kernel
theorem dX65_shut_121 : decode cX65_shut 121 = .ok (.aload_n 0, 1) := by decide +kernel
theorem dX65_shut_122 : decode cX65_shut 122 = .ok (.getfield 185, 3) := by decide +kernel
theorem dX65_shut_125 : decode cX65_shut 125 = .ok (.iaload, 1) := by decide +kernel
theorem dX65_shut_126 : decode cX65_shut 126 = .ok (.putfield 188, 3) := by decide +kernel
theorem dX65_shut_129 : decode cX65_shut 129 = .ok (.aload_n 0, 1) := by decide +kernel
theorem dX65_shut_130 : decode cX65_shut 130 = .ok (.iload_n 1, 1) := by decide +kernel
theorem dX65_shut_131 : decode cX65_shut 131 = .ok (.invokevirtual 206, 3) := by decide +kernel
theorem dX65_shut_134 : decode cX65_shut 134 = .ok (.aload_n 0, 1) := by decide +kernel
theorem dX65_shut_135 : decode cX65_shut 135 = .ok (.aload_n 0, 1) := by decide +kernel
theorem dX65_shut_136 : decode cX65_shut 136 = .ok (.getfield 185, 3) := by decide +kernel
theorem dX65_shut_139 : decode cX65_shut 139 = .ok (.ifCond .ne 7, 3) := by decide +kernel
theorem dX65_shut_142 : decode cX65_shut 142 = .ok (.iload_n 1, 1) := by decide +kernel
theorem dX65_shut_143 : decode cX65_shut 143 = .ok (.goto 7, 3) := by decide +kernel
theorem dX65_shut_146 : decode cX65_shut 146 = .ok (.aload_n 0, 1) := by decide +kernel
theorem dX65_shut_147 : decode cX65_shut 147 = .ok (.getfield 209, 3) := by decide +kernel
theorem dX65_shut_150 : decode cX65_shut 150 = .ok (.putfield 209, 3) := by decide +kernel
theorem dX65_shut_153 : decode cX65_shut 153 = .ok (.goto (-153), 3) := by decide +kernel
theorem dX65_shut_156 : decode cX65_shut 156 = .ok (.return_, 1) := by decide +kernel
theorem zy_X65_shut : yX65_shut.cls ≠ "java/lang/invoke/MethodHandle" ∧ yX65_shut.cls ≠ "java/lang/invoke/VarHandle" ∧ (parseMethodDescriptor yX65_shut.desc).map (fun d => d.parameters.length) = some 0 := by decide +kernel
theorem w_fX65_shut_J150 {K : zK} (E : zE K cX65_shut "RingHouse$Tape" none 1) (hN : zNl K = 2) (hT : zTr K = none) (s1 : Int) {r0 : Int → zX} (hr0 : ∀ s : Int, zR K 0 [(0, 67, 0)] [] (r0 s)) : zR K 150 [(0, 67, 0)] [(0, s1), (67, 0)] (fX65_shut_J150 r0 s1) := by
  refine r_put E zc_67 zt_6617 zo_6617 dX65_shut_150 q1733 zr_67 zw_X65 zp_6617 (fun _ => rfl) (fun _ => rfl) (by decide) ?_
  refine r_goto E 0 (by decide) dX65_shut_153 ?_
  exact hr0 0
theorem w_fX65_shut_J114 {K : zK} (E : zE K cX65_shut "RingHouse$Tape" none 1) (hN : zNl K = 2) (hT : zTr K = none) (s0 : Int) (s1 : Int) {r0 : Int → zX} (hr0 : ∀ s : Int, zR K 0 [(0, 67, 0)] [] (r0 s)) : zR K 114 [(0, 67, 0)] [(0, s1), (0, s0)] (fX65_shut_J114 r0 s0 s1) := by
  refine r_iadd E dX65_shut_114 ?_
  refine r_let E (fun v11 ev11 => ?_)
  refine r_istore_n (ls' := [(1, 0, v11), (0, 67, 0)]) E dX65_shut_115 rfl (by rw [hN]; decide) rfl ?_
  refine r_aload_n E dX65_shut_116 rfl 1 rfl ?_
  refine r_aload_n E dX65_shut_117 rfl 1 rfl ?_
  refine r_gec (y := 0) E zc_67 dX65_shut_118 q1726 zr_67 (zh_6610 (by decide)) (by decide) ?_
  refine r_aload_n E dX65_shut_121 rfl 1 rfl ?_
  refine r_get E zc_67 zt_6612 dX65_shut_122 q1728 zr_67 (zg_6612 _) (by decide) (fun v12 => ?_)
  refine r_iaload E zc_6610 za_6610 zt_6610 zx_6610 rfl rfl dX65_shut_125 (by decide) (fun v13 => ?_)
  refine r_put E zc_67 zt_6613 zo_6613 dX65_shut_126 q1729 zr_67 zw_X65 zp_6613 (fun _ => rfl) (fun _ => rfl) (by decide) ?_
  refine r_aload_n E dX65_shut_129 rfl 1 rfl ?_
  refine r_iload_n E dX65_shut_130 rfl 0 rfl ?_
  refine r_callV E [(0, v11)] [] rfl zc_67 zr_67 (fun o _ => ⟨_, zw_X65.1 o, rfl⟩) (lw_V q3128 q3130 qs86 q292 q3131) dX65_shut_131 zy_X65_charge rfl (by omega) (by decide) (Nat.le_of_ble_eq_true rfl) (by decide) (fun l G => k_fX65_charge l G v11) (fun _ => ?_)
  refine r_aload_n E dX65_shut_134 rfl 1 rfl ?_
  refine r_aload_n E dX65_shut_135 rfl 1 rfl ?_
  refine r_get E zc_67 zt_6612 dX65_shut_136 q1728 zr_67 (zg_6612 _) (by decide) (fun v15 => ?_)
  refine r_if_ne E 146 (by decide) dX65_shut_139 (fun _ => ?_) (fun _ => ?_)
  · refine r_aload_n E dX65_shut_146 rfl 1 rfl ?_
    refine r_get E zc_67 zt_6617 dX65_shut_147 q1733 zr_67 (zg_6617 _) (by decide) (fun v16 => ?_)
    refine r_pick E [1] rfl ?_
    exact w_fX65_shut_J150 E hN hT v16 hr0
  · refine r_iload_n E dX65_shut_142 rfl 0 rfl ?_
    refine r_goto E 150 (by decide) dX65_shut_143 ?_
    refine r_pick E [1] rfl ?_
    exact w_fX65_shut_J150 E hN hT v11 hr0
theorem w_fX65_shut_J77 {K : zK} (E : zE K cX65_shut "RingHouse$Tape" none 1) (hN : zNl K = 2) (hT : zTr K = none) (s1 : Int) {r0 : Int → zX} (hr0 : ∀ s : Int, zR K 0 [(0, 67, 0)] [] (r0 s)) : zR K 77 [(0, 67, 0)] [(0, s1), (67, 0)] (fX65_shut_J77 r0 s1) := by
  refine r_pb (fun hb6 => ?_)
  refine r_put E zc_67 zt_6614 zo_6614 dX65_shut_77 q1730 zr_67 zw_X65 zp_6614 (znb hb6) (zfb hb6) (by decide) ?_
  refine r_iconst E dX65_shut_80 (zkI (by decide) (by decide)) ?_
  refine r_aload_n E dX65_shut_81 rfl 0 rfl ?_
  refine r_gec (y := 0) E zc_67 dX65_shut_82 q1724 zr_67 (zh_6608 (by decide)) (by decide) ?_
  refine r_aload_n E dX65_shut_85 rfl 0 rfl ?_
  refine r_get E zc_67 zt_6612 dX65_shut_86 q1728 zr_67 (zg_6612 _) (by decide) (fun v7 => ?_)
  refine r_iaload E zc_6608 za_6608 zt_6608 zx_6608 rfl rfl dX65_shut_89 (by decide) (fun v8 => ?_)
  refine r_if_le E 105 (by decide) dX65_shut_90 (fun _ => ?_) (fun _ => ?_)
  · refine r_aload_n E dX65_shut_105 rfl 0 rfl ?_
    refine r_gec (y := 0) E zc_67 dX65_shut_106 q1725 zr_67 (zh_6609 (by decide)) (by decide) ?_
    refine r_aload_n E dX65_shut_109 rfl 0 rfl ?_
    refine r_get E zc_67 zt_6612 dX65_shut_110 q1728 zr_67 (zg_6612 _) (by decide) (fun v9 => ?_)
    refine r_iaload E zc_6609 za_6609 zt_6609 zx_6609 rfl rfl dX65_shut_113 (by decide) (fun v10 => ?_)
    exact w_fX65_shut_J114 E hN hT 1 v10 hr0
  · refine r_aload_n E dX65_shut_93 rfl 0 rfl ?_
    refine r_gec (y := 0) E zc_67 dX65_shut_94 q1724 zr_67 (zh_6608 (by decide)) (by decide) ?_
    refine r_aload_n E dX65_shut_97 rfl 0 rfl ?_
    refine r_get E zc_67 zt_6612 dX65_shut_98 q1728 zr_67 (zg_6612 _) (by decide) (fun v17 => ?_)
    refine r_iaload E zc_6608 za_6608 zt_6608 zx_6608 rfl rfl dX65_shut_101 (by decide) (fun v18 => ?_)
    refine r_goto E 114 (by decide) dX65_shut_102 ?_
    exact w_fX65_shut_J114 E hN hT 1 v18 hr0
theorem w_fX65_shut_J72 {K : zK} (E : zE K cX65_shut "RingHouse$Tape" none 1) (hN : zNl K = 2) (hT : zTr K = none) {r0 : Int → zX} (hr0 : ∀ s : Int, zR K 0 [(0, 67, 0)] [] (r0 s)) : zR K 72 [(0, 67, 0)] [(67, 0)] (fX65_shut_J72 r0) := by
  refine r_iconst E dX65_shut_72 (zkI (by decide) (by decide)) ?_
  refine r_goto E 77 (by decide) dX65_shut_73 ?_
  exact w_fX65_shut_J77 E hN hT 1 hr0
theorem w_fX65_shut_J76 {K : zK} (E : zE K cX65_shut "RingHouse$Tape" none 1) (hN : zNl K = 2) (hT : zTr K = none) {r0 : Int → zX} (hr0 : ∀ s : Int, zR K 0 [(0, 67, 0)] [] (r0 s)) : zR K 76 [(0, 67, 0)] [(67, 0)] (fX65_shut_J76 r0) := by
  refine r_iconst E dX65_shut_76 (zkI (by decide) (by decide)) ?_
  exact w_fX65_shut_J77 E hN hT 0 hr0
theorem w_fX65_shut_B0 {K : zK} (E : zE K cX65_shut "RingHouse$Tape" none 1) (hN : zNl K = 2) (hT : zTr K = none) : ∀ r0 : Int → zX, (∀ s : Int, zR K 0 [(0, 67, 0)] [] (r0 s)) → ∀ s : Int, zR K 0 [(0, 67, 0)] [] (fX65_shut_B0 r0 s) := by
  intro r0 hr0 s
  refine r_aload_n E dX65_shut_0 rfl 0 rfl ?_
  refine r_get E zc_67 zt_6612 dX65_shut_1 q1728 zr_67 (zg_6612 _) (by decide) (fun v1 => ?_)
  refine r_if_le E 156 (by decide) dX65_shut_4 (fun _ => ?_) (fun _ => ?_)
  · exact r_return E rfl hT dX65_shut_156
  · refine r_aload_n E dX65_shut_7 rfl 0 rfl ?_
    refine r_gec (y := 0) E zc_67 dX65_shut_8 q1722 zr_67 (zh_6606 (by decide)) (by decide) ?_
    refine r_aload_n E dX65_shut_11 rfl 0 rfl ?_
    refine r_get E zc_67 zt_6612 dX65_shut_12 q1728 zr_67 (zg_6612 _) (by decide) (fun v2 => ?_)
    refine r_iconst E dX65_shut_15 (zkI (by decide) (by decide)) ?_
    refine r_isub E dX65_shut_16 ?_
    refine r_iaload E zc_6606 za_6606 zt_6606 zx_6606 rfl rfl dX65_shut_17 (by decide) (fun v3 => ?_)
    refine r_if_ne E 156 (by decide) dX65_shut_18 (fun _ => ?_) (fun _ => ?_)
    · exact r_return E rfl hT dX65_shut_156
    · refine r_aload_n E dX65_shut_21 rfl 0 rfl ?_
      refine r_dup E (zn1 rfl) dX65_shut_22 ?_
      refine r_get E zc_67 zt_6612 dX65_shut_23 q1728 zr_67 (zg_6612 _) (by decide) (fun v4 => ?_)
      refine r_iconst E dX65_shut_26 (zkI (by decide) (by decide)) ?_
      refine r_isub E dX65_shut_27 ?_
      refine r_put E zc_67 zt_6612 zo_6612 dX65_shut_28 q1728 zr_67 zw_X65 zp_6612 (fun _ => rfl) (fun _ => rfl) (by decide) ?_
      refine r_aload_n E dX65_shut_31 rfl 0 rfl ?_
      refine r_aload_n E dX65_shut_32 rfl 0 rfl ?_
      refine r_get E zc_67 zt_6614 dX65_shut_33 q1730 zr_67 (zg_6614 _) (by decide) (fun v5 => ?_)
      refine r_if_ne E 72 (by decide) dX65_shut_36 (fun _ => ?_) (fun _ => ?_)
      · exact w_fX65_shut_J72 E hN hT hr0
      · refine r_aload_n E dX65_shut_39 rfl 0 rfl ?_
        refine r_gec (y := 0) E zc_67 dX65_shut_40 q1724 zr_67 (zh_6608 (by decide)) (by decide) ?_
        refine r_aload_n E dX65_shut_43 rfl 0 rfl ?_
        refine r_get E zc_67 zt_6612 dX65_shut_44 q1728 zr_67 (zg_6612 _) (by decide) (fun v19 => ?_)
        refine r_iaload E zc_6608 za_6608 zt_6608 zx_6608 rfl rfl dX65_shut_47 (by decide) (fun v20 => ?_)
        refine r_if_le E 76 (by decide) dX65_shut_48 (fun _ => ?_) (fun _ => ?_)
        · exact w_fX65_shut_J76 E hN hT hr0
        · refine r_aload_n E dX65_shut_51 rfl 0 rfl ?_
          refine r_gec (y := 0) E zc_67 dX65_shut_52 q1725 zr_67 (zh_6609 (by decide)) (by decide) ?_
          refine r_aload_n E dX65_shut_55 rfl 0 rfl ?_
          refine r_get E zc_67 zt_6612 dX65_shut_56 q1728 zr_67 (zg_6612 _) (by decide) (fun v21 => ?_)
          refine r_iaload E zc_6609 za_6609 zt_6609 zx_6609 rfl rfl dX65_shut_59 (by decide) (fun v22 => ?_)
          refine r_aload_n E dX65_shut_60 rfl 0 rfl ?_
          refine r_gec (y := 0) E zc_67 dX65_shut_61 q1724 zr_67 (zh_6608 (by decide)) (by decide) ?_
          refine r_aload_n E dX65_shut_64 rfl 0 rfl ?_
          refine r_get E zc_67 zt_6612 dX65_shut_65 q1728 zr_67 (zg_6612 _) (by decide) (fun v23 => ?_)
          refine r_iaload E zc_6608 za_6608 zt_6608 zx_6608 rfl rfl dX65_shut_68 (by decide) (fun v24 => ?_)
          refine r_icmp_le E 76 (by decide) dX65_shut_69 (fun _ => ?_) (fun _ => ?_)
          · exact w_fX65_shut_J76 E hN hT hr0
          · exact w_fX65_shut_J72 E hN hT hr0
theorem w_fX65_shut {K : zK} (E : zE K cX65_shut "RingHouse$Tape" none 1) (hN : zNl K = 2) (hT : zTr K = none) : zR K 0 [(0, 67, 0)] [] (fX65_shut) := by
  exact r_loop (L := fun s => [(0, 67, 0)]) (w_fX65_shut_B0 E hN hT) zBIG 0
theorem k_fX65_shut (l : Launch) (G : zG) : zCt l G yX65_shut cX65_shut 2 none 1 [(67, 0)] none (fX65_shut) := zCt.of (by decide) (Nat.le_of_ble_eq_true rfl) (fun K E _ _ hN hT => w_fX65_shut E hN hT)
theorem dX65_lookSegment_0 : decode cX65_lookSegment 0 = .ok (.aload_n 0, 1) := by decide +kernel
theorem dX65_lookSegment_1 : decode cX65_lookSegment 1 = .ok (.iconst 0, 1) := by decide +kernel
theorem dX65_lookSegment_2 : decode cX65_lookSegment 2 = .ok (.bipush 63, 2) := by decide +kernel
theorem dX65_lookSegment_4 : decode cX65_lookSegment 4 = .ok (.invokevirtual 191, 3) := by decide +kernel
theorem dX65_lookSegment_7 : decode cX65_lookSegment 7 = .ok (.pop, 1) := by decide +kernel
theorem dX65_lookSegment_8 : decode cX65_lookSegment 8 = .ok (.aload_n 0, 1) := by decide +kernel
theorem dX65_lookSegment_9 : decode cX65_lookSegment 9 = .ok (.getfield 166, 3) := by decide +kernel
theorem dX65_lookSegment_12 : decode cX65_lookSegment 12 = .ok (.istore_n 1, 1) := by decide +kernel
theorem dX65_lookSegment_13 : decode cX65_lookSegment 13 = .ok (.aload_n 0, 1) := by decide +kernel
theorem dX65_lookSegment_14 : decode cX65_lookSegment 14 = .ok (.invokevirtual 173, 3) := by decide +kernel
theorem dX65_lookSegment_17 : decode cX65_lookSegment 17 = .ok (.bipush 8, 2) := by decide +kernel
theorem dX65_lookSegment_19 : decode cX65_lookSegment 19 = .ok (.ishl, 1) := by decide +kernel
theorem dX65_lookSegment_20 : decode cX65_lookSegment 20 = .ok (.istore_n 2, 1) := by decide +kernel
theorem dX65_lookSegment_21 : decode cX65_lookSegment 21 = .ok (.iload_n 2, 1) := by decide +kernel
theorem dX65_lookSegment_22 : decode cX65_lookSegment 22 = .ok (.aload_n 0, 1) := by decide +kernel
theorem dX65_lookSegment_23 : decode cX65_lookSegment 23 = .ok (.invokevirtual 173, 3) := by decide +kernel
theorem dX65_lookSegment_26 : decode cX65_lookSegment 26 = .ok (.iadd, 1) := by decide +kernel
theorem dX65_lookSegment_27 : decode cX65_lookSegment 27 = .ok (.istore_n 2, 1) := by decide +kernel
theorem dX65_lookSegment_28 : decode cX65_lookSegment 28 = .ok (.aload_n 0, 1) := by decide +kernel
theorem dX65_lookSegment_29 : decode cX65_lookSegment 29 = .ok (.getfield 160, 3) := by decide +kernel
theorem dX65_lookSegment_32 : decode cX65_lookSegment 32 = .ok (.ifCond .ne 17, 3) := by decide +kernel
theorem dX65_lookSegment_35 : decode cX65_lookSegment 35 = .ok (.iload_n 2, 1) := by decide +kernel
theorem dX65_lookSegment_36 : decode cX65_lookSegment 36 = .ok (.sipush 1024, 3) := by decide +kernel
theorem dX65_lookSegment_39 : decode cX65_lookSegment 39 = .ok (.if_icmp .le 10, 3) := by decide +kernel
theorem dX65_lookSegment_42 : decode cX65_lookSegment 42 = .ok (.aload_n 0, 1) := by decide +kernel
theorem dX65_lookSegment_43 : decode cX65_lookSegment 43 = .ok (.iconst 3, 1) := by decide +kernel
theorem dX65_lookSegment_44 : decode cX65_lookSegment 44 = .ok (.iload_n 1, 1) := by decide +kernel
theorem dX65_lookSegment_45 : decode cX65_lookSegment 45 = .ok (.invokevirtual 169, 3) := by decide +kernel
theorem dX65_lookSegment_48 : decode cX65_lookSegment 48 = .ok (.pop, 1) := by decide +kernel
theorem dX65_lookSegment_49 : decode cX65_lookSegment 49 = .ok (.iconst 0, 1) := by decide +kernel
theorem dX65_lookSegment_50 : decode cX65_lookSegment 50 = .ok (.istore_n 3, 1) := by decide +kernel
theorem dX65_lookSegment_51 : decode cX65_lookSegment 51 = .ok (.iload_n 3, 1) := by decide +kernel
theorem dX65_lookSegment_52 : decode cX65_lookSegment 52 = .ok (.iload_n 2, 1) := by decide +kernel
theorem dX65_lookSegment_53 : decode cX65_lookSegment 53 = .ok (.if_icmp .ge 49, 3) := by decide +kernel
theorem dX65_lookSegment_56 : decode cX65_lookSegment 56 = .ok (.aload_n 0, 1) := by decide +kernel
theorem dX65_lookSegment_57 : decode cX65_lookSegment 57 = .ok (.getfield 160, 3) := by decide +kernel
theorem dX65_lookSegment_60 : decode cX65_lookSegment 60 = .ok (.ifCond .ne 42, 3) := by decide +kernel
theorem dX65_lookSegment_63 : decode cX65_lookSegment 63 = .ok (.aload_n 0, 1) := by decide +kernel
theorem dX65_lookSegment_64 : decode cX65_lookSegment 64 = .ok (.getfield 166, 3) := by decide +kernel
theorem dX65_lookSegment_67 : decode cX65_lookSegment 67 = .ok (.istore_n 1, 1) := by decide +kernel
theorem dX65_lookSegment_68 : decode cX65_lookSegment 68 = .ok (.aload_n 0, 1) := by decide +kernel
theorem dX65_lookSegment_69 : decode cX65_lookSegment 69 = .ok (.invokevirtual 177, 3) := by decide +kernel
theorem dX65_lookSegment_72 : decode cX65_lookSegment 72 = .ok (.lstore 4, 2) := by decide +kernel
theorem dX65_lookSegment_74 : decode cX65_lookSegment 74 = .ok (.aload_n 0, 1) := by decide +kernel
theorem dX65_lookSegment_75 : decode cX65_lookSegment 75 = .ok (.getfield 160, 3) := by decide +kernel
theorem dX65_lookSegment_78 : decode cX65_lookSegment 78 = .ok (.ifCond .ne 18, 3) := by decide +kernel
theorem dX65_lookSegment_81 : decode cX65_lookSegment 81 = .ok (.lload 4, 2) := by decide +kernel
theorem dX65_lookSegment_83 : decode cX65_lookSegment 83 = .ok (.invokestatic 200, 3) := by decide +kernel
theorem dX65_lookSegment_86 : decode cX65_lookSegment 86 = .ok (.ifCond .ne 10, 3) := by decide +kernel
theorem dX65_lookSegment_89 : decode cX65_lookSegment 89 = .ok (.aload_n 0, 1) := by decide +kernel
theorem dX65_lookSegment_90 : decode cX65_lookSegment 90 = .ok (.iconst 3, 1) := by decide +kernel
theorem dX65_lookSegment_91 : decode cX65_lookSegment 91 = .ok (.iload_n 1, 1) := by decide +kernel
theorem dX65_lookSegment_92 : decode cX65_lookSegment 92 = .ok (.invokevirtual 169, 3) := by decide +kernel
theorem dX65_lookSegment_95 : decode cX65_lookSegment 95 = .ok (.pop, 1) := by decide +kernel
theorem dX65_lookSegment_96 : decode cX65_lookSegment 96 = .ok (.iinc 3 1, 3) := by decide +kernel
theorem dX65_lookSegment_99 : decode cX65_lookSegment 99 = .ok (.goto (-48), 3) := by decide +kernel
theorem dX65_lookSegment_102 : decode cX65_lookSegment 102 = .ok (.aload_n 0, 1) := by decide +kernel
theorem dX65_lookSegment_103 : decode cX65_lookSegment 103 = .ok (.iconst 1, 1) := by decide +kernel
theorem dX65_lookSegment_104 : decode cX65_lookSegment 104 = .ok (.iload_n 2, 1) := by decide +kernel
theorem dX65_lookSegment_105 : decode cX65_lookSegment 105 = .ok (.invokestatic 203, 3) := by decide +kernel
theorem dX65_lookSegment_108 : decode cX65_lookSegment 108 = .ok (.iadd, 1) := by decide +kernel
theorem dX65_lookSegment_109 : decode cX65_lookSegment 109 = .ok (.invokevirtual 206, 3) := by decide +kernel
theorem dX65_lookSegment_112 : decode cX65_lookSegment 112 = .ok (.aload_n 0, 1) := by decide +kernel
theorem dX65_lookSegment_113 : decode cX65_lookSegment 113 = .ok (.aload_n 0, 1) := by decide +kernel
theorem dX65_lookSegment_114 : decode cX65_lookSegment 114 = .ok (.getfield 185, 3) := by decide +kernel
theorem dX65_lookSegment_117 : decode cX65_lookSegment 117 = .ok (.ifCond .ne 12, 3) := by decide +kernel
theorem dX65_lookSegment_120 : decode cX65_lookSegment 120 = .ok (.iconst 1, 1) := by decide +kernel
theorem dX65_lookSegment_121 : decode cX65_lookSegment 121 = .ok (.iload_n 2, 1) := by decide +kernel
theorem dX65_lookSegment_122 : decode cX65_lookSegment 122 = .ok (.invokestatic 203, 3) := by decide +kernel
theorem dX65_lookSegment_125 : decode cX65_lookSegment 125 = .ok (.iadd, 1) := by decide +kernel
theorem dX65_lookSegment_126 : decode cX65_lookSegment 126 = .ok (.goto 7, 3) := by decide +kernel
theorem dX65_lookSegment_129 : decode cX65_lookSegment 129 = .ok (.aload_n 0, 1) := by decide +kernel
theorem dX65_lookSegment_130 : decode cX65_lookSegment 130 = .ok (.getfield 209, 3) := by decide +kernel
theorem dX65_lookSegment_133 : decode cX65_lookSegment 133 = .ok (.putfield 209, 3) := by decide +kernel
theorem dX65_lookSegment_136 : decode cX65_lookSegment 136 = .ok (.return_, 1) := by decide +kernel
theorem zy_X65_lookSegment : yX65_lookSegment.cls ≠ "java/lang/invoke/MethodHandle" ∧ yX65_lookSegment.cls ≠ "java/lang/invoke/VarHandle" ∧ (parseMethodDescriptor yX65_lookSegment.desc).map (fun d => d.parameters.length) = some 0 := by decide +kernel
theorem w_fX65_lookSegment_J133 {K : zK} (E : zE K cX65_lookSegment "RingHouse$Tape" none 3) (hN : zNl K = 6) (hT : zTr K = none) (s1 : Int) : zR K 133 [] [(0, s1), (67, 0)] (fX65_lookSegment_J133 s1) := by
  refine r_put E zc_67 zt_6617 zo_6617 dX65_lookSegment_133 q1733 zr_67 zw_X65 zp_6617 (fun _ => rfl) (fun _ => rfl) (by decide) ?_
  exact r_return E rfl hT dX65_lookSegment_136
theorem w_fX65_lookSegment_J102 {K : zK} (E : zE K cX65_lookSegment "RingHouse$Tape" none 3) (hN : zNl K = 6) (hT : zTr K = none) (x2 : Int) : zR K 102 [(0, 67, 0), (2, 0, x2)] [] (fX65_lookSegment_J102 x2) := by
  refine r_aload_n E dX65_lookSegment_102 rfl 0 rfl ?_
  refine r_iconst E dX65_lookSegment_103 (zkI (by decide) (by decide)) ?_
  refine r_iload_n E dX65_lookSegment_104 rfl 1 rfl ?_
  refine r_callSN E [(0, x2)] [(0, 1), (67, 0)] rfl q3127 q1929 q227 q1930 dX65_lookSegment_105 zy_X0_records rfl (by omega) (by decide) (Nat.le_of_ble_eq_true rfl) (fun l G => k_fX0_records l G x2) (fun v8 => ?_)
  refine r_iadd E dX65_lookSegment_108 ?_
  refine r_callV E [(0, (zi (1 + v8)))] [] rfl zc_67 zr_67 (fun o _ => ⟨_, zw_X65.1 o, rfl⟩) (lw_V q3128 q3130 qs86 q292 q3131) dX65_lookSegment_109 zy_X65_charge rfl (by omega) (by decide) (Nat.le_of_ble_eq_true rfl) (by decide) (fun l G => k_fX65_charge l G (zi (1 + v8))) (fun _ => ?_)
  refine r_aload_n E dX65_lookSegment_112 rfl 0 rfl ?_
  refine r_aload_n E dX65_lookSegment_113 rfl 0 rfl ?_
  refine r_get E zc_67 zt_6612 dX65_lookSegment_114 q1728 zr_67 (zg_6612 _) (by decide) (fun v10 => ?_)
  refine r_if_ne E 129 (by decide) dX65_lookSegment_117 (fun _ => ?_) (fun _ => ?_)
  · refine r_aload_n E dX65_lookSegment_129 rfl 0 rfl ?_
    refine r_get E zc_67 zt_6617 dX65_lookSegment_130 q1733 zr_67 (zg_6617 _) (by decide) (fun v11 => ?_)
    refine r_pick E [] rfl ?_
    exact w_fX65_lookSegment_J133 E hN hT v11
  · refine r_iconst E dX65_lookSegment_120 (zkI (by decide) (by decide)) ?_
    refine r_iload_n E dX65_lookSegment_121 rfl 1 rfl ?_
    refine r_callSN E [(0, x2)] [(0, 1), (67, 0)] rfl q3127 q1929 q227 q1930 dX65_lookSegment_122 zy_X0_records rfl (by omega) (by decide) (Nat.le_of_ble_eq_true rfl) (fun l G => k_fX0_records l G x2) (fun v12 => ?_)
    refine r_iadd E dX65_lookSegment_125 ?_
    refine r_goto E 133 (by decide) dX65_lookSegment_126 ?_
    refine r_pick E [] rfl ?_
    exact w_fX65_lookSegment_J133 E hN hT (zi (1 + v12))
theorem w_fX65_lookSegment_J96 {K : zK} (E : zE K cX65_lookSegment "RingHouse$Tape" none 3) (hN : zNl K = 6) (hT : zTr K = none) (x2 : Int) (x3 : Int) {r51 : Int → zX} (hr51 : ∀ s : Int, zR K 51 [(0, 67, 0), (2, 0, x2), (3, 0, s)] [] (r51 s)) : zR K 96 [(0, 67, 0), (2, 0, x2), (3, 0, x3)] [] (fX65_lookSegment_J96 r51 x2 x3) := by
  refine r_iinc (ls' := fun v17 => [(3, 0, v17), (0, 67, 0), (2, 0, x2)]) E 2 rfl (by rw [hN]; decide) (fun _ => rfl) dX65_lookSegment_96 (fun v17 _ => ?_)
  refine r_goto E 51 (by decide) dX65_lookSegment_99 ?_
  refine r_pick E [1, 2, 0] rfl ?_
  exact hr51 v17
theorem w_fX65_lookSegment_B51 {K : zK} (E : zE K cX65_lookSegment "RingHouse$Tape" none 3) (hN : zNl K = 6) (hT : zTr K = none) (x2 : Int) : ∀ r51 : Int → zX, (∀ s : Int, zR K 51 [(0, 67, 0), (2, 0, x2), (3, 0, s)] [] (r51 s)) → ∀ s : Int, zR K 51 [(0, 67, 0), (2, 0, x2), (3, 0, s)] [] (fX65_lookSegment_B51 x2 r51 s) := by
  intro r51 hr51 x3
  refine r_iload_n E dX65_lookSegment_51 rfl 2 rfl ?_
  refine r_iload_n E dX65_lookSegment_52 rfl 1 rfl ?_
  refine r_icmp_ge E 102 (by decide) dX65_lookSegment_53 (fun _ => ?_) (fun _ => ?_)
  · refine r_pick E [0, 1] rfl ?_
    exact w_fX65_lookSegment_J102 E hN hT x2
  · refine r_aload_n E dX65_lookSegment_56 rfl 0 rfl ?_
    refine r_get E zc_67 zt_6604 dX65_lookSegment_57 q1719 zr_67 (zg_6604 _) (by decide) (fun v13 => ?_)
    refine r_if_ne E 102 (by decide) dX65_lookSegment_60 (fun _ => ?_) (fun _ => ?_)
    · refine r_pick E [0, 1] rfl ?_
      exact w_fX65_lookSegment_J102 E hN hT x2
    · refine r_aload_n E dX65_lookSegment_63 rfl 0 rfl ?_
      refine r_get E zc_67 zt_6603 dX65_lookSegment_64 q1718 zr_67 (zg_6603 _) (by decide) (fun v14 => ?_)
      refine r_istore_n (ls' := [(1, 0, v14), (0, 67, 0), (2, 0, x2), (3, 0, x3)]) E dX65_lookSegment_67 rfl (by rw [hN]; decide) rfl ?_
      refine r_aload_n E dX65_lookSegment_68 rfl 1 rfl ?_
      refine r_callV E [] [] rfl zc_67 zr_67 (fun o _ => ⟨_, zw_X65.1 o, rfl⟩) (lw_V q3108 q3110 qs82 q292 q3111) dX65_lookSegment_69 zy_X65_takeWord rfl (by omega) (by decide) (Nat.le_of_ble_eq_true rfl) (by decide) (fun l G => k_fX65_takeWord l G) (fun v15 => ?_)
      refine r_lstore (ls' := [(4, 1, v15), (1, 0, v14), (0, 67, 0), (2, 0, x2), (3, 0, x3)]) E dX65_lookSegment_72 (by rw [hN]; decide) rfl ?_
      refine r_aload_n E dX65_lookSegment_74 rfl 2 rfl ?_
      refine r_get E zc_67 zt_6604 dX65_lookSegment_75 q1719 zr_67 (zg_6604 _) (by decide) (fun v16 => ?_)
      refine r_if_ne E 96 (by decide) dX65_lookSegment_78 (fun _ => ?_) (fun _ => ?_)
      · refine r_pick E [2, 3, 4] rfl ?_
        exact w_fX65_lookSegment_J96 E hN hT x2 x3 hr51
      · refine r_lload E dX65_lookSegment_81 0 rfl ?_
        refine r_callSN E [(1, v15)] [] rfl q3126 q1845 q227 q1846 dX65_lookSegment_83 zy_X0_isWord rfl (by omega) (by decide) (Nat.le_of_ble_eq_true rfl) (fun l G => k_fX0_isWord l G v15) (fun v18 => ?_)
        refine r_if_ne E 96 (by decide) dX65_lookSegment_86 (fun _ => ?_) (fun _ => ?_)
        · refine r_pick E [2, 3, 4] rfl ?_
          exact w_fX65_lookSegment_J96 E hN hT x2 x3 hr51
        · refine r_aload_n E dX65_lookSegment_89 rfl 2 rfl ?_
          refine r_iconst E dX65_lookSegment_90 (zkI (by decide) (by decide)) ?_
          refine r_iload_n E dX65_lookSegment_91 rfl 1 rfl ?_
          refine r_callV E [(0, 3), (0, v14)] [] rfl zc_67 zr_67 (fun o _ => ⟨_, zw_X65.1 o, rfl⟩) (lw_V q3092 q3094 qs78 q292 q3095) dX65_lookSegment_92 zy_X65_wrong rfl (by omega) (by decide) (Nat.le_of_ble_eq_true rfl) (by decide) (fun l G => k_fX65_wrong l G 3 v14) (fun v19 => ?_)
          refine r_pop E (zn1 rfl) dX65_lookSegment_95 ?_
          refine r_pick E [2, 3, 4] rfl ?_
          exact w_fX65_lookSegment_J96 E hN hT x2 x3 hr51
theorem w_fX65_lookSegment_J49 {K : zK} (E : zE K cX65_lookSegment "RingHouse$Tape" none 3) (hN : zNl K = 6) (hT : zTr K = none) (x2 : Int) : zR K 49 [(0, 67, 0), (2, 0, x2)] [] (fX65_lookSegment_J49 x2) := by
  refine r_iconst E dX65_lookSegment_49 (zkI (by decide) (by decide)) ?_
  refine r_istore_n (ls' := [(3, 0, 0), (0, 67, 0), (2, 0, x2)]) E dX65_lookSegment_50 rfl (by rw [hN]; decide) rfl ?_
  refine r_pick E [1, 2, 0] rfl ?_
  exact r_loop (L := fun s => [(0, 67, 0), (2, 0, x2), (3, 0, s)]) (w_fX65_lookSegment_B51 E hN hT x2) zBIG 0
theorem w_fX65_lookSegment {K : zK} (E : zE K cX65_lookSegment "RingHouse$Tape" none 3) (hN : zNl K = 6) (hT : zTr K = none) : zR K 0 [(0, 67, 0)] [] (fX65_lookSegment) := by
  refine r_aload_n E dX65_lookSegment_0 rfl 0 rfl ?_
  refine r_iconst E dX65_lookSegment_1 (zkI (by decide) (by decide)) ?_
  refine r_bipush E dX65_lookSegment_2 (by decide) (zkI (by decide) (by decide)) ?_
  refine r_callV E [(0, 0), (0, 63)] [] rfl zc_67 zr_67 (fun o _ => ⟨_, zw_X65.1 o, rfl⟩) (lw_V q3100 q3102 qs80 q292 q3103) dX65_lookSegment_4 zy_X65_take_2 rfl (by omega) (by decide) (Nat.le_of_ble_eq_true rfl) (by decide) (fun l G => k_fX65_take_2 l G 0 63) (fun v1 => ?_)
  refine r_pop E (zn1 rfl) dX65_lookSegment_7 ?_
  refine r_aload_n E dX65_lookSegment_8 rfl 0 rfl ?_
  refine r_get E zc_67 zt_6603 dX65_lookSegment_9 q1718 zr_67 (zg_6603 _) (by decide) (fun v2 => ?_)
  refine r_istore_n (ls' := [(1, 0, v2), (0, 67, 0)]) E dX65_lookSegment_12 rfl (by rw [hN]; decide) rfl ?_
  refine r_aload_n E dX65_lookSegment_13 rfl 1 rfl ?_
  refine r_callV E [] [] rfl zc_67 zr_67 (fun o _ => ⟨_, zw_X65.1 o, rfl⟩) (lw_V q3088 q3090 qs77 q292 q3091) dX65_lookSegment_14 zy_X65_take rfl (by omega) (by decide) (Nat.le_of_ble_eq_true rfl) (by decide) (fun l G => k_fX65_take l G) (fun v3 => ?_)
  refine r_bipush E dX65_lookSegment_17 (by decide) (zkI (by decide) (by decide)) ?_
  refine r_ishl (P := 256) E (by decide) dX65_lookSegment_19 ?_
  refine r_let E (fun v4 ev4 => ?_)
  refine r_istore_n (ls' := [(2, 0, v4), (1, 0, v2), (0, 67, 0)]) E dX65_lookSegment_20 rfl (by rw [hN]; decide) rfl ?_
  refine r_iload_n E dX65_lookSegment_21 rfl 0 rfl ?_
  refine r_aload_n E dX65_lookSegment_22 rfl 2 rfl ?_
  refine r_callV E [] [(0, v4)] rfl zc_67 zr_67 (fun o _ => ⟨_, zw_X65.1 o, rfl⟩) (lw_V q3088 q3090 qs77 q292 q3091) dX65_lookSegment_23 zy_X65_take rfl (by omega) (by decide) (Nat.le_of_ble_eq_true rfl) (by decide) (fun l G => k_fX65_take l G) (fun v5 => ?_)
  refine r_iadd E dX65_lookSegment_26 ?_
  refine r_let E (fun v6 ev6 => ?_)
  refine r_istore_n (ls' := [(2, 0, v6), (1, 0, v2), (0, 67, 0)]) E dX65_lookSegment_27 rfl (by rw [hN]; decide) rfl ?_
  refine r_aload_n E dX65_lookSegment_28 rfl 2 rfl ?_
  refine r_get E zc_67 zt_6604 dX65_lookSegment_29 q1719 zr_67 (zg_6604 _) (by decide) (fun v7 => ?_)
  refine r_if_ne E 49 (by decide) dX65_lookSegment_32 (fun _ => ?_) (fun _ => ?_)
  · refine r_pick E [2, 0] rfl ?_
    exact w_fX65_lookSegment_J49 E hN hT v6
  · refine r_iload_n E dX65_lookSegment_35 rfl 0 rfl ?_
    refine r_sipush E dX65_lookSegment_36 (by decide) (zkI (by decide) (by decide)) ?_
    refine r_icmp_le E 49 (by decide) dX65_lookSegment_39 (fun _ => ?_) (fun _ => ?_)
    · refine r_pick E [2, 0] rfl ?_
      exact w_fX65_lookSegment_J49 E hN hT v6
    · refine r_aload_n E dX65_lookSegment_42 rfl 2 rfl ?_
      refine r_iconst E dX65_lookSegment_43 (zkI (by decide) (by decide)) ?_
      refine r_iload_n E dX65_lookSegment_44 rfl 1 rfl ?_
      refine r_callV E [(0, 3), (0, v2)] [] rfl zc_67 zr_67 (fun o _ => ⟨_, zw_X65.1 o, rfl⟩) (lw_V q3092 q3094 qs78 q292 q3095) dX65_lookSegment_45 zy_X65_wrong rfl (by omega) (by decide) (Nat.le_of_ble_eq_true rfl) (by decide) (fun l G => k_fX65_wrong l G 3 v2) (fun v20 => ?_)
      refine r_pop E (zn1 rfl) dX65_lookSegment_48 ?_
      refine r_pick E [2, 0] rfl ?_
      exact w_fX65_lookSegment_J49 E hN hT v6
theorem k_fX65_lookSegment (l : Launch) (G : zG) : zCt l G yX65_lookSegment cX65_lookSegment 6 none 3 [(67, 0)] none (fX65_lookSegment) := zCt.of (by decide) (Nat.le_of_ble_eq_true rfl) (fun K E _ _ hN hT => w_fX65_lookSegment E hN hT)
theorem dX65_lookItems_0 : decode cX65_lookItems 0 = .ok (.aload_n 0, 1) := by decide +kernel
theorem dX65_lookItems_1 : decode cX65_lookItems 1 = .ok (.iconst 0, 1) := by decide +kernel
theorem dX65_lookItems_2 : decode cX65_lookItems 2 = .ok (.iload_n 1, 1) := by decide +kernel
theorem dX65_lookItems_3 : decode cX65_lookItems 3 = .ok (.invokevirtual 191, 3) := by decide +kernel
theorem dX65_lookItems_6 : decode cX65_lookItems 6 = .ok (.istore_n 2, 1) := by decide +kernel
theorem dX65_lookItems_7 : decode cX65_lookItems 7 = .ok (.iconst 0, 1) := by decide +kernel
theorem dX65_lookItems_8 : decode cX65_lookItems 8 = .ok (.istore_n 3, 1) := by decide +kernel
theorem dX65_lookItems_9 : decode cX65_lookItems 9 = .ok (.iload_n 3, 1) := by decide +kernel
theorem dX65_lookItems_10 : decode cX65_lookItems 10 = .ok (.iload_n 2, 1) := by decide +kernel
theorem dX65_lookItems_11 : decode cX65_lookItems 11 = .ok (.if_icmp .ge 108, 3) := by decide +kernel
theorem dX65_lookItems_14 : decode cX65_lookItems 14 = .ok (.aload_n 0, 1) := by decide +kernel
theorem dX65_lookItems_15 : decode cX65_lookItems 15 = .ok (.getfield 160, 3) := by decide +kernel
theorem dX65_lookItems_18 : decode cX65_lookItems 18 = .ok (.ifCond .ne 101, 3) := by decide +kernel
theorem dX65_lookItems_21 : decode cX65_lookItems 21 = .ok (.aload_n 0, 1) := by decide +kernel
theorem dX65_lookItems_22 : decode cX65_lookItems 22 = .ok (.getfield 166, 3) := by decide +kernel
theorem dX65_lookItems_25 : decode cX65_lookItems 25 = .ok (.istore 4, 2) := by decide +kernel
theorem dX65_lookItems_27 : decode cX65_lookItems 27 = .ok (.aload_n 0, 1) := by decide +kernel
theorem dX65_lookItems_28 : decode cX65_lookItems 28 = .ok (.getfield 36, 3) := by decide +kernel
theorem dX65_lookItems_31 : decode cX65_lookItems 31 = .ok (.iload_n 3, 1) := by decide +kernel
theorem dX65_lookItems_32 : decode cX65_lookItems 32 = .ok (.bipush 16, 2) := by decide +kernel
theorem dX65_lookItems_34 : decode cX65_lookItems 34 = .ok (.aload_n 0, 1) := by decide +kernel
theorem dX65_lookItems_35 : decode cX65_lookItems 35 = .ok (.iconst 0, 1) := by decide +kernel
theorem dX65_lookItems_36 : decode cX65_lookItems 36 = .ok (.bipush 16, 2) := by decide +kernel
theorem dX65_lookItems_38 : decode cX65_lookItems 38 = .ok (.invokevirtual 191, 3) := by decide +kernel
theorem dX65_lookItems_41 : decode cX65_lookItems 41 = .ok (.imul, 1) := by decide +kernel
theorem dX65_lookItems_42 : decode cX65_lookItems 42 = .ok (.iastore, 1) := by decide +kernel
theorem dX65_lookItems_43 : decode cX65_lookItems 43 = .ok (.aload_n 0, 1) := by decide +kernel
theorem dX65_lookItems_44 : decode cX65_lookItems 44 = .ok (.getfield 36, 3) := by decide +kernel
theorem dX65_lookItems_47 : decode cX65_lookItems 47 = .ok (.iload_n 3, 1) := by decide +kernel
theorem dX65_lookItems_48 : decode cX65_lookItems 48 = .ok (.dup2, 1) := by decide +kernel
theorem dX65_lookItems_49 : decode cX65_lookItems 49 = .ok (.iaload, 1) := by decide +kernel
theorem dX65_lookItems_50 : decode cX65_lookItems 50 = .ok (.aload_n 0, 1) := by decide +kernel
theorem dX65_lookItems_51 : decode cX65_lookItems 51 = .ok (.iconst 0, 1) := by decide +kernel
theorem dX65_lookItems_52 : decode cX65_lookItems 52 = .ok (.bipush 8, 2) := by decide +kernel
theorem dX65_lookItems_54 : decode cX65_lookItems 54 = .ok (.invokevirtual 191, 3) := by decide +kernel
theorem dX65_lookItems_57 : decode cX65_lookItems 57 = .ok (.iadd, 1) := by decide +kernel
theorem dX65_lookItems_58 : decode cX65_lookItems 58 = .ok (.iastore, 1) := by decide +kernel
theorem dX65_lookItems_59 : decode cX65_lookItems 59 = .ok (.iconst 0, 1) := by decide +kernel
theorem dX65_lookItems_60 : decode cX65_lookItems 60 = .ok (.istore 5, 2) := by decide +kernel
theorem dX65_lookItems_62 : decode cX65_lookItems 62 = .ok (.iload 5, 2) := by decide +kernel
theorem dX65_lookItems_64 : decode cX65_lookItems 64 = .ok (.iload_n 3, 1) := by decide +kernel
theorem dX65_lookItems_65 : decode cX65_lookItems 65 = .ok (.if_icmp .ge 40, 3) := by decide +kernel
theorem dX65_lookItems_68 : decode cX65_lookItems 68 = .ok (.aload_n 0, 1) := by decide +kernel
theorem dX65_lookItems_69 : decode cX65_lookItems 69 = .ok (.getfield 160, 3) := by decide +kernel
theorem dX65_lookItems_72 : decode cX65_lookItems 72 = .ok (.ifCond .ne 33, 3) := by decide +kernel
theorem dX65_lookItems_75 : decode cX65_lookItems 75 = .ok (.aload_n 0, 1) := by decide +kernel
theorem dX65_lookItems_76 : decode cX65_lookItems 76 = .ok (.getfield 36, 3) := by decide +kernel
theorem dX65_lookItems_79 : decode cX65_lookItems 79 = .ok (.iload 5, 2) := by decide +kernel
theorem dX65_lookItems_81 : decode cX65_lookItems 81 = .ok (.iaload, 1) := by decide +kernel
theorem dX65_lookItems_82 : decode cX65_lookItems 82 = .ok (.aload_n 0, 1) := by decide +kernel
theorem dX65_lookItems_83 : decode cX65_lookItems 83 = .ok (.getfield 36, 3) := by decide +kernel
theorem dX65_lookItems_86 : decode cX65_lookItems 86 = .ok (.iload_n 3, 1) := by decide +kernel
theorem dX65_lookItems_87 : decode cX65_lookItems 87 = .ok (.iaload, 1) := by decide +kernel
theorem dX65_lookItems_88 : decode cX65_lookItems 88 = .ok (.if_icmp .ne 11, 3) := by decide +kernel
theorem dX65_lookItems_91 : decode cX65_lookItems 91 = .ok (.aload_n 0, 1) := by decide +kernel
theorem dX65_lookItems_92 : decode cX65_lookItems 92 = .ok (.iconst 3, 1) := by decide +kernel
theorem dX65_lookItems_93 : decode cX65_lookItems 93 = .ok (.iload 4, 2) := by decide +kernel
theorem dX65_lookItems_95 : decode cX65_lookItems 95 = .ok (.invokevirtual 169, 3) := by decide +kernel
theorem dX65_lookItems_98 : decode cX65_lookItems 98 = .ok (.pop, 1) := by decide +kernel
theorem dX65_lookItems_99 : decode cX65_lookItems 99 = .ok (.iinc 5 1, 3) := by decide +kernel
theorem dX65_lookItems_102 : decode cX65_lookItems 102 = .ok (.goto (-40), 3) := by decide +kernel
theorem dX65_lookItems_105 : decode cX65_lookItems 105 = .ok (.aload_n 0, 1) := by decide +kernel
theorem dX65_lookItems_106 : decode cX65_lookItems 106 = .ok (.iconst 0, 1) := by decide +kernel
theorem dX65_lookItems_107 : decode cX65_lookItems 107 = .ok (.bipush 7, 2) := by decide +kernel
theorem dX65_lookItems_109 : decode cX65_lookItems 109 = .ok (.invokevirtual 191, 3) := by decide +kernel
theorem dX65_lookItems_112 : decode cX65_lookItems 112 = .ok (.pop, 1) := by decide +kernel
theorem dX65_lookItems_113 : decode cX65_lookItems 113 = .ok (.iinc 3 1, 3) := by decide +kernel
theorem dX65_lookItems_116 : decode cX65_lookItems 116 = .ok (.goto (-107), 3) := by decide +kernel
theorem dX65_lookItems_119 : decode cX65_lookItems 119 = .ok (.return_, 1) := by decide +kernel
theorem zy_X65_lookItems : yX65_lookItems.cls ≠ "java/lang/invoke/MethodHandle" ∧ yX65_lookItems.cls ≠ "java/lang/invoke/VarHandle" ∧ (parseMethodDescriptor yX65_lookItems.desc).map (fun d => d.parameters.length) = some 1 := by decide +kernel
theorem w_fX65_lookItems_J105 {K : zK} (E : zE K cX65_lookItems "RingHouse$Tape" none 3) (hN : zNl K = 6) (hT : zTr K = none) (x2 : Int) (x3 : Int) {r9 : Int → zX} (hr9 : ∀ s : Int, zR K 9 [(0, 67, 0), (2, 0, x2), (3, 0, s)] [] (r9 s)) : zR K 105 [(0, 67, 0), (2, 0, x2), (3, 0, x3)] [] (fX65_lookItems_J105 r9 x2 x3) := by
  refine r_aload_n E dX65_lookItems_105 rfl 0 rfl ?_
  refine r_iconst E dX65_lookItems_106 (zkI (by decide) (by decide)) ?_
  refine r_bipush E dX65_lookItems_107 (by decide) (zkI (by decide) (by decide)) ?_
  refine r_callV E [(0, 0), (0, 7)] [] rfl zc_67 zr_67 (fun o _ => ⟨_, zw_X65.1 o, rfl⟩) (lw_V q3100 q3102 qs80 q292 q3103) dX65_lookItems_109 zy_X65_take_2 rfl (by omega) (by decide) (Nat.le_of_ble_eq_true rfl) (by decide) (fun l G => k_fX65_take_2 l G 0 7) (fun v7 => ?_)
  refine r_pop E (zn1 rfl) dX65_lookItems_112 ?_
  refine r_iinc (ls' := fun v8 => [(3, 0, v8), (0, 67, 0), (2, 0, x2)]) E 2 rfl (by rw [hN]; decide) (fun _ => rfl) dX65_lookItems_113 (fun v8 _ => ?_)
  refine r_goto E 9 (by decide) dX65_lookItems_116 ?_
  refine r_pick E [1, 2, 0] rfl ?_
  exact hr9 v8
theorem w_fX65_lookItems_J99 {K : zK} (E : zE K cX65_lookItems "RingHouse$Tape" none 3) (hN : zNl K = 6) (hT : zTr K = none) (x2 : Int) (x3 : Int) (x4 : Int) (x5 : Int) {r9 : Int → zX} (hr9 : ∀ s : Int, zR K 9 [(0, 67, 0), (2, 0, x2), (3, 0, s)] [] (r9 s)) {r62 : Int → zX} (hr62 : ∀ s : Int, zR K 62 [(0, 67, 0), (2, 0, x2), (3, 0, x3), (4, 0, x4), (5, 0, s)] [] (r62 s)) : zR K 99 [(0, 67, 0), (2, 0, x2), (3, 0, x3), (4, 0, x4), (5, 0, x5)] [] (fX65_lookItems_J99 r9 r62 x2 x3 x4 x5) := by
  refine r_iinc (ls' := fun v12 => [(5, 0, v12), (0, 67, 0), (2, 0, x2), (3, 0, x3), (4, 0, x4)]) E 4 rfl (by rw [hN]; decide) (fun _ => rfl) dX65_lookItems_99 (fun v12 _ => ?_)
  refine r_goto E 62 (by decide) dX65_lookItems_102 ?_
  refine r_pick E [1, 2, 3, 4, 0] rfl ?_
  exact hr62 v12
theorem w_fX65_lookItems_B62 {K : zK} (E : zE K cX65_lookItems "RingHouse$Tape" none 3) (hN : zNl K = 6) (hT : zTr K = none) (x2 : Int) (x3 : Int) (x4 : Int) {r9 : Int → zX} (hr9 : ∀ s : Int, zR K 9 [(0, 67, 0), (2, 0, x2), (3, 0, s)] [] (r9 s)) : ∀ r62 : Int → zX, (∀ s : Int, zR K 62 [(0, 67, 0), (2, 0, x2), (3, 0, x3), (4, 0, x4), (5, 0, s)] [] (r62 s)) → ∀ s : Int, zR K 62 [(0, 67, 0), (2, 0, x2), (3, 0, x3), (4, 0, x4), (5, 0, s)] [] (fX65_lookItems_B62 r9 x2 x3 x4 r62 s) := by
  intro r62 hr62 x5
  refine r_iload E dX65_lookItems_62 4 rfl ?_
  refine r_iload_n E dX65_lookItems_64 rfl 2 rfl ?_
  refine r_icmp_ge E 105 (by decide) dX65_lookItems_65 (fun _ => ?_) (fun _ => ?_)
  · refine r_pick E [0, 1, 2] rfl ?_
    exact w_fX65_lookItems_J105 E hN hT x2 x3 hr9
  · refine r_aload_n E dX65_lookItems_68 rfl 0 rfl ?_
    refine r_get E zc_67 zt_6604 dX65_lookItems_69 q1719 zr_67 (zg_6604 _) (by decide) (fun v9 => ?_)
    refine r_if_ne E 105 (by decide) dX65_lookItems_72 (fun _ => ?_) (fun _ => ?_)
    · refine r_pick E [0, 1, 2] rfl ?_
      exact w_fX65_lookItems_J105 E hN hT x2 x3 hr9
    · refine r_aload_n E dX65_lookItems_75 rfl 0 rfl ?_
      refine r_gec (y := 0) E zc_67 dX65_lookItems_76 q1731 zr_67 (zh_6615 (by decide)) (by decide) ?_
      refine r_iload E dX65_lookItems_79 4 rfl ?_
      refine r_iaload E zc_6615 za_6615 zt_6615 zx_6615 rfl rfl dX65_lookItems_81 (by decide) (fun v10 => ?_)
      refine r_aload_n E dX65_lookItems_82 rfl 0 rfl ?_
      refine r_gec (y := 0) E zc_67 dX65_lookItems_83 q1731 zr_67 (zh_6615 (by decide)) (by decide) ?_
      refine r_iload_n E dX65_lookItems_86 rfl 2 rfl ?_
      refine r_iaload E zc_6615 za_6615 zt_6615 zx_6615 rfl rfl dX65_lookItems_87 (by decide) (fun v11 => ?_)
      refine r_icmp_ne E 99 (by decide) dX65_lookItems_88 (fun _ => ?_) (fun _ => ?_)
      · exact w_fX65_lookItems_J99 E hN hT x2 x3 x4 x5 hr9 hr62
      · refine r_aload_n E dX65_lookItems_91 rfl 0 rfl ?_
        refine r_iconst E dX65_lookItems_92 (zkI (by decide) (by decide)) ?_
        refine r_iload E dX65_lookItems_93 3 rfl ?_
        refine r_callV E [(0, 3), (0, x4)] [] rfl zc_67 zr_67 (fun o _ => ⟨_, zw_X65.1 o, rfl⟩) (lw_V q3092 q3094 qs78 q292 q3095) dX65_lookItems_95 zy_X65_wrong rfl (by omega) (by decide) (Nat.le_of_ble_eq_true rfl) (by decide) (fun l G => k_fX65_wrong l G 3 x4) (fun v13 => ?_)
        refine r_pop E (zn1 rfl) dX65_lookItems_98 ?_
        exact w_fX65_lookItems_J99 E hN hT x2 x3 x4 x5 hr9 hr62
theorem w_fX65_lookItems_B9 {K : zK} (E : zE K cX65_lookItems "RingHouse$Tape" none 3) (hN : zNl K = 6) (hT : zTr K = none) (x2 : Int) : ∀ r9 : Int → zX, (∀ s : Int, zR K 9 [(0, 67, 0), (2, 0, x2), (3, 0, s)] [] (r9 s)) → ∀ s : Int, zR K 9 [(0, 67, 0), (2, 0, x2), (3, 0, s)] [] (fX65_lookItems_B9 x2 r9 s) := by
  intro r9 hr9 x3
  refine r_iload_n E dX65_lookItems_9 rfl 2 rfl ?_
  refine r_iload_n E dX65_lookItems_10 rfl 1 rfl ?_
  refine r_icmp_ge E 119 (by decide) dX65_lookItems_11 (fun _ => ?_) (fun _ => ?_)
  · exact r_return E rfl hT dX65_lookItems_119
  · refine r_aload_n E dX65_lookItems_14 rfl 0 rfl ?_
    refine r_get E zc_67 zt_6604 dX65_lookItems_15 q1719 zr_67 (zg_6604 _) (by decide) (fun v2 => ?_)
    refine r_if_ne E 119 (by decide) dX65_lookItems_18 (fun _ => ?_) (fun _ => ?_)
    · exact r_return E rfl hT dX65_lookItems_119
    · refine r_aload_n E dX65_lookItems_21 rfl 0 rfl ?_
      refine r_get E zc_67 zt_6603 dX65_lookItems_22 q1718 zr_67 (zg_6603 _) (by decide) (fun v3 => ?_)
      refine r_istore (ls' := [(4, 0, v3), (0, 67, 0), (2, 0, x2), (3, 0, x3)]) E dX65_lookItems_25 (by rw [hN]; decide) rfl ?_
      refine r_aload_n E dX65_lookItems_27 rfl 1 rfl ?_
      refine r_gec (y := 0) E zc_67 dX65_lookItems_28 q1731 zr_67 (zh_6615 (by decide)) (by decide) ?_
      refine r_iload_n E dX65_lookItems_31 rfl 3 rfl ?_
      refine r_bipush E dX65_lookItems_32 (by decide) (zkI (by decide) (by decide)) ?_
      refine r_aload_n E dX65_lookItems_34 rfl 1 rfl ?_
      refine r_iconst E dX65_lookItems_35 (zkI (by decide) (by decide)) ?_
      refine r_bipush E dX65_lookItems_36 (by decide) (zkI (by decide) (by decide)) ?_
      refine r_callV E [(0, 0), (0, 16)] [(0, 16), (0, x3), (6615, 0)] rfl zc_67 zr_67 (fun o _ => ⟨_, zw_X65.1 o, rfl⟩) (lw_V q3100 q3102 qs80 q292 q3103) dX65_lookItems_38 zy_X65_take_2 rfl (by omega) (by decide) (Nat.le_of_ble_eq_true rfl) (by decide) (fun l G => k_fX65_take_2 l G 0 16) (fun v4 => ?_)
      refine r_imul E dX65_lookItems_41 ?_
      refine r_iastore E zc_6615 za_6615 zt_6615 zo_6615 zx_6615 rfl rfl dX65_lookItems_42 (by decide) ?_
      refine r_aload_n E dX65_lookItems_43 rfl 1 rfl ?_
      refine r_gec (y := 0) E zc_67 dX65_lookItems_44 q1731 zr_67 (zh_6615 (by decide)) (by decide) ?_
      refine r_iload_n E dX65_lookItems_47 rfl 3 rfl ?_
      refine r_dup22 E (zn1 rfl) (zn1 rfl) dX65_lookItems_48 ?_
      refine r_iaload E zc_6615 za_6615 zt_6615 zx_6615 rfl rfl dX65_lookItems_49 (by decide) (fun v5 => ?_)
      refine r_aload_n E dX65_lookItems_50 rfl 1 rfl ?_
      refine r_iconst E dX65_lookItems_51 (zkI (by decide) (by decide)) ?_
      refine r_bipush E dX65_lookItems_52 (by decide) (zkI (by decide) (by decide)) ?_
      refine r_callV E [(0, 0), (0, 8)] [(0, v5), (0, x3), (6615, 0)] rfl zc_67 zr_67 (fun o _ => ⟨_, zw_X65.1 o, rfl⟩) (lw_V q3100 q3102 qs80 q292 q3103) dX65_lookItems_54 zy_X65_take_2 rfl (by omega) (by decide) (Nat.le_of_ble_eq_true rfl) (by decide) (fun l G => k_fX65_take_2 l G 0 8) (fun v6 => ?_)
      refine r_iadd E dX65_lookItems_57 ?_
      refine r_iastore E zc_6615 za_6615 zt_6615 zo_6615 zx_6615 rfl rfl dX65_lookItems_58 (by decide) ?_
      refine r_iconst E dX65_lookItems_59 (zkI (by decide) (by decide)) ?_
      refine r_istore (ls' := [(5, 0, 0), (4, 0, v3), (0, 67, 0), (2, 0, x2), (3, 0, x3)]) E dX65_lookItems_60 (by rw [hN]; decide) rfl ?_
      refine r_pick E [2, 3, 4, 1, 0] rfl ?_
      exact r_loop (L := fun s => [(0, 67, 0), (2, 0, x2), (3, 0, x3), (4, 0, v3), (5, 0, s)]) (w_fX65_lookItems_B62 E hN hT x2 x3 v3 hr9) zBIG 0
theorem w_fX65_lookItems {K : zK} (E : zE K cX65_lookItems "RingHouse$Tape" none 3) (hN : zNl K = 6) (hT : zTr K = none) (x1 : Int) : zR K 0 [(0, 67, 0), (1, 0, x1)] [] (fX65_lookItems x1) := by
  refine r_aload_n E dX65_lookItems_0 rfl 0 rfl ?_
  refine r_iconst E dX65_lookItems_1 (zkI (by decide) (by decide)) ?_
  refine r_iload_n E dX65_lookItems_2 rfl 1 rfl ?_
  refine r_callV E [(0, 0), (0, x1)] [] rfl zc_67 zr_67 (fun o _ => ⟨_, zw_X65.1 o, rfl⟩) (lw_V q3100 q3102 qs80 q292 q3103) dX65_lookItems_3 zy_X65_take_2 rfl (by omega) (by decide) (Nat.le_of_ble_eq_true rfl) (by decide) (fun l G => k_fX65_take_2 l G 0 x1) (fun v1 => ?_)
  refine r_istore_n (ls' := [(2, 0, v1), (0, 67, 0), (1, 0, x1)]) E dX65_lookItems_6 rfl (by rw [hN]; decide) rfl ?_
  refine r_iconst E dX65_lookItems_7 (zkI (by decide) (by decide)) ?_
  refine r_istore_n (ls' := [(3, 0, 0), (2, 0, v1), (0, 67, 0), (1, 0, x1)]) E dX65_lookItems_8 rfl (by rw [hN]; decide) rfl ?_
  refine r_pick E [2, 1, 0] rfl ?_
  exact r_loop (L := fun s => [(0, 67, 0), (2, 0, v1), (3, 0, s)]) (w_fX65_lookItems_B9 E hN hT v1) zBIG 0
theorem k_fX65_lookItems (l : Launch) (G : zG) (x1 : Int) : zCt l G yX65_lookItems cX65_lookItems 6 none 3 [(67, 0), (0, x1)] none (fX65_lookItems x1) := zCt.of (by decide) (Nat.le_of_ble_eq_true rfl) (fun K E _ _ hN hT => w_fX65_lookItems E hN hT x1)
theorem dX65_lookDirectory_0 : decode cX65_lookDirectory 0 = .ok (.aload_n 0, 1) := by decide +kernel
theorem dX65_lookDirectory_1 : decode cX65_lookDirectory 1 = .ok (.getfield 166, 3) := by decide +kernel
theorem dX65_lookDirectory_4 : decode cX65_lookDirectory 4 = .ok (.istore_n 2, 1) := by decide +kernel
theorem dX65_lookDirectory_5 : decode cX65_lookDirectory 5 = .ok (.aload_n 0, 1) := by decide +kernel
theorem dX65_lookDirectory_6 : decode cX65_lookDirectory 6 = .ok (.iconst 0, 1) := by decide +kernel
theorem dX65_lookDirectory_7 : decode cX65_lookDirectory 7 = .ok (.bipush 31, 2) := by decide +kernel
theorem dX65_lookDirectory_9 : decode cX65_lookDirectory 9 = .ok (.invokevirtual 191, 3) := by decide +kernel
theorem dX65_lookDirectory_12 : decode cX65_lookDirectory 12 = .ok (.istore_n 3, 1) := by decide +kernel
theorem dX65_lookDirectory_13 : decode cX65_lookDirectory 13 = .ok (.aload_n 0, 1) := by decide +kernel
theorem dX65_lookDirectory_14 : decode cX65_lookDirectory 14 = .ok (.getfield 160, 3) := by decide +kernel
theorem dX65_lookDirectory_17 : decode cX65_lookDirectory 17 = .ok (.ifCond .ne 18, 3) := by decide +kernel
theorem dX65_lookDirectory_20 : decode cX65_lookDirectory 20 = .ok (.iload_n 3, 1) := by decide +kernel
theorem dX65_lookDirectory_21 : decode cX65_lookDirectory 21 = .ok (.iload_n 1, 1) := by decide +kernel
theorem dX65_lookDirectory_22 : decode cX65_lookDirectory 22 = .ok (.invokestatic 194, 3) := by decide +kernel
theorem dX65_lookDirectory_25 : decode cX65_lookDirectory 25 = .ok (.ifCond .ne 10, 3) := by decide +kernel
theorem dX65_lookDirectory_28 : decode cX65_lookDirectory 28 = .ok (.aload_n 0, 1) := by decide +kernel
theorem dX65_lookDirectory_29 : decode cX65_lookDirectory 29 = .ok (.iconst 5, 1) := by decide +kernel
theorem dX65_lookDirectory_30 : decode cX65_lookDirectory 30 = .ok (.iload_n 2, 1) := by decide +kernel
theorem dX65_lookDirectory_31 : decode cX65_lookDirectory 31 = .ok (.invokevirtual 169, 3) := by decide +kernel
theorem dX65_lookDirectory_34 : decode cX65_lookDirectory 34 = .ok (.pop, 1) := by decide +kernel
theorem dX65_lookDirectory_35 : decode cX65_lookDirectory 35 = .ok (.aload_n 0, 1) := by decide +kernel
theorem dX65_lookDirectory_36 : decode cX65_lookDirectory 36 = .ok (.getfield 166, 3) := by decide +kernel
theorem dX65_lookDirectory_39 : decode cX65_lookDirectory 39 = .ok (.istore_n 2, 1) := by decide +kernel
theorem dX65_lookDirectory_40 : decode cX65_lookDirectory 40 = .ok (.aload_n 0, 1) := by decide +kernel
theorem dX65_lookDirectory_41 : decode cX65_lookDirectory 41 = .ok (.invokevirtual 173, 3) := by decide +kernel
theorem dX65_lookDirectory_44 : decode cX65_lookDirectory 44 = .ok (.istore 4, 2) := by decide +kernel
theorem dX65_lookDirectory_46 : decode cX65_lookDirectory 46 = .ok (.aload_n 0, 1) := by decide +kernel
theorem dX65_lookDirectory_47 : decode cX65_lookDirectory 47 = .ok (.getfield 160, 3) := by decide +kernel
theorem dX65_lookDirectory_50 : decode cX65_lookDirectory 50 = .ok (.ifCond .ne 20, 3) := by decide +kernel
theorem dX65_lookDirectory_53 : decode cX65_lookDirectory 53 = .ok (.iload 4, 2) := by decide +kernel
theorem dX65_lookDirectory_55 : decode cX65_lookDirectory 55 = .ok (.ifCond .ne 15, 3) := by decide +kernel
theorem dX65_lookDirectory_58 : decode cX65_lookDirectory 58 = .ok (.iload_n 3, 1) := by decide +kernel
theorem dX65_lookDirectory_59 : decode cX65_lookDirectory 59 = .ok (.iload_n 1, 1) := by decide +kernel
theorem dX65_lookDirectory_60 : decode cX65_lookDirectory 60 = .ok (.if_icmp .eq 10, 3) := by decide +kernel
theorem dX65_lookDirectory_63 : decode cX65_lookDirectory 63 = .ok (.aload_n 0, 1) := by decide +kernel
theorem dX65_lookDirectory_64 : decode cX65_lookDirectory 64 = .ok (.iconst 5, 1) := by decide +kernel
theorem dX65_lookDirectory_65 : decode cX65_lookDirectory 65 = .ok (.iload_n 2, 1) := by decide +kernel
theorem dX65_lookDirectory_66 : decode cX65_lookDirectory 66 = .ok (.invokevirtual 169, 3) := by decide +kernel
theorem dX65_lookDirectory_69 : decode cX65_lookDirectory 69 = .ok (.pop, 1) := by decide +kernel
theorem dX65_lookDirectory_70 : decode cX65_lookDirectory 70 = .ok (.aload_n 0, 1) := by decide +kernel
theorem dX65_lookDirectory_71 : decode cX65_lookDirectory 71 = .ok (.getfield 160, 3) := by decide +kernel
theorem dX65_lookDirectory_74 : decode cX65_lookDirectory 74 = .ok (.ifCond .ne 8, 3) := by decide +kernel
theorem dX65_lookDirectory_77 : decode cX65_lookDirectory 77 = .ok (.aload_n 0, 1) := by decide +kernel
theorem dX65_lookDirectory_78 : decode cX65_lookDirectory 78 = .ok (.iconst 3, 1) := by decide +kernel
theorem dX65_lookDirectory_79 : decode cX65_lookDirectory 79 = .ok (.invokevirtual 197, 3) := by decide +kernel
theorem dX65_lookDirectory_82 : decode cX65_lookDirectory 82 = .ok (.aload_n 0, 1) := by decide +kernel
theorem dX65_lookDirectory_83 : decode cX65_lookDirectory 83 = .ok (.getfield 160, 3) := by decide +kernel
theorem dX65_lookDirectory_86 : decode cX65_lookDirectory 86 = .ok (.ifCond .ne 8, 3) := by decide +kernel
theorem dX65_lookDirectory_89 : decode cX65_lookDirectory 89 = .ok (.aload_n 0, 1) := by decide +kernel
theorem dX65_lookDirectory_90 : decode cX65_lookDirectory 90 = .ok (.iconst 3, 1) := by decide +kernel
theorem dX65_lookDirectory_91 : decode cX65_lookDirectory 91 = .ok (.invokevirtual 197, 3) := by decide +kernel
theorem dX65_lookDirectory_94 : decode cX65_lookDirectory 94 = .ok (.aload_n 0, 1) := by decide +kernel
theorem dX65_lookDirectory_95 : decode cX65_lookDirectory 95 = .ok (.invokevirtual 173, 3) := by decide +kernel
theorem dX65_lookDirectory_98 : decode cX65_lookDirectory 98 = .ok (.istore 5, 2) := by decide +kernel
theorem dX65_lookDirectory_100 : decode cX65_lookDirectory 100 = .ok (.aload_n 0, 1) := by decide +kernel
theorem dX65_lookDirectory_101 : decode cX65_lookDirectory 101 = .ok (.getfield 160, 3) := by decide +kernel
theorem dX65_lookDirectory_104 : decode cX65_lookDirectory 104 = .ok (.ifCond .le 4, 3) := by decide +kernel
theorem dX65_lookDirectory_107 : decode cX65_lookDirectory 107 = .ok (.return_, 1) := by decide +kernel
theorem dX65_lookDirectory_108 : decode cX65_lookDirectory 108 = .ok (.aload_n 0, 1) := by decide +kernel
theorem dX65_lookDirectory_109 : decode cX65_lookDirectory 109 = .ok (.getfield 16, 3) := by decide +kernel
theorem dX65_lookDirectory_112 : decode cX65_lookDirectory 112 = .ok (.aload_n 0, 1) := by decide +kernel
theorem dX65_lookDirectory_113 : decode cX65_lookDirectory 113 = .ok (.getfield 185, 3) := by decide +kernel
theorem dX65_lookDirectory_116 : decode cX65_lookDirectory 116 = .ok (.iload 5, 2) := by decide +kernel
theorem dX65_lookDirectory_118 : decode cX65_lookDirectory 118 = .ok (.iastore, 1) := by decide +kernel
theorem dX65_lookDirectory_119 : decode cX65_lookDirectory 119 = .ok (.aload_n 0, 1) := by decide +kernel
theorem dX65_lookDirectory_120 : decode cX65_lookDirectory 120 = .ok (.getfield 20, 3) := by decide +kernel
theorem dX65_lookDirectory_123 : decode cX65_lookDirectory 123 = .ok (.aload_n 0, 1) := by decide +kernel
theorem dX65_lookDirectory_124 : decode cX65_lookDirectory 124 = .ok (.getfield 185, 3) := by decide +kernel
theorem dX65_lookDirectory_127 : decode cX65_lookDirectory 127 = .ok (.iload_n 3, 1) := by decide +kernel
theorem dX65_lookDirectory_128 : decode cX65_lookDirectory 128 = .ok (.iastore, 1) := by decide +kernel
theorem dX65_lookDirectory_129 : decode cX65_lookDirectory 129 = .ok (.aload_n 0, 1) := by decide +kernel
theorem dX65_lookDirectory_130 : decode cX65_lookDirectory 130 = .ok (.getfield 23, 3) := by decide +kernel
theorem dX65_lookDirectory_133 : decode cX65_lookDirectory 133 = .ok (.aload_n 0, 1) := by decide +kernel
theorem dX65_lookDirectory_134 : decode cX65_lookDirectory 134 = .ok (.getfield 185, 3) := by decide +kernel
theorem dX65_lookDirectory_137 : decode cX65_lookDirectory 137 = .ok (.iload 4, 2) := by decide +kernel
theorem dX65_lookDirectory_139 : decode cX65_lookDirectory 139 = .ok (.iastore, 1) := by decide +kernel
theorem dX65_lookDirectory_140 : decode cX65_lookDirectory 140 = .ok (.aload_n 0, 1) := by decide +kernel
theorem dX65_lookDirectory_141 : decode cX65_lookDirectory 141 = .ok (.getfield 26, 3) := by decide +kernel
theorem dX65_lookDirectory_144 : decode cX65_lookDirectory 144 = .ok (.aload_n 0, 1) := by decide +kernel
theorem dX65_lookDirectory_145 : decode cX65_lookDirectory 145 = .ok (.getfield 185, 3) := by decide +kernel
theorem dX65_lookDirectory_148 : decode cX65_lookDirectory 148 = .ok (.iconst 0, 1) := by decide +kernel
theorem dX65_lookDirectory_149 : decode cX65_lookDirectory 149 = .ok (.iastore, 1) := by decide +kernel
theorem dX65_lookDirectory_150 : decode cX65_lookDirectory 150 = .ok (.aload_n 0, 1) := by decide +kernel
theorem dX65_lookDirectory_151 : decode cX65_lookDirectory 151 = .ok (.getfield 29, 3) := by decide +kernel
theorem dX65_lookDirectory_154 : decode cX65_lookDirectory 154 = .ok (.aload_n 0, 1) := by decide +kernel
theorem dX65_lookDirectory_155 : decode cX65_lookDirectory 155 = .ok (.getfield 185, 3) := by decide +kernel
theorem dX65_lookDirectory_158 : decode cX65_lookDirectory 158 = .ok (.aload_n 0, 1) := by decide +kernel
theorem dX65_lookDirectory_159 : decode cX65_lookDirectory 159 = .ok (.getfield 188, 3) := by decide +kernel
theorem dX65_lookDirectory_162 : decode cX65_lookDirectory 162 = .ok (.iastore, 1) := by decide +kernel
theorem dX65_lookDirectory_163 : decode cX65_lookDirectory 163 = .ok (.aload_n 0, 1) := by decide +kernel
theorem dX65_lookDirectory_164 : decode cX65_lookDirectory 164 = .ok (.dup, 1) := by decide +kernel
theorem dX65_lookDirectory_165 : decode cX65_lookDirectory 165 = .ok (.getfield 185, 3) := by decide +kernel
theorem dX65_lookDirectory_168 : decode cX65_lookDirectory 168 = .ok (.iconst 1, 1) := by decide +kernel
theorem dX65_lookDirectory_169 : decode cX65_lookDirectory 169 = .ok (.iadd, 1) := by decide +kernel
theorem dX65_lookDirectory_170 : decode cX65_lookDirectory 170 = .ok (.putfield 185, 3) := by decide +kernel
theorem dX65_lookDirectory_173 : decode cX65_lookDirectory 173 = .ok (.return_, 1) := by decide +kernel
theorem zy_X65_lookDirectory : yX65_lookDirectory.cls ≠ "java/lang/invoke/MethodHandle" ∧ yX65_lookDirectory.cls ≠ "java/lang/invoke/VarHandle" ∧ (parseMethodDescriptor yX65_lookDirectory.desc).map (fun d => d.parameters.length) = some 1 := by decide +kernel
theorem w_fX65_lookDirectory_J94 {K : zK} (E : zE K cX65_lookDirectory "RingHouse$Tape" none 4) (hN : zNl K = 6) (hT : zTr K = none) (x3 : Int) (x4 : Int) : zR K 94 [(0, 67, 0), (3, 0, x3), (4, 0, x4)] [] (fX65_lookDirectory_J94 x3 x4) := by
  refine r_aload_n E dX65_lookDirectory_94 rfl 0 rfl ?_
  refine r_callV E [] [] rfl zc_67 zr_67 (fun o _ => ⟨_, zw_X65.1 o, rfl⟩) (lw_V q3088 q3090 qs77 q292 q3091) dX65_lookDirectory_95 zy_X65_take rfl (by omega) (by decide) (Nat.le_of_ble_eq_true rfl) (by decide) (fun l G => k_fX65_take l G) (fun v9 => ?_)
  refine r_istore (ls' := [(5, 0, v9), (0, 67, 0), (3, 0, x3), (4, 0, x4)]) E dX65_lookDirectory_98 (by rw [hN]; decide) rfl ?_
  refine r_aload_n E dX65_lookDirectory_100 rfl 1 rfl ?_
  refine r_get E zc_67 zt_6604 dX65_lookDirectory_101 q1719 zr_67 (zg_6604 _) (by decide) (fun v10 => ?_)
  refine r_if_le E 108 (by decide) dX65_lookDirectory_104 (fun _ => ?_) (fun _ => ?_)
  · refine r_aload_n E dX65_lookDirectory_108 rfl 1 rfl ?_
    refine r_gec (y := 0) E zc_67 dX65_lookDirectory_109 q1722 zr_67 (zh_6606 (by decide)) (by decide) ?_
    refine r_aload_n E dX65_lookDirectory_112 rfl 1 rfl ?_
    refine r_get E zc_67 zt_6612 dX65_lookDirectory_113 q1728 zr_67 (zg_6612 _) (by decide) (fun v11 => ?_)
    refine r_iload E dX65_lookDirectory_116 0 rfl ?_
    refine r_iastore E zc_6606 za_6606 zt_6606 zo_6606 zx_6606 rfl rfl dX65_lookDirectory_118 (by decide) ?_
    refine r_aload_n E dX65_lookDirectory_119 rfl 1 rfl ?_
    refine r_gec (y := 0) E zc_67 dX65_lookDirectory_120 q1723 zr_67 (zh_6607 (by decide)) (by decide) ?_
    refine r_aload_n E dX65_lookDirectory_123 rfl 1 rfl ?_
    refine r_get E zc_67 zt_6612 dX65_lookDirectory_124 q1728 zr_67 (zg_6612 _) (by decide) (fun v12 => ?_)
    refine r_iload_n E dX65_lookDirectory_127 rfl 2 rfl ?_
    refine r_iastore E zc_6607 za_6607 zt_6607 zo_6607 zx_6607 rfl rfl dX65_lookDirectory_128 (by decide) ?_
    refine r_aload_n E dX65_lookDirectory_129 rfl 1 rfl ?_
    refine r_gec (y := 0) E zc_67 dX65_lookDirectory_130 q1724 zr_67 (zh_6608 (by decide)) (by decide) ?_
    refine r_aload_n E dX65_lookDirectory_133 rfl 1 rfl ?_
    refine r_get E zc_67 zt_6612 dX65_lookDirectory_134 q1728 zr_67 (zg_6612 _) (by decide) (fun v13 => ?_)
    refine r_iload E dX65_lookDirectory_137 3 rfl ?_
    refine r_iastore E zc_6608 za_6608 zt_6608 zo_6608 zx_6608 rfl rfl dX65_lookDirectory_139 (by decide) ?_
    refine r_aload_n E dX65_lookDirectory_140 rfl 1 rfl ?_
    refine r_gec (y := 0) E zc_67 dX65_lookDirectory_141 q1725 zr_67 (zh_6609 (by decide)) (by decide) ?_
    refine r_aload_n E dX65_lookDirectory_144 rfl 1 rfl ?_
    refine r_get E zc_67 zt_6612 dX65_lookDirectory_145 q1728 zr_67 (zg_6612 _) (by decide) (fun v14 => ?_)
    refine r_iconst E dX65_lookDirectory_148 (zkI (by decide) (by decide)) ?_
    refine r_iastore E zc_6609 za_6609 zt_6609 zo_6609 zx_6609 rfl rfl dX65_lookDirectory_149 (by decide) ?_
    refine r_aload_n E dX65_lookDirectory_150 rfl 1 rfl ?_
    refine r_gec (y := 0) E zc_67 dX65_lookDirectory_151 q1726 zr_67 (zh_6610 (by decide)) (by decide) ?_
    refine r_aload_n E dX65_lookDirectory_154 rfl 1 rfl ?_
    refine r_get E zc_67 zt_6612 dX65_lookDirectory_155 q1728 zr_67 (zg_6612 _) (by decide) (fun v15 => ?_)
    refine r_aload_n E dX65_lookDirectory_158 rfl 1 rfl ?_
    refine r_get E zc_67 zt_6613 dX65_lookDirectory_159 q1729 zr_67 (zg_6613 _) (by decide) (fun v16 => ?_)
    refine r_iastore E zc_6610 za_6610 zt_6610 zo_6610 zx_6610 rfl rfl dX65_lookDirectory_162 (by decide) ?_
    refine r_aload_n E dX65_lookDirectory_163 rfl 1 rfl ?_
    refine r_dup E (zn1 rfl) dX65_lookDirectory_164 ?_
    refine r_get E zc_67 zt_6612 dX65_lookDirectory_165 q1728 zr_67 (zg_6612 _) (by decide) (fun v17 => ?_)
    refine r_iconst E dX65_lookDirectory_168 (zkI (by decide) (by decide)) ?_
    refine r_iadd E dX65_lookDirectory_169 ?_
    refine r_put E zc_67 zt_6612 zo_6612 dX65_lookDirectory_170 q1728 zr_67 zw_X65 zp_6612 (fun _ => rfl) (fun _ => rfl) (by decide) ?_
    exact r_return E rfl hT dX65_lookDirectory_173
  · exact r_return E rfl hT dX65_lookDirectory_107
theorem w_fX65_lookDirectory_J82 {K : zK} (E : zE K cX65_lookDirectory "RingHouse$Tape" none 4) (hN : zNl K = 6) (hT : zTr K = none) (x3 : Int) (x4 : Int) : zR K 82 [(0, 67, 0), (3, 0, x3), (4, 0, x4)] [] (fX65_lookDirectory_J82 x3 x4) := by
  refine r_aload_n E dX65_lookDirectory_82 rfl 0 rfl ?_
  refine r_get E zc_67 zt_6604 dX65_lookDirectory_83 q1719 zr_67 (zg_6604 _) (by decide) (fun v8 => ?_)
  refine r_if_ne E 94 (by decide) dX65_lookDirectory_86 (fun _ => ?_) (fun _ => ?_)
  · exact w_fX65_lookDirectory_J94 E hN hT x3 x4
  · refine r_aload_n E dX65_lookDirectory_89 rfl 0 rfl ?_
    refine r_iconst E dX65_lookDirectory_90 (zkI (by decide) (by decide)) ?_
    refine r_callV E [(0, 3)] [] rfl zc_67 zr_67 (fun o _ => ⟨_, zw_X65.1 o, rfl⟩) (lw_V q3113 q3115 qs83 q292 q3116) dX65_lookDirectory_91 zy_X65_lookItems rfl (by omega) (by decide) (Nat.le_of_ble_eq_true rfl) (by decide) (fun l G => k_fX65_lookItems l G 3) (fun _ => ?_)
    exact w_fX65_lookDirectory_J94 E hN hT x3 x4
theorem w_fX65_lookDirectory_J70 {K : zK} (E : zE K cX65_lookDirectory "RingHouse$Tape" none 4) (hN : zNl K = 6) (hT : zTr K = none) (x3 : Int) (x4 : Int) : zR K 70 [(0, 67, 0), (3, 0, x3), (4, 0, x4)] [] (fX65_lookDirectory_J70 x3 x4) := by
  refine r_aload_n E dX65_lookDirectory_70 rfl 0 rfl ?_
  refine r_get E zc_67 zt_6604 dX65_lookDirectory_71 q1719 zr_67 (zg_6604 _) (by decide) (fun v7 => ?_)
  refine r_if_ne E 82 (by decide) dX65_lookDirectory_74 (fun _ => ?_) (fun _ => ?_)
  · exact w_fX65_lookDirectory_J82 E hN hT x3 x4
  · refine r_aload_n E dX65_lookDirectory_77 rfl 0 rfl ?_
    refine r_iconst E dX65_lookDirectory_78 (zkI (by decide) (by decide)) ?_
    refine r_callV E [(0, 3)] [] rfl zc_67 zr_67 (fun o _ => ⟨_, zw_X65.1 o, rfl⟩) (lw_V q3113 q3115 qs83 q292 q3116) dX65_lookDirectory_79 zy_X65_lookItems rfl (by omega) (by decide) (Nat.le_of_ble_eq_true rfl) (by decide) (fun l G => k_fX65_lookItems l G 3) (fun _ => ?_)
    exact w_fX65_lookDirectory_J82 E hN hT x3 x4
theorem w_fX65_lookDirectory_J35 {K : zK} (E : zE K cX65_lookDirectory "RingHouse$Tape" none 4) (hN : zNl K = 6) (hT : zTr K = none) (x1 : Int) (x3 : Int) : zR K 35 [(0, 67, 0), (1, 0, x1), (3, 0, x3)] [] (fX65_lookDirectory_J35 x1 x3) := by
  refine r_aload_n E dX65_lookDirectory_35 rfl 0 rfl ?_
  refine r_get E zc_67 zt_6603 dX65_lookDirectory_36 q1718 zr_67 (zg_6603 _) (by decide) (fun v4 => ?_)
  refine r_istore_n (ls' := [(2, 0, v4), (0, 67, 0), (1, 0, x1), (3, 0, x3)]) E dX65_lookDirectory_39 rfl (by rw [hN]; decide) rfl ?_
  refine r_aload_n E dX65_lookDirectory_40 rfl 1 rfl ?_
  refine r_callV E [] [] rfl zc_67 zr_67 (fun o _ => ⟨_, zw_X65.1 o, rfl⟩) (lw_V q3088 q3090 qs77 q292 q3091) dX65_lookDirectory_41 zy_X65_take rfl (by omega) (by decide) (Nat.le_of_ble_eq_true rfl) (by decide) (fun l G => k_fX65_take l G) (fun v5 => ?_)
  refine r_istore (ls' := [(4, 0, v5), (2, 0, v4), (0, 67, 0), (1, 0, x1), (3, 0, x3)]) E dX65_lookDirectory_44 (by rw [hN]; decide) rfl ?_
  refine r_aload_n E dX65_lookDirectory_46 rfl 2 rfl ?_
  refine r_get E zc_67 zt_6604 dX65_lookDirectory_47 q1719 zr_67 (zg_6604 _) (by decide) (fun v6 => ?_)
  refine r_if_ne E 70 (by decide) dX65_lookDirectory_50 (fun _ => ?_) (fun _ => ?_)
  · refine r_pick E [2, 4, 0] rfl ?_
    exact w_fX65_lookDirectory_J70 E hN hT x3 v5
  · refine r_iload E dX65_lookDirectory_53 0 rfl ?_
    refine r_if_ne E 70 (by decide) dX65_lookDirectory_55 (fun _ => ?_) (fun _ => ?_)
    · refine r_pick E [2, 4, 0] rfl ?_
      exact w_fX65_lookDirectory_J70 E hN hT x3 v5
    · refine r_iload_n E dX65_lookDirectory_58 rfl 4 rfl ?_
      refine r_iload_n E dX65_lookDirectory_59 rfl 3 rfl ?_
      refine r_icmp_eq E 70 (by decide) dX65_lookDirectory_60 (fun _ => ?_) (fun _ => ?_)
      · refine r_pick E [2, 4, 0] rfl ?_
        exact w_fX65_lookDirectory_J70 E hN hT x3 v5
      · refine r_aload_n E dX65_lookDirectory_63 rfl 2 rfl ?_
        refine r_iconst E dX65_lookDirectory_64 (zkI (by decide) (by decide)) ?_
        refine r_iload_n E dX65_lookDirectory_65 rfl 1 rfl ?_
        refine r_callV E [(0, 5), (0, v4)] [] rfl zc_67 zr_67 (fun o _ => ⟨_, zw_X65.1 o, rfl⟩) (lw_V q3092 q3094 qs78 q292 q3095) dX65_lookDirectory_66 zy_X65_wrong rfl (by omega) (by decide) (Nat.le_of_ble_eq_true rfl) (by decide) (fun l G => k_fX65_wrong l G 5 v4) (fun v20 => ?_)
        refine r_pop E (zn1 rfl) dX65_lookDirectory_69 ?_
        refine r_pick E [2, 4, 0] rfl ?_
        exact w_fX65_lookDirectory_J70 E hN hT x3 v5
theorem w_fX65_lookDirectory {K : zK} (E : zE K cX65_lookDirectory "RingHouse$Tape" none 4) (hN : zNl K = 6) (hT : zTr K = none) (x1 : Int) : zR K 0 [(0, 67, 0), (1, 0, x1)] [] (fX65_lookDirectory x1) := by
  refine r_aload_n E dX65_lookDirectory_0 rfl 0 rfl ?_
  refine r_get E zc_67 zt_6603 dX65_lookDirectory_1 q1718 zr_67 (zg_6603 _) (by decide) (fun v1 => ?_)
  refine r_istore_n (ls' := [(2, 0, v1), (0, 67, 0), (1, 0, x1)]) E dX65_lookDirectory_4 rfl (by rw [hN]; decide) rfl ?_
  refine r_aload_n E dX65_lookDirectory_5 rfl 1 rfl ?_
  refine r_iconst E dX65_lookDirectory_6 (zkI (by decide) (by decide)) ?_
  refine r_bipush E dX65_lookDirectory_7 (by decide) (zkI (by decide) (by decide)) ?_
  refine r_callV E [(0, 0), (0, 31)] [] rfl zc_67 zr_67 (fun o _ => ⟨_, zw_X65.1 o, rfl⟩) (lw_V q3100 q3102 qs80 q292 q3103) dX65_lookDirectory_9 zy_X65_take_2 rfl (by omega) (by decide) (Nat.le_of_ble_eq_true rfl) (by decide) (fun l G => k_fX65_take_2 l G 0 31) (fun v2 => ?_)
  refine r_istore_n (ls' := [(3, 0, v2), (2, 0, v1), (0, 67, 0), (1, 0, x1)]) E dX65_lookDirectory_12 rfl (by rw [hN]; decide) rfl ?_
  refine r_aload_n E dX65_lookDirectory_13 rfl 2 rfl ?_
  refine r_get E zc_67 zt_6604 dX65_lookDirectory_14 q1719 zr_67 (zg_6604 _) (by decide) (fun v3 => ?_)
  refine r_if_ne E 35 (by decide) dX65_lookDirectory_17 (fun _ => ?_) (fun _ => ?_)
  · refine r_pick E [2, 3, 0] rfl ?_
    exact w_fX65_lookDirectory_J35 E hN hT x1 v2
  · refine r_iload_n E dX65_lookDirectory_20 rfl 0 rfl ?_
    refine r_iload_n E dX65_lookDirectory_21 rfl 3 rfl ?_
    refine r_callSN E [(0, v2), (0, x1)] [] rfl q3121 q1858 q227 q1859 dX65_lookDirectory_22 zy_X0_dominates rfl (by omega) (by decide) (Nat.le_of_ble_eq_true rfl) (fun l G => k_fX0_dominates l G v2 x1) (fun v21 => ?_)
    refine r_if_ne E 35 (by decide) dX65_lookDirectory_25 (fun _ => ?_) (fun _ => ?_)
    · refine r_pick E [2, 3, 0] rfl ?_
      exact w_fX65_lookDirectory_J35 E hN hT x1 v2
    · refine r_aload_n E dX65_lookDirectory_28 rfl 2 rfl ?_
      refine r_iconst E dX65_lookDirectory_29 (zkI (by decide) (by decide)) ?_
      refine r_iload_n E dX65_lookDirectory_30 rfl 1 rfl ?_
      refine r_callV E [(0, 5), (0, v1)] [] rfl zc_67 zr_67 (fun o _ => ⟨_, zw_X65.1 o, rfl⟩) (lw_V q3092 q3094 qs78 q292 q3095) dX65_lookDirectory_31 zy_X65_wrong rfl (by omega) (by decide) (Nat.le_of_ble_eq_true rfl) (by decide) (fun l G => k_fX65_wrong l G 5 v1) (fun v22 => ?_)
      refine r_pop E (zn1 rfl) dX65_lookDirectory_34 ?_
      refine r_pick E [2, 3, 0] rfl ?_
      exact w_fX65_lookDirectory_J35 E hN hT x1 v2
theorem k_fX65_lookDirectory (l : Launch) (G : zG) (x1 : Int) : zCt l G yX65_lookDirectory cX65_lookDirectory 6 none 4 [(67, 0), (0, x1)] none (fX65_lookDirectory x1) := zCt.of (by decide) (Nat.le_of_ble_eq_true rfl) (fun K E _ _ hN hT => w_fX65_lookDirectory E hN hT x1)
theorem dX65_lookNode_0 : decode cX65_lookNode 0 = .ok (.aload_n 0, 1) := by decide +kernel
theorem dX65_lookNode_1 : decode cX65_lookNode 1 = .ok (.iconst 1, 1) := by decide +kernel
theorem dX65_lookNode_2 : decode cX65_lookNode 2 = .ok (.iconst 3, 1) := by decide +kernel
theorem dX65_lookNode_3 : decode cX65_lookNode 3 = .ok (.invokevirtual 191, 3) := by decide +kernel
theorem dX65_lookNode_6 : decode cX65_lookNode 6 = .ok (.istore_n 2, 1) := by decide +kernel
theorem dX65_lookNode_7 : decode cX65_lookNode 7 = .ok (.aload_n 0, 1) := by decide +kernel
theorem dX65_lookNode_8 : decode cX65_lookNode 8 = .ok (.getfield 160, 3) := by decide +kernel
theorem dX65_lookNode_11 : decode cX65_lookNode 11 = .ok (.ifCond .le 4, 3) := by decide +kernel
theorem dX65_lookNode_14 : decode cX65_lookNode 14 = .ok (.return_, 1) := by decide +kernel
theorem dX65_lookNode_15 : decode cX65_lookNode 15 = .ok (.aload_n 0, 1) := by decide +kernel
theorem dX65_lookNode_16 : decode cX65_lookNode 16 = .ok (.invokevirtual 216, 3) := by decide +kernel
theorem dX65_lookNode_19 : decode cX65_lookNode 19 = .ok (.aload_n 0, 1) := by decide +kernel
theorem dX65_lookNode_20 : decode cX65_lookNode 20 = .ok (.iconst 0, 1) := by decide +kernel
theorem dX65_lookNode_21 : decode cX65_lookNode 21 = .ok (.bipush 7, 2) := by decide +kernel
theorem dX65_lookNode_23 : decode cX65_lookNode 23 = .ok (.invokevirtual 191, 3) := by decide +kernel
theorem dX65_lookNode_26 : decode cX65_lookNode 26 = .ok (.istore_n 3, 1) := by decide +kernel
theorem dX65_lookNode_27 : decode cX65_lookNode 27 = .ok (.aload_n 0, 1) := by decide +kernel
theorem dX65_lookNode_28 : decode cX65_lookNode 28 = .ok (.getfield 160, 3) := by decide +kernel
theorem dX65_lookNode_31 : decode cX65_lookNode 31 = .ok (.ifCond .le 7, 3) := by decide +kernel
theorem dX65_lookNode_34 : decode cX65_lookNode 34 = .ok (.iconst 0, 1) := by decide +kernel
theorem dX65_lookNode_35 : decode cX65_lookNode 35 = .ok (.goto 10, 3) := by decide +kernel
theorem dX65_lookNode_38 : decode cX65_lookNode 38 = .ok (.aload_n 0, 1) := by decide +kernel
theorem dX65_lookNode_39 : decode cX65_lookNode 39 = .ok (.iload_n 3, 1) := by decide +kernel
theorem dX65_lookNode_40 : decode cX65_lookNode 40 = .ok (.bipush 7, 2) := by decide +kernel
theorem dX65_lookNode_42 : decode cX65_lookNode 42 = .ok (.invokevirtual 191, 3) := by decide +kernel
theorem dX65_lookNode_45 : decode cX65_lookNode 45 = .ok (.istore 4, 2) := by decide +kernel
theorem dX65_lookNode_47 : decode cX65_lookNode 47 = .ok (.aload_n 0, 1) := by decide +kernel
theorem dX65_lookNode_48 : decode cX65_lookNode 48 = .ok (.getfield 160, 3) := by decide +kernel
theorem dX65_lookNode_51 : decode cX65_lookNode 51 = .ok (.ifCond .ne 12, 3) := by decide +kernel
theorem dX65_lookNode_54 : decode cX65_lookNode 54 = .ok (.aload_n 0, 1) := by decide +kernel
theorem dX65_lookNode_55 : decode cX65_lookNode 55 = .ok (.iload 4, 2) := by decide +kernel
theorem dX65_lookNode_57 : decode cX65_lookNode 57 = .ok (.bipush 7, 2) := by decide +kernel
theorem dX65_lookNode_59 : decode cX65_lookNode 59 = .ok (.invokevirtual 191, 3) := by decide +kernel
theorem dX65_lookNode_62 : decode cX65_lookNode 62 = .ok (.pop, 1) := by decide +kernel
theorem dX65_lookNode_63 : decode cX65_lookNode 63 = .ok (.aload_n 0, 1) := by decide +kernel
theorem dX65_lookNode_64 : decode cX65_lookNode 64 = .ok (.getfield 160, 3) := by decide +kernel
theorem dX65_lookNode_67 : decode cX65_lookNode 67 = .ok (.ifCond .ne 9, 3) := by decide +kernel
theorem dX65_lookNode_70 : decode cX65_lookNode 70 = .ok (.aload_n 0, 1) := by decide +kernel
theorem dX65_lookNode_71 : decode cX65_lookNode 71 = .ok (.bipush 6, 2) := by decide +kernel
theorem dX65_lookNode_73 : decode cX65_lookNode 73 = .ok (.invokevirtual 197, 3) := by decide +kernel
theorem dX65_lookNode_76 : decode cX65_lookNode 76 = .ok (.aload_n 0, 1) := by decide +kernel
theorem dX65_lookNode_77 : decode cX65_lookNode 77 = .ok (.getfield 160, 3) := by decide +kernel
theorem dX65_lookNode_80 : decode cX65_lookNode 80 = .ok (.ifCond .le 4, 3) := by decide +kernel
theorem dX65_lookNode_83 : decode cX65_lookNode 83 = .ok (.return_, 1) := by decide +kernel
theorem dX65_lookNode_84 : decode cX65_lookNode 84 = .ok (.iload_n 2, 1) := by decide +kernel
theorem dX65_lookNode_85 : decode cX65_lookNode 85 = .ok (.iconst 1, 1) := by decide +kernel
theorem dX65_lookNode_86 : decode cX65_lookNode 86 = .ok (.if_icmp .ne 11, 3) := by decide +kernel
theorem dX65_lookNode_89 : decode cX65_lookNode 89 = .ok (.aload_n 0, 1) := by decide +kernel
theorem dX65_lookNode_90 : decode cX65_lookNode 90 = .ok (.iload_n 1, 1) := by decide +kernel
theorem dX65_lookNode_91 : decode cX65_lookNode 91 = .ok (.invokevirtual 219, 3) := by decide +kernel
theorem dX65_lookNode_94 : decode cX65_lookNode 94 = .ok (.goto 20, 3) := by decide +kernel
theorem dX65_lookNode_97 : decode cX65_lookNode 97 = .ok (.iload_n 2, 1) := by decide +kernel
theorem dX65_lookNode_98 : decode cX65_lookNode 98 = .ok (.iconst 2, 1) := by decide +kernel
theorem dX65_lookNode_99 : decode cX65_lookNode 99 = .ok (.if_icmp .ne 10, 3) := by decide +kernel
theorem dX65_lookNode_102 : decode cX65_lookNode 102 = .ok (.aload_n 0, 1) := by decide +kernel
theorem dX65_lookNode_103 : decode cX65_lookNode 103 = .ok (.invokevirtual 222, 3) := by decide +kernel
theorem dX65_lookNode_106 : decode cX65_lookNode 106 = .ok (.goto 8, 3) := by decide +kernel
theorem dX65_lookNode_109 : decode cX65_lookNode 109 = .ok (.aload_n 0, 1) := by decide +kernel
theorem dX65_lookNode_110 : decode cX65_lookNode 110 = .ok (.iload_n 1, 1) := by decide +kernel
theorem dX65_lookNode_111 : decode cX65_lookNode 111 = .ok (.invokevirtual 225, 3) := by decide +kernel
theorem dX65_lookNode_114 : decode cX65_lookNode 114 = .ok (.aload_n 0, 1) := by decide +kernel
theorem dX65_lookNode_115 : decode cX65_lookNode 115 = .ok (.invokevirtual 228, 3) := by decide +kernel
theorem dX65_lookNode_118 : decode cX65_lookNode 118 = .ok (.return_, 1) := by decide +kernel
theorem zy_X65_lookNode : yX65_lookNode.cls ≠ "java/lang/invoke/MethodHandle" ∧ yX65_lookNode.cls ≠ "java/lang/invoke/VarHandle" ∧ (parseMethodDescriptor yX65_lookNode.desc).map (fun d => d.parameters.length) = some 1 := by decide +kernel
theorem w_fX65_lookNode_J114 {K : zK} (E : zE K cX65_lookNode "RingHouse$Tape" none 5) (hN : zNl K = 5) (hT : zTr K = none) : zR K 114 [(0, 67, 0)] [] (fX65_lookNode_J114) := by
  refine r_aload_n E dX65_lookNode_114 rfl 0 rfl ?_
  refine r_callV E [] [] rfl zc_67 zr_67 (fun o _ => ⟨_, zw_X65.1 o, rfl⟩) (lw_V q3136 q3138 qs88 q292 q3139) dX65_lookNode_115 zy_X65_shut rfl (by omega) (by decide) (Nat.le_of_ble_eq_true rfl) (by decide) (fun l G => k_fX65_shut l G) (fun _ => ?_)
  exact r_return E rfl hT dX65_lookNode_118
theorem w_fX65_lookNode_J76 {K : zK} (E : zE K cX65_lookNode "RingHouse$Tape" none 5) (hN : zNl K = 5) (hT : zTr K = none) (x1 : Int) (x2 : Int) : zR K 76 [(0, 67, 0), (1, 0, x1), (2, 0, x2)] [] (fX65_lookNode_J76 x1 x2) := by
  refine r_aload_n E dX65_lookNode_76 rfl 0 rfl ?_
  refine r_get E zc_67 zt_6604 dX65_lookNode_77 q1719 zr_67 (zg_6604 _) (by decide) (fun v9 => ?_)
  refine r_if_le E 84 (by decide) dX65_lookNode_80 (fun _ => ?_) (fun _ => ?_)
  · refine r_iload_n E dX65_lookNode_84 rfl 2 rfl ?_
    refine r_iconst E dX65_lookNode_85 (zkI (by decide) (by decide)) ?_
    refine r_icmp_ne E 97 (by decide) dX65_lookNode_86 (fun _ => ?_) (fun _ => ?_)
    · refine r_iload_n E dX65_lookNode_97 rfl 2 rfl ?_
      refine r_iconst E dX65_lookNode_98 (zkI (by decide) (by decide)) ?_
      refine r_icmp_ne E 109 (by decide) dX65_lookNode_99 (fun _ => ?_) (fun _ => ?_)
      · refine r_aload_n E dX65_lookNode_109 rfl 0 rfl ?_
        refine r_iload_n E dX65_lookNode_110 rfl 1 rfl ?_
        refine r_callV E [(0, x1)] [] rfl zc_67 zr_67 (fun o _ => ⟨_, zw_X65.1 o, rfl⟩) (lw_V q3132 q3134 qs87 q292 q3135) dX65_lookNode_111 zy_X65_lookMailbox rfl (by omega) (by decide) (Nat.le_of_ble_eq_true rfl) (by decide) (fun l G => k_fX65_lookMailbox l G x1) (fun _ => ?_)
        refine r_pick E [0] rfl ?_
        exact w_fX65_lookNode_J114 E hN hT
      · refine r_aload_n E dX65_lookNode_102 rfl 0 rfl ?_
        refine r_callV E [] [] rfl zc_67 zr_67 (fun o _ => ⟨_, zw_X65.1 o, rfl⟩) (lw_V q3122 q3124 qs85 q292 q3125) dX65_lookNode_103 zy_X65_lookSegment rfl (by omega) (by decide) (Nat.le_of_ble_eq_true rfl) (by decide) (fun l G => k_fX65_lookSegment l G) (fun _ => ?_)
        refine r_goto E 114 (by decide) dX65_lookNode_106 ?_
        refine r_pick E [0] rfl ?_
        exact w_fX65_lookNode_J114 E hN hT
    · refine r_aload_n E dX65_lookNode_89 rfl 0 rfl ?_
      refine r_iload_n E dX65_lookNode_90 rfl 1 rfl ?_
      refine r_callV E [(0, x1)] [] rfl zc_67 zr_67 (fun o _ => ⟨_, zw_X65.1 o, rfl⟩) (lw_V q3117 q3119 qs84 q292 q3120) dX65_lookNode_91 zy_X65_lookDirectory rfl (by omega) (by decide) (Nat.le_of_ble_eq_true rfl) (by decide) (fun l G => k_fX65_lookDirectory l G x1) (fun _ => ?_)
      refine r_goto E 114 (by decide) dX65_lookNode_94 ?_
      refine r_pick E [0] rfl ?_
      exact w_fX65_lookNode_J114 E hN hT
  · exact r_return E rfl hT dX65_lookNode_83
theorem w_fX65_lookNode_J63 {K : zK} (E : zE K cX65_lookNode "RingHouse$Tape" none 5) (hN : zNl K = 5) (hT : zTr K = none) (x1 : Int) (x2 : Int) : zR K 63 [(0, 67, 0), (1, 0, x1), (2, 0, x2)] [] (fX65_lookNode_J63 x1 x2) := by
  refine r_aload_n E dX65_lookNode_63 rfl 0 rfl ?_
  refine r_get E zc_67 zt_6604 dX65_lookNode_64 q1719 zr_67 (zg_6604 _) (by decide) (fun v8 => ?_)
  refine r_if_ne E 76 (by decide) dX65_lookNode_67 (fun _ => ?_) (fun _ => ?_)
  · exact w_fX65_lookNode_J76 E hN hT x1 x2
  · refine r_aload_n E dX65_lookNode_70 rfl 0 rfl ?_
    refine r_bipush E dX65_lookNode_71 (by decide) (zkI (by decide) (by decide)) ?_
    refine r_callV E [(0, 6)] [] rfl zc_67 zr_67 (fun o _ => ⟨_, zw_X65.1 o, rfl⟩) (lw_V q3113 q3115 qs83 q292 q3116) dX65_lookNode_73 zy_X65_lookItems rfl (by omega) (by decide) (Nat.le_of_ble_eq_true rfl) (by decide) (fun l G => k_fX65_lookItems l G 6) (fun _ => ?_)
    exact w_fX65_lookNode_J76 E hN hT x1 x2
theorem w_fX65_lookNode_J45 {K : zK} (E : zE K cX65_lookNode "RingHouse$Tape" none 5) (hN : zNl K = 5) (hT : zTr K = none) (x1 : Int) (x2 : Int) (s0 : Int) : zR K 45 [(0, 67, 0), (1, 0, x1), (2, 0, x2)] [(0, s0)] (fX65_lookNode_J45 x1 x2 s0) := by
  refine r_istore (ls' := [(4, 0, s0), (0, 67, 0), (1, 0, x1), (2, 0, x2)]) E dX65_lookNode_45 (by rw [hN]; decide) rfl ?_
  refine r_aload_n E dX65_lookNode_47 rfl 1 rfl ?_
  refine r_get E zc_67 zt_6604 dX65_lookNode_48 q1719 zr_67 (zg_6604 _) (by decide) (fun v7 => ?_)
  refine r_if_ne E 63 (by decide) dX65_lookNode_51 (fun _ => ?_) (fun _ => ?_)
  · refine r_pick E [1, 2, 3] rfl ?_
    exact w_fX65_lookNode_J63 E hN hT x1 x2
  · refine r_aload_n E dX65_lookNode_54 rfl 1 rfl ?_
    refine r_iload E dX65_lookNode_55 0 rfl ?_
    refine r_bipush E dX65_lookNode_57 (by decide) (zkI (by decide) (by decide)) ?_
    refine r_callV E [(0, s0), (0, 7)] [] rfl zc_67 zr_67 (fun o _ => ⟨_, zw_X65.1 o, rfl⟩) (lw_V q3100 q3102 qs80 q292 q3103) dX65_lookNode_59 zy_X65_take_2 rfl (by omega) (by decide) (Nat.le_of_ble_eq_true rfl) (by decide) (fun l G => k_fX65_take_2 l G s0 7) (fun v15 => ?_)
    refine r_pop E (zn1 rfl) dX65_lookNode_62 ?_
    refine r_pick E [1, 2, 3] rfl ?_
    exact w_fX65_lookNode_J63 E hN hT x1 x2
theorem w_fX65_lookNode {K : zK} (E : zE K cX65_lookNode "RingHouse$Tape" none 5) (hN : zNl K = 5) (hT : zTr K = none) (x1 : Int) : zR K 0 [(0, 67, 0), (1, 0, x1)] [] (fX65_lookNode x1) := by
  refine r_aload_n E dX65_lookNode_0 rfl 0 rfl ?_
  refine r_iconst E dX65_lookNode_1 (zkI (by decide) (by decide)) ?_
  refine r_iconst E dX65_lookNode_2 (zkI (by decide) (by decide)) ?_
  refine r_callV E [(0, 1), (0, 3)] [] rfl zc_67 zr_67 (fun o _ => ⟨_, zw_X65.1 o, rfl⟩) (lw_V q3100 q3102 qs80 q292 q3103) dX65_lookNode_3 zy_X65_take_2 rfl (by omega) (by decide) (Nat.le_of_ble_eq_true rfl) (by decide) (fun l G => k_fX65_take_2 l G 1 3) (fun v1 => ?_)
  refine r_istore_n (ls' := [(2, 0, v1), (0, 67, 0), (1, 0, x1)]) E dX65_lookNode_6 rfl (by rw [hN]; decide) rfl ?_
  refine r_aload_n E dX65_lookNode_7 rfl 1 rfl ?_
  refine r_get E zc_67 zt_6604 dX65_lookNode_8 q1719 zr_67 (zg_6604 _) (by decide) (fun v2 => ?_)
  refine r_if_le E 15 (by decide) dX65_lookNode_11 (fun _ => ?_) (fun _ => ?_)
  · refine r_aload_n E dX65_lookNode_15 rfl 1 rfl ?_
    refine r_callV E [] [] rfl zc_67 zr_67 (fun o _ => ⟨_, zw_X65.1 o, rfl⟩) (lw_V q3104 q3106 qs81 q292 q3107) dX65_lookNode_16 zy_X65_lookName rfl (by omega) (by decide) (Nat.le_of_ble_eq_true rfl) (by decide) (fun l G => k_fX65_lookName l G) (fun _ => ?_)
    refine r_aload_n E dX65_lookNode_19 rfl 1 rfl ?_
    refine r_iconst E dX65_lookNode_20 (zkI (by decide) (by decide)) ?_
    refine r_bipush E dX65_lookNode_21 (by decide) (zkI (by decide) (by decide)) ?_
    refine r_callV E [(0, 0), (0, 7)] [] rfl zc_67 zr_67 (fun o _ => ⟨_, zw_X65.1 o, rfl⟩) (lw_V q3100 q3102 qs80 q292 q3103) dX65_lookNode_23 zy_X65_take_2 rfl (by omega) (by decide) (Nat.le_of_ble_eq_true rfl) (by decide) (fun l G => k_fX65_take_2 l G 0 7) (fun v4 => ?_)
    refine r_istore_n (ls' := [(3, 0, v4), (2, 0, v1), (0, 67, 0), (1, 0, x1)]) E dX65_lookNode_26 rfl (by rw [hN]; decide) rfl ?_
    refine r_aload_n E dX65_lookNode_27 rfl 2 rfl ?_
    refine r_get E zc_67 zt_6604 dX65_lookNode_28 q1719 zr_67 (zg_6604 _) (by decide) (fun v5 => ?_)
    refine r_if_le E 38 (by decide) dX65_lookNode_31 (fun _ => ?_) (fun _ => ?_)
    · refine r_aload_n E dX65_lookNode_38 rfl 2 rfl ?_
      refine r_iload_n E dX65_lookNode_39 rfl 0 rfl ?_
      refine r_bipush E dX65_lookNode_40 (by decide) (zkI (by decide) (by decide)) ?_
      refine r_callV E [(0, v4), (0, 7)] [] rfl zc_67 zr_67 (fun o _ => ⟨_, zw_X65.1 o, rfl⟩) (lw_V q3100 q3102 qs80 q292 q3103) dX65_lookNode_42 zy_X65_take_2 rfl (by omega) (by decide) (Nat.le_of_ble_eq_true rfl) (by decide) (fun l G => k_fX65_take_2 l G v4 7) (fun v6 => ?_)
      refine r_pick E [2, 3, 1] rfl ?_
      exact w_fX65_lookNode_J45 E hN hT x1 v1 v6
    · refine r_iconst E dX65_lookNode_34 (zkI (by decide) (by decide)) ?_
      refine r_goto E 45 (by decide) dX65_lookNode_35 ?_
      refine r_pick E [2, 3, 1] rfl ?_
      exact w_fX65_lookNode_J45 E hN hT x1 v1 0
  · exact r_return E rfl hT dX65_lookNode_14
theorem k_fX65_lookNode (l : Launch) (G : zG) (x1 : Int) : zCt l G yX65_lookNode cX65_lookNode 5 none 5 [(67, 0), (0, x1)] none (fX65_lookNode x1) := zCt.of (by decide) (Nat.le_of_ble_eq_true rfl) (fun K E _ _ hN hT => w_fX65_lookNode E hN hT x1)
theorem dX65_isSound_0 : decode cX65_isSound 0 = .ok (.aload_n 0, 1) := by decide +kernel
theorem dX65_isSound_1 : decode cX65_isSound 1 = .ok (.iconst 0, 1) := by decide +kernel
theorem dX65_isSound_2 : decode cX65_isSound 2 = .ok (.putfield 160, 3) := by decide +kernel
theorem dX65_isSound_5 : decode cX65_isSound 5 = .ok (.aload_n 0, 1) := by decide +kernel
theorem dX65_isSound_6 : decode cX65_isSound 6 = .ok (.iconst (-1), 1) := by decide +kernel
theorem dX65_isSound_7 : decode cX65_isSound 7 = .ok (.putfield 163, 3) := by decide +kernel
theorem dX65_isSound_10 : decode cX65_isSound 10 = .ok (.aload_n 0, 1) := by decide +kernel
theorem dX65_isSound_11 : decode cX65_isSound 11 = .ok (.iconst 0, 1) := by decide +kernel
theorem dX65_isSound_12 : decode cX65_isSound 12 = .ok (.putfield 166, 3) := by decide +kernel
theorem dX65_isSound_15 : decode cX65_isSound 15 = .ok (.aload_n 0, 1) := by decide +kernel
theorem dX65_isSound_16 : decode cX65_isSound 16 = .ok (.iconst 0, 1) := by decide +kernel
theorem dX65_isSound_17 : decode cX65_isSound 17 = .ok (.putfield 185, 3) := by decide +kernel
theorem dX65_isSound_20 : decode cX65_isSound 20 = .ok (.aload_n 0, 1) := by decide +kernel
theorem dX65_isSound_21 : decode cX65_isSound 21 = .ok (.iconst 0, 1) := by decide +kernel
theorem dX65_isSound_22 : decode cX65_isSound 22 = .ok (.putfield 188, 3) := by decide +kernel
theorem dX65_isSound_25 : decode cX65_isSound 25 = .ok (.aload_n 0, 1) := by decide +kernel
theorem dX65_isSound_26 : decode cX65_isSound 26 = .ok (.iconst 0, 1) := by decide +kernel
theorem dX65_isSound_27 : decode cX65_isSound 27 = .ok (.putfield 212, 3) := by decide +kernel
theorem dX65_isSound_30 : decode cX65_isSound 30 = .ok (.iconst 0, 1) := by decide +kernel
theorem dX65_isSound_31 : decode cX65_isSound 31 = .ok (.istore_n 2, 1) := by decide +kernel
theorem dX65_isSound_32 : decode cX65_isSound 32 = .ok (.iload_n 2, 1) := by decide +kernel
theorem dX65_isSound_33 : decode cX65_isSound 33 = .ok (.getstatic 231, 3) := by decide +kernel
theorem dX65_isSound_36 : decode cX65_isSound 36 = .ok (.arraylength, 1) := by decide +kernel
theorem dX65_isSound_37 : decode cX65_isSound 37 = .ok (.if_icmp .ge 44, 3) := by decide +kernel
theorem dX65_isSound_40 : decode cX65_isSound 40 = .ok (.aload_n 0, 1) := by decide +kernel
theorem dX65_isSound_41 : decode cX65_isSound 41 = .ok (.getfield 160, 3) := by decide +kernel
theorem dX65_isSound_44 : decode cX65_isSound 44 = .ok (.ifCond .ne 37, 3) := by decide +kernel
theorem dX65_isSound_47 : decode cX65_isSound 47 = .ok (.aload_n 0, 1) := by decide +kernel
theorem dX65_isSound_48 : decode cX65_isSound 48 = .ok (.invokevirtual 173, 3) := by decide +kernel
theorem dX65_isSound_51 : decode cX65_isSound 51 = .ok (.istore_n 3, 1) := by decide +kernel
theorem dX65_isSound_52 : decode cX65_isSound 52 = .ok (.aload_n 0, 1) := by decide +kernel
theorem dX65_isSound_53 : decode cX65_isSound 53 = .ok (.getfield 160, 3) := by decide +kernel
theorem dX65_isSound_56 : decode cX65_isSound 56 = .ok (.ifCond .ne 19, 3) := by decide +kernel
theorem dX65_isSound_59 : decode cX65_isSound 59 = .ok (.iload_n 3, 1) := by decide +kernel
theorem dX65_isSound_60 : decode cX65_isSound 60 = .ok (.getstatic 231, 3) := by decide +kernel
theorem dX65_isSound_63 : decode cX65_isSound 63 = .ok (.iload_n 2, 1) := by decide +kernel
theorem dX65_isSound_64 : decode cX65_isSound 64 = .ok (.iaload, 1) := by decide +kernel
theorem dX65_isSound_65 : decode cX65_isSound 65 = .ok (.if_icmp .eq 10, 3) := by decide +kernel
theorem dX65_isSound_68 : decode cX65_isSound 68 = .ok (.aload_n 0, 1) := by decide +kernel
theorem dX65_isSound_69 : decode cX65_isSound 69 = .ok (.iconst 2, 1) := by decide +kernel
theorem dX65_isSound_70 : decode cX65_isSound 70 = .ok (.iload_n 2, 1) := by decide +kernel
theorem dX65_isSound_71 : decode cX65_isSound 71 = .ok (.invokevirtual 169, 3) := by decide +kernel
theorem dX65_isSound_74 : decode cX65_isSound 74 = .ok (.pop, 1) := by decide +kernel
theorem dX65_isSound_75 : decode cX65_isSound 75 = .ok (.iinc 2 1, 3) := by decide +kernel
theorem dX65_isSound_78 : decode cX65_isSound 78 = .ok (.goto (-46), 3) := by decide +kernel
theorem dX65_isSound_81 : decode cX65_isSound 81 = .ok (.aload_n 0, 1) := by decide +kernel
theorem dX65_isSound_82 : decode cX65_isSound 82 = .ok (.getfield 160, 3) := by decide +kernel
theorem dX65_isSound_85 : decode cX65_isSound 85 = .ok (.ifCond .ne 7, 3) := by decide +kernel
theorem dX65_isSound_88 : decode cX65_isSound 88 = .ok (.iconst 1, 1) := by decide +kernel
theorem dX65_isSound_89 : decode cX65_isSound 89 = .ok (.goto 4, 3) := by decide +kernel
theorem dX65_isSound_92 : decode cX65_isSound 92 = .ok (.iconst 0, 1) := by decide +kernel
theorem dX65_isSound_93 : decode cX65_isSound 93 = .ok (.istore_n 2, 1) := by decide +kernel
theorem dX65_isSound_94 : decode cX65_isSound 94 = .ok (.iload_n 2, 1) := by decide +kernel
theorem dX65_isSound_95 : decode cX65_isSound 95 = .ok (.ifCond .eq 79, 3) := by decide +kernel
theorem dX65_isSound_98 : decode cX65_isSound 98 = .ok (.aload_n 0, 1) := by decide +kernel
theorem dX65_isSound_99 : decode cX65_isSound 99 = .ok (.getfield 185, 3) := by decide +kernel
theorem dX65_isSound_102 : decode cX65_isSound 102 = .ok (.ifCond .ne 10, 3) := by decide +kernel
theorem dX65_isSound_105 : decode cX65_isSound 105 = .ok (.aload_n 1, 1) := by decide +kernel
theorem dX65_isSound_106 : decode cX65_isSound 106 = .ok (.getfield 118, 3) := by decide +kernel
theorem dX65_isSound_109 : decode cX65_isSound 109 = .ok (.goto 14, 3) := by decide +kernel
theorem dX65_isSound_112 : decode cX65_isSound 112 = .ok (.aload_n 0, 1) := by decide +kernel
theorem dX65_isSound_113 : decode cX65_isSound 113 = .ok (.getfield 20, 3) := by decide +kernel
theorem dX65_isSound_116 : decode cX65_isSound 116 = .ok (.aload_n 0, 1) := by decide +kernel
theorem dX65_isSound_117 : decode cX65_isSound 117 = .ok (.getfield 185, 3) := by decide +kernel
theorem dX65_isSound_120 : decode cX65_isSound 120 = .ok (.iconst 1, 1) := by decide +kernel
theorem dX65_isSound_121 : decode cX65_isSound 121 = .ok (.isub, 1) := by decide +kernel
theorem dX65_isSound_122 : decode cX65_isSound 122 = .ok (.iaload, 1) := by decide +kernel
theorem dX65_isSound_123 : decode cX65_isSound 123 = .ok (.istore_n 3, 1) := by decide +kernel
theorem dX65_isSound_124 : decode cX65_isSound 124 = .ok (.aload_n 0, 1) := by decide +kernel
theorem dX65_isSound_125 : decode cX65_isSound 125 = .ok (.getfield 185, 3) := by decide +kernel
theorem dX65_isSound_128 : decode cX65_isSound 128 = .ok (.ifCond .le 18, 3) := by decide +kernel
theorem dX65_isSound_131 : decode cX65_isSound 131 = .ok (.aload_n 0, 1) := by decide +kernel
theorem dX65_isSound_132 : decode cX65_isSound 132 = .ok (.getfield 16, 3) := by decide +kernel
theorem dX65_isSound_135 : decode cX65_isSound 135 = .ok (.aload_n 0, 1) := by decide +kernel
theorem dX65_isSound_136 : decode cX65_isSound 136 = .ok (.getfield 185, 3) := by decide +kernel
theorem dX65_isSound_139 : decode cX65_isSound 139 = .ok (.iconst 1, 1) := by decide +kernel
theorem dX65_isSound_140 : decode cX65_isSound 140 = .ok (.isub, 1) := by decide +kernel
theorem dX65_isSound_141 : decode cX65_isSound 141 = .ok (.dup2, 1) := by decide +kernel
theorem dX65_isSound_142 : decode cX65_isSound 142 = .ok (.iaload, 1) := by decide +kernel
theorem dX65_isSound_143 : decode cX65_isSound 143 = .ok (.iconst 1, 1) := by decide +kernel
theorem dX65_isSound_144 : decode cX65_isSound 144 = .ok (.isub, 1) := by decide +kernel
theorem dX65_isSound_145 : decode cX65_isSound 145 = .ok (.iastore, 1) := by decide +kernel
theorem dX65_isSound_146 : decode cX65_isSound 146 = .ok (.aload_n 0, 1) := by decide +kernel
theorem dX65_isSound_147 : decode cX65_isSound 147 = .ok (.iload_n 3, 1) := by decide +kernel
theorem dX65_isSound_148 : decode cX65_isSound 148 = .ok (.invokevirtual 234, 3) := by decide +kernel
theorem dX65_isSound_151 : decode cX65_isSound 151 = .ok (.aload_n 0, 1) := by decide +kernel
theorem dX65_isSound_152 : decode cX65_isSound 152 = .ok (.getfield 160, 3) := by decide +kernel
theorem dX65_isSound_155 : decode cX65_isSound 155 = .ok (.ifCond .ne 14, 3) := by decide +kernel
theorem dX65_isSound_158 : decode cX65_isSound 158 = .ok (.aload_n 0, 1) := by decide +kernel
theorem dX65_isSound_159 : decode cX65_isSound 159 = .ok (.getfield 185, 3) := by decide +kernel
theorem dX65_isSound_162 : decode cX65_isSound 162 = .ok (.ifCond .le 7, 3) := by decide +kernel
theorem dX65_isSound_165 : decode cX65_isSound 165 = .ok (.iconst 1, 1) := by decide +kernel
theorem dX65_isSound_166 : decode cX65_isSound 166 = .ok (.goto 4, 3) := by decide +kernel
theorem dX65_isSound_169 : decode cX65_isSound 169 = .ok (.iconst 0, 1) := by decide +kernel
theorem dX65_isSound_170 : decode cX65_isSound 170 = .ok (.istore_n 2, 1) := by decide +kernel
theorem dX65_isSound_171 : decode cX65_isSound 171 = .ok (.goto (-77), 3) := by decide +kernel
theorem dX65_isSound_174 : decode cX65_isSound 174 = .ok (.aload_n 0, 1) := by decide +kernel
theorem dX65_isSound_175 : decode cX65_isSound 175 = .ok (.getfield 160, 3) := by decide +kernel
theorem dX65_isSound_178 : decode cX65_isSound 178 = .ok (.ifCond .ne 51, 3) := by decide +kernel
theorem dX65_isSound_181 : decode cX65_isSound 181 = .ok (.aload_n 0, 1) := by decide +kernel
theorem dX65_isSound_182 : decode cX65_isSound 182 = .ok (.getfield 166, 3) := by decide +kernel
theorem dX65_isSound_185 : decode cX65_isSound 185 = .ok (.istore_n 3, 1) := by decide +kernel
theorem dX65_isSound_186 : decode cX65_isSound 186 = .ok (.aload_n 0, 1) := by decide +kernel
theorem dX65_isSound_187 : decode cX65_isSound 187 = .ok (.invokevirtual 173, 3) := by decide +kernel
theorem dX65_isSound_190 : decode cX65_isSound 190 = .ok (.bipush 8, 2) := by decide +kernel
theorem dX65_isSound_192 : decode cX65_isSound 192 = .ok (.ishl, 1) := by decide +kernel
theorem dX65_isSound_193 : decode cX65_isSound 193 = .ok (.istore 4, 2) := by decide +kernel
theorem dX65_isSound_195 : decode cX65_isSound 195 = .ok (.iload 4, 2) := by decide +kernel
theorem dX65_isSound_197 : decode cX65_isSound 197 = .ok (.aload_n 0, 1) := by decide +kernel
theorem dX65_isSound_198 : decode cX65_isSound 198 = .ok (.invokevirtual 173, 3) := by decide +kernel
theorem dX65_isSound_201 : decode cX65_isSound 201 = .ok (.iadd, 1) := by decide +kernel
theorem dX65_isSound_202 : decode cX65_isSound 202 = .ok (.istore 4, 2) := by decide +kernel
theorem dX65_isSound_204 : decode cX65_isSound 204 = .ok (.aload_n 0, 1) := by decide +kernel
theorem dX65_isSound_205 : decode cX65_isSound 205 = .ok (.getfield 160, 3) := by decide +kernel
theorem dX65_isSound_208 : decode cX65_isSound 208 = .ok (.ifCond .ne 21, 3) := by decide +kernel
theorem dX65_isSound_211 : decode cX65_isSound 211 = .ok (.iload 4, 2) := by decide +kernel
theorem dX65_isSound_213 : decode cX65_isSound 213 = .ok (.aload_n 0, 1) := by decide +kernel
theorem dX65_isSound_214 : decode cX65_isSound 214 = .ok (.iload_n 3, 1) := by decide +kernel
theorem dX65_isSound_215 : decode cX65_isSound 215 = .ok (.invokevirtual 157, 3) := by decide +kernel
theorem dX65_isSound_218 : decode cX65_isSound 218 = .ok (.if_icmp .eq 11, 3) := by decide +kernel
theorem dX65_isSound_221 : decode cX65_isSound 221 = .ok (.aload_n 0, 1) := by decide +kernel
theorem dX65_isSound_222 : decode cX65_isSound 222 = .ok (.bipush 7, 2) := by decide +kernel
theorem dX65_isSound_224 : decode cX65_isSound 224 = .ok (.iload_n 3, 1) := by decide +kernel
theorem dX65_isSound_225 : decode cX65_isSound 225 = .ok (.invokevirtual 169, 3) := by decide +kernel
theorem dX65_isSound_228 : decode cX65_isSound 228 = .ok (.pop, 1) := by decide +kernel
theorem dX65_isSound_229 : decode cX65_isSound 229 = .ok (.aload_n 0, 1) := by decide +kernel
theorem dX65_isSound_230 : decode cX65_isSound 230 = .ok (.getfield 160, 3) := by decide +kernel
theorem dX65_isSound_233 : decode cX65_isSound 233 = .ok (.ifCond .ne 25, 3) := by decide +kernel
theorem dX65_isSound_236 : decode cX65_isSound 236 = .ok (.aload_n 0, 1) := by decide +kernel
theorem dX65_isSound_237 : decode cX65_isSound 237 = .ok (.getfield 166, 3) := by decide +kernel
theorem dX65_isSound_240 : decode cX65_isSound 240 = .ok (.aload_n 0, 1) := by decide +kernel
theorem dX65_isSound_241 : decode cX65_isSound 241 = .ok (.getfield 46, 3) := by decide +kernel
theorem dX65_isSound_244 : decode cX65_isSound 244 = .ok (.if_icmp .ge 14, 3) := by decide +kernel
theorem dX65_isSound_247 : decode cX65_isSound 247 = .ok (.aload_n 0, 1) := by decide +kernel
theorem dX65_isSound_248 : decode cX65_isSound 248 = .ok (.bipush 8, 2) := by decide +kernel
theorem dX65_isSound_250 : decode cX65_isSound 250 = .ok (.aload_n 0, 1) := by decide +kernel
theorem dX65_isSound_251 : decode cX65_isSound 251 = .ok (.getfield 166, 3) := by decide +kernel
theorem dX65_isSound_254 : decode cX65_isSound 254 = .ok (.invokevirtual 169, 3) := by decide +kernel
theorem dX65_isSound_257 : decode cX65_isSound 257 = .ok (.pop, 1) := by decide +kernel
theorem dX65_isSound_258 : decode cX65_isSound 258 = .ok (.aload_n 0, 1) := by decide +kernel
theorem dX65_isSound_259 : decode cX65_isSound 259 = .ok (.getfield 160, 3) := by decide +kernel
theorem dX65_isSound_262 : decode cX65_isSound 262 = .ok (.ifCond .ne 36, 3) := by decide +kernel
theorem dX65_isSound_265 : decode cX65_isSound 265 = .ok (.aload_n 0, 1) := by decide +kernel
theorem dX65_isSound_266 : decode cX65_isSound 266 = .ok (.getfield 212, 3) := by decide +kernel
theorem dX65_isSound_269 : decode cX65_isSound 269 = .ok (.ifCond .ne 18, 3) := by decide +kernel
theorem dX65_isSound_272 : decode cX65_isSound 272 = .ok (.aload_n 0, 1) := by decide +kernel
theorem dX65_isSound_273 : decode cX65_isSound 273 = .ok (.getfield 42, 3) := by decide +kernel
theorem dX65_isSound_276 : decode cX65_isSound 276 = .ok (.aload_n 1, 1) := by decide +kernel
theorem dX65_isSound_277 : decode cX65_isSound 277 = .ok (.aload_n 0, 1) := by decide +kernel
theorem dX65_isSound_278 : decode cX65_isSound 278 = .ok (.getfield 209, 3) := by decide +kernel
theorem dX65_isSound_281 : decode cX65_isSound 281 = .ok (.invokevirtual 237, 3) := by decide +kernel
theorem dX65_isSound_284 : decode cX65_isSound 284 = .ok (.ifCond .ne 14, 3) := by decide +kernel
theorem dX65_isSound_287 : decode cX65_isSound 287 = .ok (.aload_n 0, 1) := by decide +kernel
theorem dX65_isSound_288 : decode cX65_isSound 288 = .ok (.bipush 6, 2) := by decide +kernel
theorem dX65_isSound_290 : decode cX65_isSound 290 = .ok (.aload_n 0, 1) := by decide +kernel
theorem dX65_isSound_291 : decode cX65_isSound 291 = .ok (.getfield 46, 3) := by decide +kernel
theorem dX65_isSound_294 : decode cX65_isSound 294 = .ok (.invokevirtual 169, 3) := by decide +kernel
theorem dX65_isSound_297 : decode cX65_isSound 297 = .ok (.pop, 1) := by decide +kernel
theorem dX65_isSound_298 : decode cX65_isSound 298 = .ok (.aload_n 0, 1) := by decide +kernel
theorem dX65_isSound_299 : decode cX65_isSound 299 = .ok (.getfield 160, 3) := by decide +kernel
theorem dX65_isSound_302 : decode cX65_isSound 302 = .ok (.ifCond .ne 7, 3) := by decide +kernel
theorem dX65_isSound_305 : decode cX65_isSound 305 = .ok (.iconst 1, 1) := by decide +kernel
theorem dX65_isSound_306 : decode cX65_isSound 306 = .ok (.goto 4, 3) := by decide +kernel
theorem dX65_isSound_309 : decode cX65_isSound 309 = .ok (.iconst 0, 1) := by decide +kernel
theorem dX65_isSound_310 : decode cX65_isSound 310 = .ok (.ireturn, 1) := by decide +kernel
theorem zy_X65_isSound : yX65_isSound.cls ≠ "java/lang/invoke/MethodHandle" ∧ yX65_isSound.cls ≠ "java/lang/invoke/VarHandle" ∧ (parseMethodDescriptor yX65_isSound.desc).map (fun d => d.parameters.length) = some 1 := by decide +kernel
theorem w_fX65_isSound_J298 {K : zK} (E : zE K cX65_isSound "RingHouse$Tape" (some .boolean) 6) (hN : zNl K = 5) (hT : zTr K = (some 0)) : zR K 298 [(0, 67, 0)] [] (fX65_isSound_J298) := by
  refine r_aload_n E dX65_isSound_298 rfl 0 rfl ?_
  refine r_get E zc_67 zt_6604 dX65_isSound_299 q1719 zr_67 (zg_6604 _) (by decide) (fun v5 => ?_)
  refine r_if_ne E 309 (by decide) dX65_isSound_302 (fun _ => ?_) (fun _ => ?_)
  · refine r_iconst E dX65_isSound_309 (zkI (by decide) (by decide)) ?_
    exact r_zreturn E rfl hT (by decide) dX65_isSound_310
  · refine r_iconst E dX65_isSound_305 (zkI (by decide) (by decide)) ?_
    refine r_goto E 310 (by decide) dX65_isSound_306 ?_
    exact r_zreturn E rfl hT (by decide) dX65_isSound_310
theorem w_fX65_isSound_J287 {K : zK} (E : zE K cX65_isSound "RingHouse$Tape" (some .boolean) 6) (hN : zNl K = 5) (hT : zTr K = (some 0)) : zR K 287 [(0, 67, 0)] [] (fX65_isSound_J287) := by
  refine r_aload_n E dX65_isSound_287 rfl 0 rfl ?_
  refine r_bipush E dX65_isSound_288 (by decide) (zkI (by decide) (by decide)) ?_
  refine r_aload_n E dX65_isSound_290 rfl 0 rfl ?_
  refine r_get E zc_67 zt_6602 dX65_isSound_291 q1716 zr_67 (zg_6602 _) (by decide) (fun v7 => ?_)
  refine r_callV E [(0, 6), (0, v7)] [] rfl zc_67 zr_67 (fun o _ => ⟨_, zw_X65.1 o, rfl⟩) (lw_V q3092 q3094 qs78 q292 q3095) dX65_isSound_294 zy_X65_wrong rfl (by omega) (by decide) (Nat.le_of_ble_eq_true rfl) (by decide) (fun l G => k_fX65_wrong l G 6 v7) (fun v8 => ?_)
  refine r_pop E (zn1 rfl) dX65_isSound_297 ?_
  exact w_fX65_isSound_J298 E hN hT
theorem w_fX65_isSound_J258 {K : zK} (E : zE K cX65_isSound "RingHouse$Tape" (some .boolean) 6) (hN : zNl K = 5) (hT : zTr K = (some 0)) (x1 : Int) : zR K 258 [(0, 67, 0), (1, 6, x1)] [] (fX65_isSound_J258 x1) := by
  refine r_aload_n E dX65_isSound_258 rfl 0 rfl ?_
  refine r_get E zc_67 zt_6604 dX65_isSound_259 q1719 zr_67 (zg_6604 _) (by decide) (fun v4 => ?_)
  refine r_if_ne E 298 (by decide) dX65_isSound_262 (fun _ => ?_) (fun _ => ?_)
  · refine r_pick E [0] rfl ?_
    exact w_fX65_isSound_J298 E hN hT
  · refine r_aload_n E dX65_isSound_265 rfl 0 rfl ?_
    refine r_get E zc_67 zt_6614 dX65_isSound_266 q1730 zr_67 (zg_6614 _) (by decide) (fun v6 => ?_)
    refine r_if_ne E 287 (by decide) dX65_isSound_269 (fun _ => ?_) (fun _ => ?_)
    · refine r_pick E [0] rfl ?_
      exact w_fX65_isSound_J287 E hN hT
    · refine r_aload_n E dX65_isSound_272 rfl 0 rfl ?_
      refine r_gec (y := 0) E zc_67 dX65_isSound_273 q1713 zr_67 (zh_6600 (by decide)) (by decide) ?_
      refine r_aload_n E dX65_isSound_276 rfl 1 rfl ?_
      refine r_aload_n E dX65_isSound_277 rfl 0 rfl ?_
      refine r_get E zc_67 zt_6617 dX65_isSound_278 q1733 zr_67 (zg_6617 _) (by decide) (fun v9 => ?_)
      refine r_callV E [(6, x1), (0, v9)] [] rfl zc_3 zr_3 (fun o _ => ⟨_, zw_X1.1 o, rfl⟩) (lw_V q3140 q1876 q1877 q228 q1878) dX65_isSound_281 zy_X1_bears rfl (by omega) (by decide) (Nat.le_of_ble_eq_true rfl) (by decide) (fun l G => k_fX1_bears l G x1 v9) (fun v10 => ?_)
      refine r_if_ne E 298 (by decide) dX65_isSound_284 (fun _ => ?_) (fun _ => ?_)
      · refine r_pick E [0] rfl ?_
        exact w_fX65_isSound_J298 E hN hT
      · refine r_pick E [0] rfl ?_
        exact w_fX65_isSound_J287 E hN hT
theorem w_fX65_isSound_J229 {K : zK} (E : zE K cX65_isSound "RingHouse$Tape" (some .boolean) 6) (hN : zNl K = 5) (hT : zTr K = (some 0)) (x1 : Int) : zR K 229 [(0, 67, 0), (1, 6, x1)] [] (fX65_isSound_J229 x1) := by
  refine r_aload_n E dX65_isSound_229 rfl 0 rfl ?_
  refine r_get E zc_67 zt_6604 dX65_isSound_230 q1719 zr_67 (zg_6604 _) (by decide) (fun v3 => ?_)
  refine r_if_ne E 258 (by decide) dX65_isSound_233 (fun _ => ?_) (fun _ => ?_)
  · exact w_fX65_isSound_J258 E hN hT x1
  · refine r_aload_n E dX65_isSound_236 rfl 0 rfl ?_
    refine r_get E zc_67 zt_6603 dX65_isSound_237 q1718 zr_67 (zg_6603 _) (by decide) (fun v11 => ?_)
    refine r_aload_n E dX65_isSound_240 rfl 0 rfl ?_
    refine r_get E zc_67 zt_6602 dX65_isSound_241 q1716 zr_67 (zg_6602 _) (by decide) (fun v12 => ?_)
    refine r_icmp_ge E 258 (by decide) dX65_isSound_244 (fun _ => ?_) (fun _ => ?_)
    · exact w_fX65_isSound_J258 E hN hT x1
    · refine r_aload_n E dX65_isSound_247 rfl 0 rfl ?_
      refine r_bipush E dX65_isSound_248 (by decide) (zkI (by decide) (by decide)) ?_
      refine r_aload_n E dX65_isSound_250 rfl 0 rfl ?_
      refine r_get E zc_67 zt_6603 dX65_isSound_251 q1718 zr_67 (zg_6603 _) (by decide) (fun v13 => ?_)
      refine r_callV E [(0, 8), (0, v13)] [] rfl zc_67 zr_67 (fun o _ => ⟨_, zw_X65.1 o, rfl⟩) (lw_V q3092 q3094 qs78 q292 q3095) dX65_isSound_254 zy_X65_wrong rfl (by omega) (by decide) (Nat.le_of_ble_eq_true rfl) (by decide) (fun l G => k_fX65_wrong l G 8 v13) (fun v14 => ?_)
      refine r_pop E (zn1 rfl) dX65_isSound_257 ?_
      exact w_fX65_isSound_J258 E hN hT x1
theorem w_fX65_isSound_J174 {K : zK} (E : zE K cX65_isSound "RingHouse$Tape" (some .boolean) 6) (hN : zNl K = 5) (hT : zTr K = (some 0)) (x1 : Int) : zR K 174 [(0, 67, 0), (1, 6, x1)] [] (fX65_isSound_J174 x1) := by
  refine r_aload_n E dX65_isSound_174 rfl 0 rfl ?_
  refine r_get E zc_67 zt_6604 dX65_isSound_175 q1719 zr_67 (zg_6604 _) (by decide) (fun v2 => ?_)
  refine r_if_ne E 229 (by decide) dX65_isSound_178 (fun _ => ?_) (fun _ => ?_)
  · exact w_fX65_isSound_J229 E hN hT x1
  · refine r_aload_n E dX65_isSound_181 rfl 0 rfl ?_
    refine r_get E zc_67 zt_6603 dX65_isSound_182 q1718 zr_67 (zg_6603 _) (by decide) (fun v15 => ?_)
    refine r_istore_n (ls' := [(3, 0, v15), (0, 67, 0), (1, 6, x1)]) E dX65_isSound_185 rfl (by rw [hN]; decide) rfl ?_
    refine r_aload_n E dX65_isSound_186 rfl 1 rfl ?_
    refine r_callV E [] [] rfl zc_67 zr_67 (fun o _ => ⟨_, zw_X65.1 o, rfl⟩) (lw_V q3088 q3090 qs77 q292 q3091) dX65_isSound_187 zy_X65_take rfl (by omega) (by decide) (Nat.le_of_ble_eq_true rfl) (by decide) (fun l G => k_fX65_take l G) (fun v16 => ?_)
    refine r_bipush E dX65_isSound_190 (by decide) (zkI (by decide) (by decide)) ?_
    refine r_ishl (P := 256) E (by decide) dX65_isSound_192 ?_
    refine r_let E (fun v17 ev17 => ?_)
    refine r_istore (ls' := [(4, 0, v17), (3, 0, v15), (0, 67, 0), (1, 6, x1)]) E dX65_isSound_193 (by rw [hN]; decide) rfl ?_
    refine r_iload E dX65_isSound_195 0 rfl ?_
    refine r_aload_n E dX65_isSound_197 rfl 2 rfl ?_
    refine r_callV E [] [(0, v17)] rfl zc_67 zr_67 (fun o _ => ⟨_, zw_X65.1 o, rfl⟩) (lw_V q3088 q3090 qs77 q292 q3091) dX65_isSound_198 zy_X65_take rfl (by omega) (by decide) (Nat.le_of_ble_eq_true rfl) (by decide) (fun l G => k_fX65_take l G) (fun v18 => ?_)
    refine r_iadd E dX65_isSound_201 ?_
    refine r_let E (fun v19 ev19 => ?_)
    refine r_istore (ls' := [(4, 0, v19), (3, 0, v15), (0, 67, 0), (1, 6, x1)]) E dX65_isSound_202 (by rw [hN]; decide) rfl ?_
    refine r_aload_n E dX65_isSound_204 rfl 2 rfl ?_
    refine r_get E zc_67 zt_6604 dX65_isSound_205 q1719 zr_67 (zg_6604 _) (by decide) (fun v20 => ?_)
    refine r_if_ne E 229 (by decide) dX65_isSound_208 (fun _ => ?_) (fun _ => ?_)
    · refine r_pick E [2, 3] rfl ?_
      exact w_fX65_isSound_J229 E hN hT x1
    · refine r_iload E dX65_isSound_211 0 rfl ?_
      refine r_aload_n E dX65_isSound_213 rfl 2 rfl ?_
      refine r_iload_n E dX65_isSound_214 rfl 1 rfl ?_
      refine r_callV E [(0, v15)] [(0, v19)] rfl zc_67 zr_67 (fun o _ => ⟨_, zw_X65.1 o, rfl⟩) (lw_V q3056 q3058 qs75 q292 q3059) dX65_isSound_215 zy_X65_checkTo rfl (by omega) (by decide) (Nat.le_of_ble_eq_true rfl) (by decide) (fun l G => k_fX65_checkTo l G v15) (fun v21 => ?_)
      refine r_icmp_eq E 229 (by decide) dX65_isSound_218 (fun _ => ?_) (fun _ => ?_)
      · refine r_pick E [2, 3] rfl ?_
        exact w_fX65_isSound_J229 E hN hT x1
      · refine r_aload_n E dX65_isSound_221 rfl 2 rfl ?_
        refine r_bipush E dX65_isSound_222 (by decide) (zkI (by decide) (by decide)) ?_
        refine r_iload_n E dX65_isSound_224 rfl 1 rfl ?_
        refine r_callV E [(0, 7), (0, v15)] [] rfl zc_67 zr_67 (fun o _ => ⟨_, zw_X65.1 o, rfl⟩) (lw_V q3092 q3094 qs78 q292 q3095) dX65_isSound_225 zy_X65_wrong rfl (by omega) (by decide) (Nat.le_of_ble_eq_true rfl) (by decide) (fun l G => k_fX65_wrong l G 7 v15) (fun v22 => ?_)
        refine r_pop E (zn1 rfl) dX65_isSound_228 ?_
        refine r_pick E [2, 3] rfl ?_
        exact w_fX65_isSound_J229 E hN hT x1
theorem w_fX65_isSound_J170 {K : zK} (E : zE K cX65_isSound "RingHouse$Tape" (some .boolean) 6) (hN : zNl K = 5) (hT : zTr K = (some 0)) (x1 : Int) (s0 : Int) {r94 : Int → zX} (hr94 : ∀ s : Int, zR K 94 [(0, 67, 0), (1, 6, x1), (2, 0, s)] [] (r94 s)) : zR K 170 [(0, 67, 0), (1, 6, x1)] [(0, s0)] (fX65_isSound_J170 r94 x1 s0) := by
  refine r_istore_n (ls' := [(2, 0, s0), (0, 67, 0), (1, 6, x1)]) E dX65_isSound_170 rfl (by rw [hN]; decide) rfl ?_
  refine r_goto E 94 (by decide) dX65_isSound_171 ?_
  refine r_pick E [1, 2, 0] rfl ?_
  exact hr94 s0
theorem w_fX65_isSound_J169 {K : zK} (E : zE K cX65_isSound "RingHouse$Tape" (some .boolean) 6) (hN : zNl K = 5) (hT : zTr K = (some 0)) (x1 : Int) {r94 : Int → zX} (hr94 : ∀ s : Int, zR K 94 [(0, 67, 0), (1, 6, x1), (2, 0, s)] [] (r94 s)) : zR K 169 [(0, 67, 0), (1, 6, x1)] [] (fX65_isSound_J169 r94 x1) := by
  refine r_iconst E dX65_isSound_169 (zkI (by decide) (by decide)) ?_
  exact w_fX65_isSound_J170 E hN hT x1 0 hr94
theorem w_fX65_isSound_J146 {K : zK} (E : zE K cX65_isSound "RingHouse$Tape" (some .boolean) 6) (hN : zNl K = 5) (hT : zTr K = (some 0)) (x1 : Int) (x3 : Int) {r94 : Int → zX} (hr94 : ∀ s : Int, zR K 94 [(0, 67, 0), (1, 6, x1), (2, 0, s)] [] (r94 s)) : zR K 146 [(0, 67, 0), (1, 6, x1), (3, 0, x3)] [] (fX65_isSound_J146 r94 x1 x3) := by
  refine r_aload_n E dX65_isSound_146 rfl 0 rfl ?_
  refine r_iload_n E dX65_isSound_147 rfl 2 rfl ?_
  refine r_callV E [(0, x3)] [] rfl zc_67 zr_67 (fun o _ => ⟨_, zw_X65.1 o, rfl⟩) (lw_V q3096 q3098 qs79 q292 q3099) dX65_isSound_148 zy_X65_lookNode rfl (by omega) (by decide) (Nat.le_of_ble_eq_true rfl) (by decide) (fun l G => k_fX65_lookNode l G x3) (fun _ => ?_)
  refine r_aload_n E dX65_isSound_151 rfl 0 rfl ?_
  refine r_get E zc_67 zt_6604 dX65_isSound_152 q1719 zr_67 (zg_6604 _) (by decide) (fun v28 => ?_)
  refine r_if_ne E 169 (by decide) dX65_isSound_155 (fun _ => ?_) (fun _ => ?_)
  · refine r_pick E [0, 1] rfl ?_
    exact w_fX65_isSound_J169 E hN hT x1 hr94
  · refine r_aload_n E dX65_isSound_158 rfl 0 rfl ?_
    refine r_get E zc_67 zt_6612 dX65_isSound_159 q1728 zr_67 (zg_6612 _) (by decide) (fun v29 => ?_)
    refine r_if_le E 169 (by decide) dX65_isSound_162 (fun _ => ?_) (fun _ => ?_)
    · refine r_pick E [0, 1] rfl ?_
      exact w_fX65_isSound_J169 E hN hT x1 hr94
    · refine r_iconst E dX65_isSound_165 (zkI (by decide) (by decide)) ?_
      refine r_goto E 170 (by decide) dX65_isSound_166 ?_
      refine r_pick E [0, 1] rfl ?_
      exact w_fX65_isSound_J170 E hN hT x1 1 hr94
theorem w_fX65_isSound_J123 {K : zK} (E : zE K cX65_isSound "RingHouse$Tape" (some .boolean) 6) (hN : zNl K = 5) (hT : zTr K = (some 0)) (x1 : Int) (s0 : Int) {r94 : Int → zX} (hr94 : ∀ s : Int, zR K 94 [(0, 67, 0), (1, 6, x1), (2, 0, s)] [] (r94 s)) : zR K 123 [(0, 67, 0), (1, 6, x1)] [(0, s0)] (fX65_isSound_J123 r94 x1 s0) := by
  refine r_istore_n (ls' := [(3, 0, s0), (0, 67, 0), (1, 6, x1)]) E dX65_isSound_123 rfl (by rw [hN]; decide) rfl ?_
  refine r_aload_n E dX65_isSound_124 rfl 1 rfl ?_
  refine r_get E zc_67 zt_6612 dX65_isSound_125 q1728 zr_67 (zg_6612 _) (by decide) (fun v26 => ?_)
  refine r_if_le E 146 (by decide) dX65_isSound_128 (fun _ => ?_) (fun _ => ?_)
  · refine r_pick E [1, 2, 0] rfl ?_
    exact w_fX65_isSound_J146 E hN hT x1 s0 hr94
  · refine r_aload_n E dX65_isSound_131 rfl 1 rfl ?_
    refine r_gec (y := 0) E zc_67 dX65_isSound_132 q1722 zr_67 (zh_6606 (by decide)) (by decide) ?_
    refine r_aload_n E dX65_isSound_135 rfl 1 rfl ?_
    refine r_get E zc_67 zt_6612 dX65_isSound_136 q1728 zr_67 (zg_6612 _) (by decide) (fun v30 => ?_)
    refine r_iconst E dX65_isSound_139 (zkI (by decide) (by decide)) ?_
    refine r_isub E dX65_isSound_140 ?_
    refine r_dup22 E (zn1 rfl) (zn1 rfl) dX65_isSound_141 ?_
    refine r_iaload E zc_6606 za_6606 zt_6606 zx_6606 rfl rfl dX65_isSound_142 (by decide) (fun v31 => ?_)
    refine r_iconst E dX65_isSound_143 (zkI (by decide) (by decide)) ?_
    refine r_isub E dX65_isSound_144 ?_
    refine r_iastore E zc_6606 za_6606 zt_6606 zo_6606 zx_6606 rfl rfl dX65_isSound_145 (by decide) ?_
    refine r_pick E [1, 2, 0] rfl ?_
    exact w_fX65_isSound_J146 E hN hT x1 s0 hr94
theorem w_fX65_isSound_B94 {K : zK} (E : zE K cX65_isSound "RingHouse$Tape" (some .boolean) 6) (hN : zNl K = 5) (hT : zTr K = (some 0)) (x1 : Int) : ∀ r94 : Int → zX, (∀ s : Int, zR K 94 [(0, 67, 0), (1, 6, x1), (2, 0, s)] [] (r94 s)) → ∀ s : Int, zR K 94 [(0, 67, 0), (1, 6, x1), (2, 0, s)] [] (fX65_isSound_B94 x1 r94 s) := by
  intro r94 hr94 x2
  refine r_iload_n E dX65_isSound_94 rfl 2 rfl ?_
  refine r_if_eq E 174 (by decide) dX65_isSound_95 (fun _ => ?_) (fun _ => ?_)
  · refine r_pick E [0, 1] rfl ?_
    exact w_fX65_isSound_J174 E hN hT x1
  · refine r_aload_n E dX65_isSound_98 rfl 0 rfl ?_
    refine r_get E zc_67 zt_6612 dX65_isSound_99 q1728 zr_67 (zg_6612 _) (by decide) (fun v23 => ?_)
    refine r_if_ne E 112 (by decide) dX65_isSound_102 (fun _ => ?_) (fun _ => ?_)
    · refine r_aload_n E dX65_isSound_112 rfl 0 rfl ?_
      refine r_gec (y := 0) E zc_67 dX65_isSound_113 q1723 zr_67 (zh_6607 (by decide)) (by decide) ?_
      refine r_aload_n E dX65_isSound_116 rfl 0 rfl ?_
      refine r_get E zc_67 zt_6612 dX65_isSound_117 q1728 zr_67 (zg_6612 _) (by decide) (fun v24 => ?_)
      refine r_iconst E dX65_isSound_120 (zkI (by decide) (by decide)) ?_
      refine r_isub E dX65_isSound_121 ?_
      refine r_iaload E zc_6607 za_6607 zt_6607 zx_6607 rfl rfl dX65_isSound_122 (by decide) (fun v25 => ?_)
      refine r_pick E [0, 1] rfl ?_
      exact w_fX65_isSound_J123 E hN hT x1 v25 hr94
    · refine r_aload_n E dX65_isSound_105 rfl 1 rfl ?_
      refine r_nn E (fun hn32 => ?_)
      refine r_getN E zc_6 zt_503 dX65_isSound_106 q391 zr_6 (zg_503 _) hn32 (fun v33 => ?_)
      refine r_goto E 123 (by decide) dX65_isSound_109 ?_
      refine r_pick E [0, 1] rfl ?_
      exact w_fX65_isSound_J123 E hN hT x1 v33 hr94
theorem w_fX65_isSound_J93 {K : zK} (E : zE K cX65_isSound "RingHouse$Tape" (some .boolean) 6) (hN : zNl K = 5) (hT : zTr K = (some 0)) (x1 : Int) (s0 : Int) : zR K 93 [(0, 67, 0), (1, 6, x1)] [(0, s0)] (fX65_isSound_J93 x1 s0) := by
  refine r_istore_n (ls' := [(2, 0, s0), (0, 67, 0), (1, 6, x1)]) E dX65_isSound_93 rfl (by rw [hN]; decide) rfl ?_
  refine r_pick E [1, 2, 0] rfl ?_
  exact r_loop (L := fun s => [(0, 67, 0), (1, 6, x1), (2, 0, s)]) (w_fX65_isSound_B94 E hN hT x1) zBIG s0
theorem w_fX65_isSound_J81 {K : zK} (E : zE K cX65_isSound "RingHouse$Tape" (some .boolean) 6) (hN : zNl K = 5) (hT : zTr K = (some 0)) (x1 : Int) : zR K 81 [(0, 67, 0), (1, 6, x1)] [] (fX65_isSound_J81 x1) := by
  refine r_aload_n E dX65_isSound_81 rfl 0 rfl ?_
  refine r_get E zc_67 zt_6604 dX65_isSound_82 q1719 zr_67 (zg_6604 _) (by decide) (fun v1 => ?_)
  refine r_if_ne E 92 (by decide) dX65_isSound_85 (fun _ => ?_) (fun _ => ?_)
  · refine r_iconst E dX65_isSound_92 (zkI (by decide) (by decide)) ?_
    exact w_fX65_isSound_J93 E hN hT x1 0
  · refine r_iconst E dX65_isSound_88 (zkI (by decide) (by decide)) ?_
    refine r_goto E 93 (by decide) dX65_isSound_89 ?_
    exact w_fX65_isSound_J93 E hN hT x1 1
theorem w_fX65_isSound_J75 {K : zK} (E : zE K cX65_isSound "RingHouse$Tape" (some .boolean) 6) (hN : zNl K = 5) (hT : zTr K = (some 0)) (x1 : Int) (x2 : Int) {r32 : Int → zX} (hr32 : ∀ s : Int, zR K 32 [(0, 67, 0), (1, 6, x1), (2, 0, s)] [] (r32 s)) : zR K 75 [(0, 67, 0), (1, 6, x1), (2, 0, x2)] [] (fX65_isSound_J75 r32 x1 x2) := by
  refine r_iinc (ls' := fun v37 => [(2, 0, v37), (0, 67, 0), (1, 6, x1)]) E 2 rfl (by rw [hN]; decide) (fun _ => rfl) dX65_isSound_75 (fun v37 _ => ?_)
  refine r_goto E 32 (by decide) dX65_isSound_78 ?_
  refine r_pick E [1, 2, 0] rfl ?_
  exact hr32 v37
theorem w_fX65_isSound_B32 {K : zK} (E : zE K cX65_isSound "RingHouse$Tape" (some .boolean) 6) (hN : zNl K = 5) (hT : zTr K = (some 0)) (x1 : Int) : ∀ r32 : Int → zX, (∀ s : Int, zR K 32 [(0, 67, 0), (1, 6, x1), (2, 0, s)] [] (r32 s)) → ∀ s : Int, zR K 32 [(0, 67, 0), (1, 6, x1), (2, 0, s)] [] (fX65_isSound_B32 x1 r32 s) := by
  intro r32 hr32 x2
  refine r_iload_n E dX65_isSound_32 rfl 2 rfl ?_
  refine r_headN E dX65_isSound_33 q3086 ?_
  refine r_headlen E dX65_isSound_36 ?_
  refine r_icmp_ge E 81 (by decide) dX65_isSound_37 (fun _ => ?_) (fun _ => ?_)
  · refine r_pick E [0, 1] rfl ?_
    exact w_fX65_isSound_J81 E hN hT x1
  · refine r_aload_n E dX65_isSound_40 rfl 0 rfl ?_
    refine r_get E zc_67 zt_6604 dX65_isSound_41 q1719 zr_67 (zg_6604 _) (by decide) (fun v34 => ?_)
    refine r_if_ne E 81 (by decide) dX65_isSound_44 (fun _ => ?_) (fun _ => ?_)
    · refine r_pick E [0, 1] rfl ?_
      exact w_fX65_isSound_J81 E hN hT x1
    · refine r_aload_n E dX65_isSound_47 rfl 0 rfl ?_
      refine r_callV E [] [] rfl zc_67 zr_67 (fun o _ => ⟨_, zw_X65.1 o, rfl⟩) (lw_V q3088 q3090 qs77 q292 q3091) dX65_isSound_48 zy_X65_take rfl (by omega) (by decide) (Nat.le_of_ble_eq_true rfl) (by decide) (fun l G => k_fX65_take l G) (fun v35 => ?_)
      refine r_istore_n (ls' := [(3, 0, v35), (0, 67, 0), (1, 6, x1), (2, 0, x2)]) E dX65_isSound_51 rfl (by rw [hN]; decide) rfl ?_
      refine r_aload_n E dX65_isSound_52 rfl 1 rfl ?_
      refine r_get E zc_67 zt_6604 dX65_isSound_53 q1719 zr_67 (zg_6604 _) (by decide) (fun v36 => ?_)
      refine r_if_ne E 75 (by decide) dX65_isSound_56 (fun _ => ?_) (fun _ => ?_)
      · refine r_pick E [1, 2, 3] rfl ?_
        exact w_fX65_isSound_J75 E hN hT x1 x2 hr32
      · refine r_iload_n E dX65_isSound_59 rfl 0 rfl ?_
        refine r_headN E dX65_isSound_60 q3086 ?_
        refine r_iload_n E dX65_isSound_63 rfl 3 rfl ?_
        refine r_headld E dX65_isSound_64 (fun v38 => ?_)
        refine r_icmp_eq E 75 (by decide) dX65_isSound_65 (fun _ => ?_) (fun _ => ?_)
        · refine r_pick E [1, 2, 3] rfl ?_
          exact w_fX65_isSound_J75 E hN hT x1 x2 hr32
        · refine r_aload_n E dX65_isSound_68 rfl 1 rfl ?_
          refine r_iconst E dX65_isSound_69 (zkI (by decide) (by decide)) ?_
          refine r_iload_n E dX65_isSound_70 rfl 3 rfl ?_
          refine r_callV E [(0, 2), (0, x2)] [] rfl zc_67 zr_67 (fun o _ => ⟨_, zw_X65.1 o, rfl⟩) (lw_V q3092 q3094 qs78 q292 q3095) dX65_isSound_71 zy_X65_wrong rfl (by omega) (by decide) (Nat.le_of_ble_eq_true rfl) (by decide) (fun l G => k_fX65_wrong l G 2 x2) (fun v39 => ?_)
          refine r_pop E (zn1 rfl) dX65_isSound_74 ?_
          refine r_pick E [1, 2, 3] rfl ?_
          exact w_fX65_isSound_J75 E hN hT x1 x2 hr32
theorem w_fX65_isSound {K : zK} (E : zE K cX65_isSound "RingHouse$Tape" (some .boolean) 6) (hN : zNl K = 5) (hT : zTr K = (some 0)) (x1 : Int) : zR K 0 [(0, 67, 0), (1, 6, x1)] [] (fX65_isSound x1) := by
  refine r_aload_n E dX65_isSound_0 rfl 0 rfl ?_
  refine r_iconst E dX65_isSound_1 (zkI (by decide) (by decide)) ?_
  refine r_put E zc_67 zt_6604 zo_6604 dX65_isSound_2 q1719 zr_67 zw_X65 zp_6604 (fun _ => rfl) (fun _ => rfl) (by decide) ?_
  refine r_aload_n E dX65_isSound_5 rfl 0 rfl ?_
  refine r_iconst E dX65_isSound_6 (zkI (by decide) (by decide)) ?_
  refine r_put E zc_67 zt_6605 zo_6605 dX65_isSound_7 q1720 zr_67 zw_X65 zp_6605 (fun _ => rfl) (fun _ => rfl) (by decide) ?_
  refine r_aload_n E dX65_isSound_10 rfl 0 rfl ?_
  refine r_iconst E dX65_isSound_11 (zkI (by decide) (by decide)) ?_
  refine r_put E zc_67 zt_6603 zo_6603 dX65_isSound_12 q1718 zr_67 zw_X65 zp_6603 (fun _ => rfl) (fun _ => rfl) (by decide) ?_
  refine r_aload_n E dX65_isSound_15 rfl 0 rfl ?_
  refine r_iconst E dX65_isSound_16 (zkI (by decide) (by decide)) ?_
  refine r_put E zc_67 zt_6612 zo_6612 dX65_isSound_17 q1728 zr_67 zw_X65 zp_6612 (fun _ => rfl) (fun _ => rfl) (by decide) ?_
  refine r_aload_n E dX65_isSound_20 rfl 0 rfl ?_
  refine r_iconst E dX65_isSound_21 (zkI (by decide) (by decide)) ?_
  refine r_put E zc_67 zt_6613 zo_6613 dX65_isSound_22 q1729 zr_67 zw_X65 zp_6613 (fun _ => rfl) (fun _ => rfl) (by decide) ?_
  refine r_aload_n E dX65_isSound_25 rfl 0 rfl ?_
  refine r_iconst E dX65_isSound_26 (zkI (by decide) (by decide)) ?_
  refine r_put E zc_67 zt_6614 zo_6614 dX65_isSound_27 q1730 zr_67 zw_X65 zp_6614 (znb (by decide)) (zfb (by decide)) (by decide) ?_
  refine r_iconst E dX65_isSound_30 (zkI (by decide) (by decide)) ?_
  refine r_istore_n (ls' := [(2, 0, 0), (0, 67, 0), (1, 6, x1)]) E dX65_isSound_31 rfl (by rw [hN]; decide) rfl ?_
  refine r_pick E [1, 2, 0] rfl ?_
  exact r_loop (L := fun s => [(0, 67, 0), (1, 6, x1), (2, 0, s)]) (w_fX65_isSound_B32 E hN hT x1) zBIG 0
theorem k_fX65_isSound (l : Launch) (G : zG) (x1 : Int) : zCt l G yX65_isSound cX65_isSound 5 (some .boolean) 6 [(67, 0), (6, x1)] (some 0) (fX65_isSound x1) := zCt.of (by decide) (Nat.le_of_ble_eq_true rfl) (fun K E _ _ hN hT => w_fX65_isSound E hN hT x1)
theorem dX65_skipItems_0 : decode cX65_skipItems 0 = .ok (.aload_n 0, 1) := by decide +kernel
theorem dX65_skipItems_1 : decode cX65_skipItems 1 = .ok (.invokevirtual 173, 3) := by decide +kernel
theorem dX65_skipItems_4 : decode cX65_skipItems 4 = .ok (.istore_n 1, 1) := by decide +kernel
theorem dX65_skipItems_5 : decode cX65_skipItems 5 = .ok (.aload_n 0, 1) := by decide +kernel
theorem dX65_skipItems_6 : decode cX65_skipItems 6 = .ok (.dup, 1) := by decide +kernel
theorem dX65_skipItems_7 : decode cX65_skipItems 7 = .ok (.getfield 166, 3) := by decide +kernel
theorem dX65_skipItems_10 : decode cX65_skipItems 10 = .ok (.iconst 3, 1) := by decide +kernel
theorem dX65_skipItems_11 : decode cX65_skipItems 11 = .ok (.iload_n 1, 1) := by decide +kernel
theorem dX65_skipItems_12 : decode cX65_skipItems 12 = .ok (.imul, 1) := by decide +kernel
theorem dX65_skipItems_13 : decode cX65_skipItems 13 = .ok (.iadd, 1) := by decide +kernel
theorem dX65_skipItems_14 : decode cX65_skipItems 14 = .ok (.putfield 166, 3) := by decide +kernel
theorem dX65_skipItems_17 : decode cX65_skipItems 17 = .ok (.return_, 1) := by decide +kernel
theorem zy_X65_skipItems : yX65_skipItems.cls ≠ "java/lang/invoke/MethodHandle" ∧ yX65_skipItems.cls ≠ "java/lang/invoke/VarHandle" ∧ (parseMethodDescriptor yX65_skipItems.desc).map (fun d => d.parameters.length) = some 0 := by decide +kernel
theorem w_fX65_skipItems {K : zK} (E : zE K cX65_skipItems "RingHouse$Tape" none 2) (hN : zNl K = 2) (hT : zTr K = none) : zR K 0 [(0, 67, 0)] [] (fX65_skipItems) := by
  refine r_aload_n E dX65_skipItems_0 rfl 0 rfl ?_
  refine r_callV E [] [] rfl zc_67 zr_67 (fun o _ => ⟨_, zw_X65.1 o, rfl⟩) (lw_V q3088 q3090 qs77 q292 q3091) dX65_skipItems_1 zy_X65_take rfl (by omega) (by decide) (Nat.le_of_ble_eq_true rfl) (by decide) (fun l G => k_fX65_take l G) (fun v1 => ?_)
  refine r_istore_n (ls' := [(1, 0, v1), (0, 67, 0)]) E dX65_skipItems_4 rfl (by rw [hN]; decide) rfl ?_
  refine r_aload_n E dX65_skipItems_5 rfl 1 rfl ?_
  refine r_dup E (zn1 rfl) dX65_skipItems_6 ?_
  refine r_get E zc_67 zt_6603 dX65_skipItems_7 q1718 zr_67 (zg_6603 _) (by decide) (fun v2 => ?_)
  refine r_iconst E dX65_skipItems_10 (zkI (by decide) (by decide)) ?_
  refine r_iload_n E dX65_skipItems_11 rfl 0 rfl ?_
  refine r_imul E dX65_skipItems_12 ?_
  refine r_iadd E dX65_skipItems_13 ?_
  refine r_put E zc_67 zt_6603 zo_6603 dX65_skipItems_14 q1718 zr_67 zw_X65 zp_6603 (fun _ => rfl) (fun _ => rfl) (by decide) ?_
  exact r_return E rfl hT dX65_skipItems_17
theorem k_fX65_skipItems (l : Launch) (G : zG) : zCt l G yX65_skipItems cX65_skipItems 2 none 2 [(67, 0)] none (fX65_skipItems) := zCt.of (by decide) (Nat.le_of_ble_eq_true rfl) (fun K E _ _ hN hT => w_fX65_skipItems E hN hT)
theorem dX65_setItems_0 : decode cX65_setItems 0 = .ok (.aload_n 1, 1) := by decide +kernel
theorem dX65_setItems_1 : decode cX65_setItems 1 = .ok (.invokevirtual 241, 3) := by decide +kernel
theorem dX65_setItems_4 : decode cX65_setItems 4 = .ok (.iconst 0, 1) := by decide +kernel
theorem dX65_setItems_5 : decode cX65_setItems 5 = .ok (.istore_n 3, 1) := by decide +kernel
theorem dX65_setItems_6 : decode cX65_setItems 6 = .ok (.iload_n 3, 1) := by decide +kernel
theorem dX65_setItems_7 : decode cX65_setItems 7 = .ok (.aload_n 0, 1) := by decide +kernel
theorem dX65_setItems_8 : decode cX65_setItems 8 = .ok (.getfield 10, 3) := by decide +kernel
theorem dX65_setItems_11 : decode cX65_setItems 11 = .ok (.iload_n 2, 1) := by decide +kernel
theorem dX65_setItems_12 : decode cX65_setItems 12 = .ok (.baload, 1) := by decide +kernel
theorem dX65_setItems_13 : decode cX65_setItems 13 = .ok (.if_icmp .ge 50, 3) := by decide +kernel
theorem dX65_setItems_16 : decode cX65_setItems 16 = .ok (.aload_n 1, 1) := by decide +kernel
theorem dX65_setItems_17 : decode cX65_setItems 17 = .ok (.aload_n 0, 1) := by decide +kernel
theorem dX65_setItems_18 : decode cX65_setItems 18 = .ok (.getfield 10, 3) := by decide +kernel
theorem dX65_setItems_21 : decode cX65_setItems 21 = .ok (.iload_n 2, 1) := by decide +kernel
theorem dX65_setItems_22 : decode cX65_setItems 22 = .ok (.iconst 1, 1) := by decide +kernel
theorem dX65_setItems_23 : decode cX65_setItems 23 = .ok (.iadd, 1) := by decide +kernel
theorem dX65_setItems_24 : decode cX65_setItems 24 = .ok (.iconst 3, 1) := by decide +kernel
theorem dX65_setItems_25 : decode cX65_setItems 25 = .ok (.iload_n 3, 1) := by decide +kernel
theorem dX65_setItems_26 : decode cX65_setItems 26 = .ok (.imul, 1) := by decide +kernel
theorem dX65_setItems_27 : decode cX65_setItems 27 = .ok (.iadd, 1) := by decide +kernel
theorem dX65_setItems_28 : decode cX65_setItems 28 = .ok (.baload, 1) := by decide +kernel
theorem dX65_setItems_29 : decode cX65_setItems 29 = .ok (.aload_n 0, 1) := by decide +kernel
theorem dX65_setItems_30 : decode cX65_setItems 30 = .ok (.getfield 10, 3) := by decide +kernel
theorem dX65_setItems_33 : decode cX65_setItems 33 = .ok (.iload_n 2, 1) := by decide +kernel
theorem dX65_setItems_34 : decode cX65_setItems 34 = .ok (.iconst 2, 1) := by decide +kernel
theorem dX65_setItems_35 : decode cX65_setItems 35 = .ok (.iadd, 1) := by decide +kernel
theorem dX65_setItems_36 : decode cX65_setItems 36 = .ok (.iconst 3, 1) := by decide +kernel
theorem dX65_setItems_37 : decode cX65_setItems 37 = .ok (.iload_n 3, 1) := by decide +kernel
theorem dX65_setItems_38 : decode cX65_setItems 38 = .ok (.imul, 1) := by decide +kernel
theorem dX65_setItems_39 : decode cX65_setItems 39 = .ok (.iadd, 1) := by decide +kernel
theorem dX65_setItems_40 : decode cX65_setItems 40 = .ok (.baload, 1) := by decide +kernel
theorem dX65_setItems_41 : decode cX65_setItems 41 = .ok (.aload_n 0, 1) := by decide +kernel
theorem dX65_setItems_42 : decode cX65_setItems 42 = .ok (.getfield 10, 3) := by decide +kernel
theorem dX65_setItems_45 : decode cX65_setItems 45 = .ok (.iload_n 2, 1) := by decide +kernel
theorem dX65_setItems_46 : decode cX65_setItems 46 = .ok (.iconst 3, 1) := by decide +kernel
theorem dX65_setItems_47 : decode cX65_setItems 47 = .ok (.iadd, 1) := by decide +kernel
theorem dX65_setItems_48 : decode cX65_setItems 48 = .ok (.iconst 3, 1) := by decide +kernel
theorem dX65_setItems_49 : decode cX65_setItems 49 = .ok (.iload_n 3, 1) := by decide +kernel
theorem dX65_setItems_50 : decode cX65_setItems 50 = .ok (.imul, 1) := by decide +kernel
theorem dX65_setItems_51 : decode cX65_setItems 51 = .ok (.iadd, 1) := by decide +kernel
theorem dX65_setItems_52 : decode cX65_setItems 52 = .ok (.baload, 1) := by decide +kernel
theorem dX65_setItems_53 : decode cX65_setItems 53 = .ok (.invokevirtual 244, 3) := by decide +kernel
theorem dX65_setItems_56 : decode cX65_setItems 56 = .ok (.pop, 1) := by decide +kernel
theorem dX65_setItems_57 : decode cX65_setItems 57 = .ok (.iinc 3 1, 3) := by decide +kernel
theorem dX65_setItems_60 : decode cX65_setItems 60 = .ok (.goto (-54), 3) := by decide +kernel
theorem dX65_setItems_63 : decode cX65_setItems 63 = .ok (.return_, 1) := by decide +kernel
theorem zy_X65_setItems : yX65_setItems.cls ≠ "java/lang/invoke/MethodHandle" ∧ yX65_setItems.cls ≠ "java/lang/invoke/VarHandle" ∧ (parseMethodDescriptor yX65_setItems.desc).map (fun d => d.parameters.length) = some 2 := by decide +kernel
theorem w_fX65_setItems_B6 {K : zK} (E : zE K cX65_setItems "RingHouse$Tape" none 3) (hN : zNl K = 4) (hT : zTr K = none) (x1 : Int) (x2 : Int) : ∀ r6 : Int → zX, (∀ s : Int, zR K 6 [(0, 67, 0), (1, 7, x1), (2, 0, x2), (3, 0, s)] [] (r6 s)) → ∀ s : Int, zR K 6 [(0, 67, 0), (1, 7, x1), (2, 0, x2), (3, 0, s)] [] (fX65_setItems_B6 x1 x2 r6 s) := by
  intro r6 hr6 x3
  refine r_iload_n E dX65_setItems_6 rfl 3 rfl ?_
  refine r_aload_n E dX65_setItems_7 rfl 0 rfl ?_
  refine r_gec (y := 0) E zc_67 dX65_setItems_8 q1714 zr_67 (zh_6601 (by decide)) (by decide) ?_
  refine r_iload_n E dX65_setItems_11 rfl 2 rfl ?_
  refine r_baload E zc_6601 za_6601 zt_6601 zx_6601 rfl rfl dX65_setItems_12 (by decide) (fun v3 => ?_)
  refine r_icmp_ge E 63 (by decide) dX65_setItems_13 (fun _ => ?_) (fun _ => ?_)
  · exact r_return E rfl hT dX65_setItems_63
  · refine r_aload_n E dX65_setItems_16 rfl 1 rfl ?_
    refine r_aload_n E dX65_setItems_17 rfl 0 rfl ?_
    refine r_gec (y := 0) E zc_67 dX65_setItems_18 q1714 zr_67 (zh_6601 (by decide)) (by decide) ?_
    refine r_iload_n E dX65_setItems_21 rfl 2 rfl ?_
    refine r_iconst E dX65_setItems_22 (zkI (by decide) (by decide)) ?_
    refine r_iadd E dX65_setItems_23 ?_
    refine r_iconst E dX65_setItems_24 (zkI (by decide) (by decide)) ?_
    refine r_iload_n E dX65_setItems_25 rfl 3 rfl ?_
    refine r_imul E dX65_setItems_26 ?_
    refine r_iadd E dX65_setItems_27 ?_
    refine r_baload E zc_6601 za_6601 zt_6601 zx_6601 rfl rfl dX65_setItems_28 (by decide) (fun v4 => ?_)
    refine r_aload_n E dX65_setItems_29 rfl 0 rfl ?_
    refine r_gec (y := 0) E zc_67 dX65_setItems_30 q1714 zr_67 (zh_6601 (by decide)) (by decide) ?_
    refine r_iload_n E dX65_setItems_33 rfl 2 rfl ?_
    refine r_iconst E dX65_setItems_34 (zkI (by decide) (by decide)) ?_
    refine r_iadd E dX65_setItems_35 ?_
    refine r_iconst E dX65_setItems_36 (zkI (by decide) (by decide)) ?_
    refine r_iload_n E dX65_setItems_37 rfl 3 rfl ?_
    refine r_imul E dX65_setItems_38 ?_
    refine r_iadd E dX65_setItems_39 ?_
    refine r_baload E zc_6601 za_6601 zt_6601 zx_6601 rfl rfl dX65_setItems_40 (by decide) (fun v5 => ?_)
    refine r_aload_n E dX65_setItems_41 rfl 0 rfl ?_
    refine r_gec (y := 0) E zc_67 dX65_setItems_42 q1714 zr_67 (zh_6601 (by decide)) (by decide) ?_
    refine r_iload_n E dX65_setItems_45 rfl 2 rfl ?_
    refine r_iconst E dX65_setItems_46 (zkI (by decide) (by decide)) ?_
    refine r_iadd E dX65_setItems_47 ?_
    refine r_iconst E dX65_setItems_48 (zkI (by decide) (by decide)) ?_
    refine r_iload_n E dX65_setItems_49 rfl 3 rfl ?_
    refine r_imul E dX65_setItems_50 ?_
    refine r_iadd E dX65_setItems_51 ?_
    refine r_baload E zc_6601 za_6601 zt_6601 zx_6601 rfl rfl dX65_setItems_52 (by decide) (fun v6 => ?_)
    refine r_nn E (fun hn7 => ?_)
    refine r_callV E [(0, v4), (0, v5), (0, v6)] [] rfl zc_7 zr_7 (fun o _ => ⟨_, zw_X5.1 o, rfl⟩) (lw_V q3155 q571 q572 q232 q573) dX65_setItems_53 zy_X5_set rfl (by omega) (by decide) (Nat.le_of_ble_eq_true rfl) hn7 (fun l G => k_fX5_set l G x1 v4 v5 v6 hn7) (fun v8 => ?_)
    refine r_pop E (zn1 rfl) dX65_setItems_56 ?_
    refine r_iinc (ls' := fun v9 => [(3, 0, v9), (0, 67, 0), (1, 7, x1), (2, 0, x2)]) E 3 rfl (by rw [hN]; decide) (fun _ => rfl) dX65_setItems_57 (fun v9 _ => ?_)
    refine r_goto E 6 (by decide) dX65_setItems_60 ?_
    refine r_pick E [1, 2, 3, 0] rfl ?_
    exact hr6 v9
theorem w_fX65_setItems {K : zK} (E : zE K cX65_setItems "RingHouse$Tape" none 3) (hN : zNl K = 4) (hT : zTr K = none) (x1 : Int) (x2 : Int) : zR K 0 [(0, 67, 0), (1, 7, x1), (2, 0, x2)] [] (fX65_setItems x1 x2) := by
  refine r_aload_n E dX65_setItems_0 rfl 1 rfl ?_
  refine r_nn E (fun hn1 => ?_)
  refine r_callV E [] [] rfl zc_7 zr_7 (fun o _ => ⟨_, zw_X5.1 o, rfl⟩) (lw_V q3154 q562 q563 q232 q564) dX65_setItems_1 zy_X5_clear rfl (by omega) (by decide) (Nat.le_of_ble_eq_true rfl) hn1 (fun l G => k_fX5_clear l G x1 hn1) (fun _ => ?_)
  refine r_iconst E dX65_setItems_4 (zkI (by decide) (by decide)) ?_
  refine r_istore_n (ls' := [(3, 0, 0), (0, 67, 0), (1, 7, x1), (2, 0, x2)]) E dX65_setItems_5 rfl (by rw [hN]; decide) rfl ?_
  refine r_pick E [1, 2, 3, 0] rfl ?_
  exact r_loop (L := fun s => [(0, 67, 0), (1, 7, x1), (2, 0, x2), (3, 0, s)]) (w_fX65_setItems_B6 E hN hT x1 x2) zBIG 0
theorem k_fX65_setItems (l : Launch) (G : zG) (x1 : Int) (x2 : Int) : zCt l G yX65_setItems cX65_setItems 4 none 3 [(67, 0), (7, x1), (0, x2)] none (fX65_setItems x1 x2) := zCt.of (by decide) (Nat.le_of_ble_eq_true rfl) (fun K E _ _ hN hT => w_fX65_setItems E hN hT x1 x2)
theorem dX65_makeNode_0 : decode cX65_makeNode 0 = .ok (.aload_n 0, 1) := by decide +kernel
theorem dX65_makeNode_1 : decode cX65_makeNode 1 = .ok (.invokevirtual 173, 3) := by decide +kernel
theorem dX65_makeNode_4 : decode cX65_makeNode 4 = .ok (.istore 4, 2) := by decide +kernel
theorem dX65_makeNode_6 : decode cX65_makeNode 6 = .ok (.aload_n 0, 1) := by decide +kernel
theorem dX65_makeNode_7 : decode cX65_makeNode 7 = .ok (.invokevirtual 177, 3) := by decide +kernel
theorem dX65_makeNode_10 : decode cX65_makeNode 10 = .ok (.lstore 5, 2) := by decide +kernel
theorem dX65_makeNode_12 : decode cX65_makeNode 12 = .ok (.lload_n 2, 1) := by decide +kernel
theorem dX65_makeNode_13 : decode cX65_makeNode 13 = .ok (.lconst 0, 1) := by decide +kernel
theorem dX65_makeNode_14 : decode cX65_makeNode 14 = .ok (.lcmp, 1) := by decide +kernel
theorem dX65_makeNode_15 : decode cX65_makeNode 15 = .ok (.ifCond .le 7, 3) := by decide +kernel
theorem dX65_makeNode_18 : decode cX65_makeNode 18 = .ok (.lload_n 2, 1) := by decide +kernel
theorem dX65_makeNode_19 : decode cX65_makeNode 19 = .ok (.goto 5, 3) := by decide +kernel
theorem dX65_makeNode_22 : decode cX65_makeNode 22 = .ok (.lload 5, 2) := by decide +kernel
theorem dX65_makeNode_24 : decode cX65_makeNode 24 = .ok (.lstore 5, 2) := by decide +kernel
theorem dX65_makeNode_26 : decode cX65_makeNode 26 = .ok (.aload_n 0, 1) := by decide +kernel
theorem dX65_makeNode_27 : decode cX65_makeNode 27 = .ok (.invokevirtual 173, 3) := by decide +kernel
theorem dX65_makeNode_30 : decode cX65_makeNode 30 = .ok (.istore 7, 2) := by decide +kernel
theorem dX65_makeNode_32 : decode cX65_makeNode 32 = .ok (.aload_n 0, 1) := by decide +kernel
theorem dX65_makeNode_33 : decode cX65_makeNode 33 = .ok (.invokevirtual 173, 3) := by decide +kernel
theorem dX65_makeNode_36 : decode cX65_makeNode 36 = .ok (.istore 8, 2) := by decide +kernel
theorem dX65_makeNode_38 : decode cX65_makeNode 38 = .ok (.aload_n 0, 1) := by decide +kernel
theorem dX65_makeNode_39 : decode cX65_makeNode 39 = .ok (.invokevirtual 173, 3) := by decide +kernel
theorem dX65_makeNode_42 : decode cX65_makeNode 42 = .ok (.istore 9, 2) := by decide +kernel
theorem dX65_makeNode_44 : decode cX65_makeNode 44 = .ok (.aload_n 0, 1) := by decide +kernel
theorem dX65_makeNode_45 : decode cX65_makeNode 45 = .ok (.getfield 166, 3) := by decide +kernel
theorem dX65_makeNode_48 : decode cX65_makeNode 48 = .ok (.istore 10, 2) := by decide +kernel
theorem dX65_makeNode_50 : decode cX65_makeNode 50 = .ok (.aload_n 0, 1) := by decide +kernel
theorem dX65_makeNode_51 : decode cX65_makeNode 51 = .ok (.invokevirtual 248, 3) := by decide +kernel
theorem dX65_makeNode_54 : decode cX65_makeNode 54 = .ok (.iload 4, 2) := by decide +kernel
theorem dX65_makeNode_56 : decode cX65_makeNode 56 = .ok (.iconst 1, 1) := by decide +kernel
theorem dX65_makeNode_57 : decode cX65_makeNode 57 = .ok (.if_icmp .ne 107, 3) := by decide +kernel
theorem dX65_makeNode_60 : decode cX65_makeNode 60 = .ok (.aload_n 0, 1) := by decide +kernel
theorem dX65_makeNode_61 : decode cX65_makeNode 61 = .ok (.invokevirtual 173, 3) := by decide +kernel
theorem dX65_makeNode_64 : decode cX65_makeNode 64 = .ok (.istore 12, 2) := by decide +kernel
theorem dX65_makeNode_66 : decode cX65_makeNode 66 = .ok (.aload_n 0, 1) := by decide +kernel
theorem dX65_makeNode_67 : decode cX65_makeNode 67 = .ok (.invokevirtual 173, 3) := by decide +kernel
theorem dX65_makeNode_70 : decode cX65_makeNode 70 = .ok (.istore 13, 2) := by decide +kernel
theorem dX65_makeNode_72 : decode cX65_makeNode 72 = .ok (.aload_n 0, 1) := by decide +kernel
theorem dX65_makeNode_73 : decode cX65_makeNode 73 = .ok (.getfield 166, 3) := by decide +kernel
theorem dX65_makeNode_76 : decode cX65_makeNode 76 = .ok (.istore 14, 2) := by decide +kernel
theorem dX65_makeNode_78 : decode cX65_makeNode 78 = .ok (.aload_n 0, 1) := by decide +kernel
theorem dX65_makeNode_79 : decode cX65_makeNode 79 = .ok (.invokevirtual 248, 3) := by decide +kernel
theorem dX65_makeNode_82 : decode cX65_makeNode 82 = .ok (.aload_n 0, 1) := by decide +kernel
theorem dX65_makeNode_83 : decode cX65_makeNode 83 = .ok (.getfield 166, 3) := by decide +kernel
theorem dX65_makeNode_86 : decode cX65_makeNode 86 = .ok (.istore 15, 2) := by decide +kernel
theorem dX65_makeNode_88 : decode cX65_makeNode 88 = .ok (.aload_n 0, 1) := by decide +kernel
theorem dX65_makeNode_89 : decode cX65_makeNode 89 = .ok (.invokevirtual 248, 3) := by decide +kernel
theorem dX65_makeNode_92 : decode cX65_makeNode 92 = .ok (.aload_n 0, 1) := by decide +kernel
theorem dX65_makeNode_93 : decode cX65_makeNode 93 = .ok (.invokevirtual 173, 3) := by decide +kernel
theorem dX65_makeNode_96 : decode cX65_makeNode 96 = .ok (.istore 16, 2) := by decide +kernel
theorem dX65_makeNode_98 : decode cX65_makeNode 98 = .ok (.aload_n 0, 1) := by decide +kernel
theorem dX65_makeNode_99 : decode cX65_makeNode 99 = .ok (.getfield 42, 3) := by decide +kernel
theorem dX65_makeNode_102 : decode cX65_makeNode 102 = .ok (.aload_n 1, 1) := by decide +kernel
theorem dX65_makeNode_103 : decode cX65_makeNode 103 = .ok (.iconst 1, 1) := by decide +kernel
theorem dX65_makeNode_104 : decode cX65_makeNode 104 = .ok (.lload 5, 2) := by decide +kernel
theorem dX65_makeNode_106 : decode cX65_makeNode 106 = .ok (.iload 12, 2) := by decide +kernel
theorem dX65_makeNode_108 : decode cX65_makeNode 108 = .ok (.iload 13, 2) := by decide +kernel
theorem dX65_makeNode_110 : decode cX65_makeNode 110 = .ok (.invokevirtual 251, 3) := by decide +kernel
theorem dX65_makeNode_113 : decode cX65_makeNode 113 = .ok (.astore 11, 2) := by decide +kernel
theorem dX65_makeNode_115 : decode cX65_makeNode 115 = .ok (.iconst 0, 1) := by decide +kernel
theorem dX65_makeNode_116 : decode cX65_makeNode 116 = .ok (.istore 17, 2) := by decide +kernel
theorem dX65_makeNode_118 : decode cX65_makeNode 118 = .ok (.iload 17, 2) := by decide +kernel
theorem dX65_makeNode_120 : decode cX65_makeNode 120 = .ok (.iload 16, 2) := by decide +kernel
theorem dX65_makeNode_122 : decode cX65_makeNode 122 = .ok (.if_icmp .ge 17, 3) := by decide +kernel
theorem dX65_makeNode_125 : decode cX65_makeNode 125 = .ok (.aload_n 0, 1) := by decide +kernel
theorem dX65_makeNode_126 : decode cX65_makeNode 126 = .ok (.aload 11, 2) := by decide +kernel
theorem dX65_makeNode_128 : decode cX65_makeNode 128 = .ok (.lconst 0, 1) := by decide +kernel
theorem dX65_makeNode_129 : decode cX65_makeNode 129 = .ok (.invokevirtual 255, 3) := by decide +kernel
theorem dX65_makeNode_132 : decode cX65_makeNode 132 = .ok (.pop, 1) := by decide +kernel
theorem dX65_makeNode_133 : decode cX65_makeNode 133 = .ok (.iinc 17 1, 3) := by decide +kernel
theorem dX65_makeNode_136 : decode cX65_makeNode 136 = .ok (.goto (-18), 3) := by decide +kernel
theorem dX65_makeNode_139 : decode cX65_makeNode 139 = .ok (.aload_n 0, 1) := by decide +kernel
theorem dX65_makeNode_140 : decode cX65_makeNode 140 = .ok (.aload 11, 2) := by decide +kernel
theorem dX65_makeNode_142 : decode cX65_makeNode 142 = .ok (.getfield 124, 3) := by decide +kernel
theorem dX65_makeNode_145 : decode cX65_makeNode 145 = .ok (.iload 14, 2) := by decide +kernel
theorem dX65_makeNode_147 : decode cX65_makeNode 147 = .ok (.invokevirtual 259, 3) := by decide +kernel
theorem dX65_makeNode_150 : decode cX65_makeNode 150 = .ok (.aload_n 0, 1) := by decide +kernel
theorem dX65_makeNode_151 : decode cX65_makeNode 151 = .ok (.aload 11, 2) := by decide +kernel
theorem dX65_makeNode_153 : decode cX65_makeNode 153 = .ok (.getfield 127, 3) := by decide +kernel
theorem dX65_makeNode_156 : decode cX65_makeNode 156 = .ok (.iload 15, 2) := by decide +kernel
theorem dX65_makeNode_158 : decode cX65_makeNode 158 = .ok (.invokevirtual 259, 3) := by decide +kernel
theorem dX65_makeNode_161 : decode cX65_makeNode 161 = .ok (.goto 164, 3) := by decide +kernel
theorem dX65_makeNode_164 : decode cX65_makeNode 164 = .ok (.iload 4, 2) := by decide +kernel
theorem dX65_makeNode_166 : decode cX65_makeNode 166 = .ok (.iconst 3, 1) := by decide +kernel
theorem dX65_makeNode_167 : decode cX65_makeNode 167 = .ok (.if_icmp .ne 67, 3) := by decide +kernel
theorem dX65_makeNode_170 : decode cX65_makeNode 170 = .ok (.aload_n 0, 1) := by decide +kernel
theorem dX65_makeNode_171 : decode cX65_makeNode 171 = .ok (.invokevirtual 173, 3) := by decide +kernel
theorem dX65_makeNode_174 : decode cX65_makeNode 174 = .ok (.istore 12, 2) := by decide +kernel
theorem dX65_makeNode_176 : decode cX65_makeNode 176 = .ok (.aload_n 0, 1) := by decide +kernel
theorem dX65_makeNode_177 : decode cX65_makeNode 177 = .ok (.getfield 42, 3) := by decide +kernel
theorem dX65_makeNode_180 : decode cX65_makeNode 180 = .ok (.aload_n 1, 1) := by decide +kernel
theorem dX65_makeNode_181 : decode cX65_makeNode 181 = .ok (.iconst 3, 1) := by decide +kernel
theorem dX65_makeNode_182 : decode cX65_makeNode 182 = .ok (.lload 5, 2) := by decide +kernel
theorem dX65_makeNode_184 : decode cX65_makeNode 184 = .ok (.aload_n 1, 1) := by decide +kernel
theorem dX65_makeNode_185 : decode cX65_makeNode 185 = .ok (.getfield 118, 3) := by decide +kernel
theorem dX65_makeNode_188 : decode cX65_makeNode 188 = .ok (.iconst 0, 1) := by decide +kernel
theorem dX65_makeNode_189 : decode cX65_makeNode 189 = .ok (.invokevirtual 251, 3) := by decide +kernel
theorem dX65_makeNode_192 : decode cX65_makeNode 192 = .ok (.astore 11, 2) := by decide +kernel
theorem dX65_makeNode_194 : decode cX65_makeNode 194 = .ok (.iconst 0, 1) := by decide +kernel
theorem dX65_makeNode_195 : decode cX65_makeNode 195 = .ok (.istore 13, 2) := by decide +kernel
theorem dX65_makeNode_197 : decode cX65_makeNode 197 = .ok (.iload 13, 2) := by decide +kernel
theorem dX65_makeNode_199 : decode cX65_makeNode 199 = .ok (.iload 12, 2) := by decide +kernel
theorem dX65_makeNode_201 : decode cX65_makeNode 201 = .ok (.if_icmp .ge 30, 3) := by decide +kernel
theorem dX65_makeNode_204 : decode cX65_makeNode 204 = .ok (.aload_n 0, 1) := by decide +kernel
theorem dX65_makeNode_205 : decode cX65_makeNode 205 = .ok (.invokevirtual 173, 3) := by decide +kernel
theorem dX65_makeNode_208 : decode cX65_makeNode 208 = .ok (.istore 14, 2) := by decide +kernel
theorem dX65_makeNode_210 : decode cX65_makeNode 210 = .ok (.aload 11, 2) := by decide +kernel
theorem dX65_makeNode_212 : decode cX65_makeNode 212 = .ok (.getfield 102, 3) := by decide +kernel
theorem dX65_makeNode_215 : decode cX65_makeNode 215 = .ok (.aload_n 0, 1) := by decide +kernel
theorem dX65_makeNode_216 : decode cX65_makeNode 216 = .ok (.invokevirtual 177, 3) := by decide +kernel
theorem dX65_makeNode_219 : decode cX65_makeNode 219 = .ok (.iload 14, 2) := by decide +kernel
theorem dX65_makeNode_221 : decode cX65_makeNode 221 = .ok (.invokevirtual 263, 3) := by decide +kernel
theorem dX65_makeNode_224 : decode cX65_makeNode 224 = .ok (.pop, 1) := by decide +kernel
theorem dX65_makeNode_225 : decode cX65_makeNode 225 = .ok (.iinc 13 1, 3) := by decide +kernel
theorem dX65_makeNode_228 : decode cX65_makeNode 228 = .ok (.goto (-31), 3) := by decide +kernel
theorem dX65_makeNode_231 : decode cX65_makeNode 231 = .ok (.goto 94, 3) := by decide +kernel
theorem dX65_makeNode_234 : decode cX65_makeNode 234 = .ok (.aload_n 0, 1) := by decide +kernel
theorem dX65_makeNode_235 : decode cX65_makeNode 235 = .ok (.invokevirtual 173, 3) := by decide +kernel
theorem dX65_makeNode_238 : decode cX65_makeNode 238 = .ok (.istore 12, 2) := by decide +kernel
theorem dX65_makeNode_240 : decode cX65_makeNode 240 = .ok (.aload_n 0, 1) := by decide +kernel
theorem dX65_makeNode_241 : decode cX65_makeNode 241 = .ok (.invokevirtual 173, 3) := by decide +kernel
theorem dX65_makeNode_244 : decode cX65_makeNode 244 = .ok (.bipush 8, 2) := by decide +kernel
theorem dX65_makeNode_246 : decode cX65_makeNode 246 = .ok (.ishl, 1) := by decide +kernel
theorem dX65_makeNode_247 : decode cX65_makeNode 247 = .ok (.istore 13, 2) := by decide +kernel
theorem dX65_makeNode_249 : decode cX65_makeNode 249 = .ok (.iload 13, 2) := by decide +kernel
theorem dX65_makeNode_251 : decode cX65_makeNode 251 = .ok (.aload_n 0, 1) := by decide +kernel
theorem dX65_makeNode_252 : decode cX65_makeNode 252 = .ok (.invokevirtual 173, 3) := by decide +kernel
theorem dX65_makeNode_255 : decode cX65_makeNode 255 = .ok (.iadd, 1) := by decide +kernel
theorem dX65_makeNode_256 : decode cX65_makeNode 256 = .ok (.istore 13, 2) := by decide +kernel
theorem dX65_makeNode_258 : decode cX65_makeNode 258 = .ok (.aload_n 0, 1) := by decide +kernel
theorem dX65_makeNode_259 : decode cX65_makeNode 259 = .ok (.getfield 42, 3) := by decide +kernel
theorem dX65_makeNode_262 : decode cX65_makeNode 262 = .ok (.aload_n 1, 1) := by decide +kernel
theorem dX65_makeNode_263 : decode cX65_makeNode 263 = .ok (.iconst 2, 1) := by decide +kernel
theorem dX65_makeNode_264 : decode cX65_makeNode 264 = .ok (.lload 5, 2) := by decide +kernel
theorem dX65_makeNode_266 : decode cX65_makeNode 266 = .ok (.aload_n 1, 1) := by decide +kernel
theorem dX65_makeNode_267 : decode cX65_makeNode 267 = .ok (.getfield 118, 3) := by decide +kernel
theorem dX65_makeNode_270 : decode cX65_makeNode 270 = .ok (.iconst 0, 1) := by decide +kernel
theorem dX65_makeNode_271 : decode cX65_makeNode 271 = .ok (.invokevirtual 251, 3) := by decide +kernel
theorem dX65_makeNode_274 : decode cX65_makeNode 274 = .ok (.astore 11, 2) := by decide +kernel
theorem dX65_makeNode_276 : decode cX65_makeNode 276 = .ok (.aload 11, 2) := by decide +kernel
theorem dX65_makeNode_278 : decode cX65_makeNode 278 = .ok (.iload 12, 2) := by decide +kernel
theorem dX65_makeNode_280 : decode cX65_makeNode 280 = .ok (.putfield 144, 3) := by decide +kernel
theorem dX65_makeNode_283 : decode cX65_makeNode 283 = .ok (.aload_n 0, 1) := by decide +kernel
theorem dX65_makeNode_284 : decode cX65_makeNode 284 = .ok (.getfield 42, 3) := by decide +kernel
theorem dX65_makeNode_287 : decode cX65_makeNode 287 = .ok (.aload 11, 2) := by decide +kernel
theorem dX65_makeNode_289 : decode cX65_makeNode 289 = .ok (.iload 13, 2) := by decide +kernel
theorem dX65_makeNode_291 : decode cX65_makeNode 291 = .ok (.invokevirtual 267, 3) := by decide +kernel
theorem dX65_makeNode_294 : decode cX65_makeNode 294 = .ok (.iconst 0, 1) := by decide +kernel
theorem dX65_makeNode_295 : decode cX65_makeNode 295 = .ok (.istore 14, 2) := by decide +kernel
theorem dX65_makeNode_297 : decode cX65_makeNode 297 = .ok (.iload 14, 2) := by decide +kernel
theorem dX65_makeNode_299 : decode cX65_makeNode 299 = .ok (.iload 13, 2) := by decide +kernel
theorem dX65_makeNode_301 : decode cX65_makeNode 301 = .ok (.if_icmp .ge 24, 3) := by decide +kernel
theorem dX65_makeNode_304 : decode cX65_makeNode 304 = .ok (.aload_n 0, 1) := by decide +kernel
theorem dX65_makeNode_305 : decode cX65_makeNode 305 = .ok (.getfield 42, 3) := by decide +kernel
theorem dX65_makeNode_308 : decode cX65_makeNode 308 = .ok (.aload 11, 2) := by decide +kernel
theorem dX65_makeNode_310 : decode cX65_makeNode 310 = .ok (.iload 14, 2) := by decide +kernel
theorem dX65_makeNode_312 : decode cX65_makeNode 312 = .ok (.aload_n 0, 1) := by decide +kernel
theorem dX65_makeNode_313 : decode cX65_makeNode 313 = .ok (.invokevirtual 177, 3) := by decide +kernel
theorem dX65_makeNode_316 : decode cX65_makeNode 316 = .ok (.invokevirtual 271, 3) := by decide +kernel
theorem dX65_makeNode_319 : decode cX65_makeNode 319 = .ok (.iinc 14 1, 3) := by decide +kernel
theorem dX65_makeNode_322 : decode cX65_makeNode 322 = .ok (.goto (-25), 3) := by decide +kernel
theorem dX65_makeNode_325 : decode cX65_makeNode 325 = .ok (.aload 11, 2) := by decide +kernel
theorem dX65_makeNode_327 : decode cX65_makeNode 327 = .ok (.iload 7, 2) := by decide +kernel
theorem dX65_makeNode_329 : decode cX65_makeNode 329 = .ok (.iload 8, 2) := by decide +kernel
theorem dX65_makeNode_331 : decode cX65_makeNode 331 = .ok (.iload 9, 2) := by decide +kernel
theorem dX65_makeNode_333 : decode cX65_makeNode 333 = .ok (.invokevirtual 274, 3) := by decide +kernel
theorem dX65_makeNode_336 : decode cX65_makeNode 336 = .ok (.aload_n 0, 1) := by decide +kernel
theorem dX65_makeNode_337 : decode cX65_makeNode 337 = .ok (.aload 11, 2) := by decide +kernel
theorem dX65_makeNode_339 : decode cX65_makeNode 339 = .ok (.getfield 90, 3) := by decide +kernel
theorem dX65_makeNode_342 : decode cX65_makeNode 342 = .ok (.iload 10, 2) := by decide +kernel
theorem dX65_makeNode_344 : decode cX65_makeNode 344 = .ok (.invokevirtual 259, 3) := by decide +kernel
theorem dX65_makeNode_347 : decode cX65_makeNode 347 = .ok (.aload 11, 2) := by decide +kernel
theorem dX65_makeNode_349 : decode cX65_makeNode 349 = .ok (.areturn, 1) := by decide +kernel
theorem zy_X65_makeNode : yX65_makeNode.cls ≠ "java/lang/invoke/MethodHandle" ∧ yX65_makeNode.cls ≠ "java/lang/invoke/VarHandle" ∧ (parseMethodDescriptor yX65_makeNode.desc).map (fun d => d.parameters.length) = some 2 := by decide +kernel
theorem w_fX65_makeNode_J325 {K : zK} {nf : Nat} (E : zE K cX65_makeNode "RingHouse$Tape" (some (.object "RingHouse$Node")) (5 + nf + 1)) (hN : zNl K = 18) (hT : zTr K = (some 6)) {sf : Int → Int → zX} (hsf : ∀ (l : Launch) (G : zG) (x1 : Int) (x2 : Int), zCt l G yX65_makeNode cX65_makeNode 18 (some (.object "RingHouse$Node")) (5 + nf) [(67, 0), (6, x1), (1, x2)] (some 6) (sf x1 x2)) (x7 : Int) (x8 : Int) (x9 : Int) (x10 : Int) (x11 : Int) : zR K 325 [(0, 67, 0), (7, 0, x7), (8, 0, x8), (9, 0, x9), (10, 0, x10), (11, 6, x11)] [] (fX65_makeNode_J325 sf x7 x8 x9 x10 x11) := by
  refine r_aload E dX65_makeNode_325 5 rfl ?_
  refine r_iload E dX65_makeNode_327 1 rfl ?_
  refine r_iload E dX65_makeNode_329 2 rfl ?_
  refine r_iload E dX65_makeNode_331 3 rfl ?_
  refine r_nn E (fun hn18 => ?_)
  refine r_callV E [(0, x7), (0, x8), (0, x9)] [] rfl zc_6 zr_6 (fun o _ => ⟨_, zw_X4.1 o, rfl⟩) (lw_V q3159 q566 q567 q231 q568) dX65_makeNode_333 zy_X4_setBrackets rfl (by omega) (by decide) (Nat.le_of_ble_eq_true rfl) hn18 (fun l G => k_fX4_setBrackets l G x11 x7 x8 x9 hn18) (fun _ => ?_)
  refine r_aload_n E dX65_makeNode_336 rfl 0 rfl ?_
  refine r_aload E dX65_makeNode_337 5 rfl ?_
  refine r_gecN (y := (3 * x11)) E zc_6 dX65_makeNode_339 q412 zr_6 (zh_508 (by omega)) hn18 ?_
  refine r_iload E dX65_makeNode_342 4 rfl ?_
  refine r_callV E [(7, (3 * x11)), (0, x10)] [] rfl zc_67 zr_67 (fun o _ => ⟨_, zw_X65.1 o, rfl⟩) (lw_V q3150 q3152 qs91 q292 q3153) dX65_makeNode_344 zy_X65_setItems rfl (by omega) (by decide) (Nat.le_of_ble_eq_true rfl) (by decide) (fun l G => k_fX65_setItems l G (3 * x11) x10) (fun _ => ?_)
  refine r_aload E dX65_makeNode_347 5 rfl ?_
  exact r_areturn E rfl hT dX65_makeNode_349
theorem w_fX65_makeNode_B297 {K : zK} {nf : Nat} (E : zE K cX65_makeNode "RingHouse$Tape" (some (.object "RingHouse$Node")) (5 + nf + 1)) (hN : zNl K = 18) (hT : zTr K = (some 6)) {sf : Int → Int → zX} (hsf : ∀ (l : Launch) (G : zG) (x1 : Int) (x2 : Int), zCt l G yX65_makeNode cX65_makeNode 18 (some (.object "RingHouse$Node")) (5 + nf) [(67, 0), (6, x1), (1, x2)] (some 6) (sf x1 x2)) (x7 : Int) (x8 : Int) (x9 : Int) (x10 : Int) (x11 : Int) (x13 : Int) : ∀ r297 : Int → zX, (∀ s : Int, zR K 297 [(0, 67, 0), (7, 0, x7), (8, 0, x8), (9, 0, x9), (10, 0, x10), (11, 6, x11), (13, 0, x13), (14, 0, s)] [] (r297 s)) → ∀ s : Int, zR K 297 [(0, 67, 0), (7, 0, x7), (8, 0, x8), (9, 0, x9), (10, 0, x10), (11, 6, x11), (13, 0, x13), (14, 0, s)] [] (fX65_makeNode_B297 sf x7 x8 x9 x10 x11 x13 r297 s) := by
  intro r297 hr297 x14
  refine r_iload E dX65_makeNode_297 7 rfl ?_
  refine r_iload E dX65_makeNode_299 6 rfl ?_
  refine r_icmp_ge E 325 (by decide) dX65_makeNode_301 (fun _ => ?_) (fun _ => ?_)
  · refine r_pick E [0, 1, 2, 3, 4, 5] rfl ?_
    exact w_fX65_makeNode_J325 E hN hT hsf x7 x8 x9 x10 x11
  · refine r_aload_n E dX65_makeNode_304 rfl 0 rfl ?_
    refine r_gec (y := 0) E zc_67 dX65_makeNode_305 q1713 zr_67 (zh_6600 (by decide)) (by decide) ?_
    refine r_aload E dX65_makeNode_308 5 rfl ?_
    refine r_iload E dX65_makeNode_310 7 rfl ?_
    refine r_aload_n E dX65_makeNode_312 rfl 0 rfl ?_
    refine r_callV E [] [(0, x14), (6, x11), (3, 0)] rfl zc_67 zr_67 (fun o _ => ⟨_, zw_X65.1 o, rfl⟩) (lw_V q3108 q3110 qs82 q292 q3111) dX65_makeNode_313 zy_X65_takeWord rfl (by omega) (by decide) (Nat.le_of_ble_eq_true rfl) (by decide) (fun l G => k_fX65_takeWord l G) (fun v21 => ?_)
    refine r_callV E [(6, x11), (0, x14), (1, v21)] [] rfl zc_3 zr_3 (fun o _ => ⟨_, zw_X1.1 o, rfl⟩) (lw_V q3158 q2098 q2099 q228 q2100) dX65_makeNode_316 zy_X1_put rfl (by omega) (by decide) (Nat.le_of_ble_eq_true rfl) (by decide) (fun l G => k_fX1_put l G x11 x14 v21) (fun _ => ?_)
    refine r_iinc (ls' := fun v23 => [(14, 0, v23), (0, 67, 0), (7, 0, x7), (8, 0, x8), (9, 0, x9), (10, 0, x10), (11, 6, x11), (13, 0, x13)]) E 7 rfl (by rw [hN]; decide) (fun _ => rfl) dX65_makeNode_319 (fun v23 _ => ?_)
    refine r_goto E 297 (by decide) dX65_makeNode_322 ?_
    refine r_pick E [1, 2, 3, 4, 5, 6, 7, 0] rfl ?_
    exact hr297 v23
theorem w_fX65_makeNode_B197 {K : zK} {nf : Nat} (E : zE K cX65_makeNode "RingHouse$Tape" (some (.object "RingHouse$Node")) (5 + nf + 1)) (hN : zNl K = 18) (hT : zTr K = (some 6)) {sf : Int → Int → zX} (hsf : ∀ (l : Launch) (G : zG) (x1 : Int) (x2 : Int), zCt l G yX65_makeNode cX65_makeNode 18 (some (.object "RingHouse$Node")) (5 + nf) [(67, 0), (6, x1), (1, x2)] (some 6) (sf x1 x2)) (x7 : Int) (x8 : Int) (x9 : Int) (x10 : Int) (x11 : Int) (x12 : Int) : ∀ r197 : Int → zX, (∀ s : Int, zR K 197 [(0, 67, 0), (7, 0, x7), (8, 0, x8), (9, 0, x9), (10, 0, x10), (11, 6, x11), (12, 0, x12), (13, 0, s)] [] (r197 s)) → ∀ s : Int, zR K 197 [(0, 67, 0), (7, 0, x7), (8, 0, x8), (9, 0, x9), (10, 0, x10), (11, 6, x11), (12, 0, x12), (13, 0, s)] [] (fX65_makeNode_B197 sf x7 x8 x9 x10 x11 x12 r197 s) := by
  intro r197 hr197 x13
  refine r_iload E dX65_makeNode_197 7 rfl ?_
  refine r_iload E dX65_makeNode_199 6 rfl ?_
  refine r_icmp_ge E 231 (by decide) dX65_makeNode_201 (fun _ => ?_) (fun _ => ?_)
  · refine r_goto E 325 (by decide) dX65_makeNode_231 ?_
    refine r_pick E [0, 1, 2, 3, 4, 5] rfl ?_
    exact w_fX65_makeNode_J325 E hN hT hsf x7 x8 x9 x10 x11
  · refine r_aload_n E dX65_makeNode_204 rfl 0 rfl ?_
    refine r_callV E [] [] rfl zc_67 zr_67 (fun o _ => ⟨_, zw_X65.1 o, rfl⟩) (lw_V q3088 q3090 qs77 q292 q3091) dX65_makeNode_205 zy_X65_take rfl (by omega) (by decide) (Nat.le_of_ble_eq_true rfl) (by decide) (fun l G => k_fX65_take l G) (fun v28 => ?_)
    refine r_istore (ls' := [(14, 0, v28), (0, 67, 0), (7, 0, x7), (8, 0, x8), (9, 0, x9), (10, 0, x10), (11, 6, x11), (12, 0, x12), (13, 0, x13)]) E dX65_makeNode_208 (by rw [hN]; decide) rfl ?_
    refine r_aload E dX65_makeNode_210 6 rfl ?_
    refine r_nn E (fun hn29 => ?_)
    refine r_getN E zc_6 zt_520 dX65_makeNode_212 q466 zr_6 (zg_520 _) hn29 (fun v30 => ?_)
    refine r_aload_n E dX65_makeNode_215 rfl 1 rfl ?_
    refine r_callV E [] [(8, v30)] rfl zc_67 zr_67 (fun o _ => ⟨_, zw_X65.1 o, rfl⟩) (lw_V q3108 q3110 qs82 q292 q3111) dX65_makeNode_216 zy_X65_takeWord rfl (by omega) (by decide) (Nat.le_of_ble_eq_true rfl) (by decide) (fun l G => k_fX65_takeWord l G) (fun v31 => ?_)
    refine r_iload E dX65_makeNode_219 0 rfl ?_
    refine r_nn E (fun hn32 => ?_)
    refine r_callV E [(1, v31), (0, v28)] [] rfl zc_8 zr_8 (fun o _ => ⟨_, zw_X6.1 o, rfl⟩) (lw_V q3156 q2571 q2572 q233 q2573) dX65_makeNode_221 zy_X6_post rfl (by omega) (by decide) (Nat.le_of_ble_eq_true rfl) hn32 (fun l G => k_fX6_post l G v30 v31 v28 hn32) (fun v33 => ?_)
    refine r_pop E (zn1 rfl) dX65_makeNode_224 ?_
    refine r_iinc (ls' := fun v34 => [(13, 0, v34), (14, 0, v28), (0, 67, 0), (7, 0, x7), (8, 0, x8), (9, 0, x9), (10, 0, x10), (11, 6, x11), (12, 0, x12)]) E 8 rfl (by rw [hN]; decide) (fun _ => rfl) dX65_makeNode_225 (fun v34 _ => ?_)
    refine r_goto E 197 (by decide) dX65_makeNode_228 ?_
    refine r_pick E [2, 3, 4, 5, 6, 7, 8, 0] rfl ?_
    exact hr197 v34
theorem w_fX65_makeNode_J139 {K : zK} {nf : Nat} (E : zE K cX65_makeNode "RingHouse$Tape" (some (.object "RingHouse$Node")) (5 + nf + 1)) (hN : zNl K = 18) (hT : zTr K = (some 6)) {sf : Int → Int → zX} (hsf : ∀ (l : Launch) (G : zG) (x1 : Int) (x2 : Int), zCt l G yX65_makeNode cX65_makeNode 18 (some (.object "RingHouse$Node")) (5 + nf) [(67, 0), (6, x1), (1, x2)] (some 6) (sf x1 x2)) (x7 : Int) (x8 : Int) (x9 : Int) (x10 : Int) (x11 : Int) (x14 : Int) (x15 : Int) : zR K 139 [(0, 67, 0), (7, 0, x7), (8, 0, x8), (9, 0, x9), (10, 0, x10), (11, 6, x11), (14, 0, x14), (15, 0, x15)] [] (fX65_makeNode_J139 sf x7 x8 x9 x10 x11 x14 x15) := by
  refine r_aload_n E dX65_makeNode_139 rfl 0 rfl ?_
  refine r_aload E dX65_makeNode_140 5 rfl ?_
  refine r_nn E (fun hn43 => ?_)
  refine r_gecN (y := (3 * x11 + 1)) E zc_6 dX65_makeNode_142 q460 zr_6 (zh_518 (by omega)) hn43 ?_
  refine r_iload E dX65_makeNode_145 6 rfl ?_
  refine r_callV E [(7, (3 * x11 + 1)), (0, x14)] [] rfl zc_67 zr_67 (fun o _ => ⟨_, zw_X65.1 o, rfl⟩) (lw_V q3150 q3152 qs91 q292 q3153) dX65_makeNode_147 zy_X65_setItems rfl (by omega) (by decide) (Nat.le_of_ble_eq_true rfl) (by decide) (fun l G => k_fX65_setItems l G (3 * x11 + 1) x14) (fun _ => ?_)
  refine r_aload_n E dX65_makeNode_150 rfl 0 rfl ?_
  refine r_aload E dX65_makeNode_151 5 rfl ?_
  refine r_gecN (y := (3 * x11 + 2)) E zc_6 dX65_makeNode_153 q463 zr_6 (zh_519 (by omega)) hn43 ?_
  refine r_iload E dX65_makeNode_156 7 rfl ?_
  refine r_callV E [(7, (3 * x11 + 2)), (0, x15)] [] rfl zc_67 zr_67 (fun o _ => ⟨_, zw_X65.1 o, rfl⟩) (lw_V q3150 q3152 qs91 q292 q3153) dX65_makeNode_158 zy_X65_setItems rfl (by omega) (by decide) (Nat.le_of_ble_eq_true rfl) (by decide) (fun l G => k_fX65_setItems l G (3 * x11 + 2) x15) (fun _ => ?_)
  refine r_goto E 325 (by decide) dX65_makeNode_161 ?_
  refine r_pick E [0, 1, 2, 3, 4, 5] rfl ?_
  exact w_fX65_makeNode_J325 E hN hT hsf x7 x8 x9 x10 x11
theorem w_fX65_makeNode_B118 {K : zK} {nf : Nat} (E : zE K cX65_makeNode "RingHouse$Tape" (some (.object "RingHouse$Node")) (5 + nf + 1)) (hN : zNl K = 18) (hT : zTr K = (some 6)) {sf : Int → Int → zX} (hsf : ∀ (l : Launch) (G : zG) (x1 : Int) (x2 : Int), zCt l G yX65_makeNode cX65_makeNode 18 (some (.object "RingHouse$Node")) (5 + nf) [(67, 0), (6, x1), (1, x2)] (some 6) (sf x1 x2)) (x7 : Int) (x8 : Int) (x9 : Int) (x10 : Int) (x11 : Int) (x14 : Int) (x15 : Int) (x16 : Int) : ∀ r118 : Int → zX, (∀ s : Int, zR K 118 [(0, 67, 0), (7, 0, x7), (8, 0, x8), (9, 0, x9), (10, 0, x10), (11, 6, x11), (14, 0, x14), (15, 0, x15), (16, 0, x16), (17, 0, s)] [] (r118 s)) → ∀ s : Int, zR K 118 [(0, 67, 0), (7, 0, x7), (8, 0, x8), (9, 0, x9), (10, 0, x10), (11, 6, x11), (14, 0, x14), (15, 0, x15), (16, 0, x16), (17, 0, s)] [] (fX65_makeNode_B118 sf x7 x8 x9 x10 x11 x14 x15 x16 r118 s) := by
  intro r118 hr118 x17
  refine r_iload E dX65_makeNode_118 9 rfl ?_
  refine r_iload E dX65_makeNode_120 8 rfl ?_
  refine r_icmp_ge E 139 (by decide) dX65_makeNode_122 (fun _ => ?_) (fun _ => ?_)
  · refine r_pick E [0, 1, 2, 3, 4, 5, 6, 7] rfl ?_
    exact w_fX65_makeNode_J139 E hN hT hsf x7 x8 x9 x10 x11 x14 x15
  · refine r_aload_n E dX65_makeNode_125 rfl 0 rfl ?_
    refine r_aload E dX65_makeNode_126 5 rfl ?_
    refine r_lconst (v := 0) E dX65_makeNode_128 (by decide) (zkJ (by decide) (by decide)) ?_
    refine r_callV E [(6, x11), (1, 0)] [] rfl zc_67 zr_67 (fun o _ => ⟨_, zw_X65.1 o, rfl⟩) (lw_V q3141 q3143 qs89 q292 q3144) dX65_makeNode_129 zy_X65_makeNode rfl (by omega) (by decide) (Nat.le_of_ble_eq_true rfl) (by decide) (fun l G => hsf l G x11 0) (fun v46 => ?_)
    refine r_pop E (zn1 rfl) dX65_makeNode_132 ?_
    refine r_iinc (ls' := fun v47 => [(17, 0, v47), (0, 67, 0), (7, 0, x7), (8, 0, x8), (9, 0, x9), (10, 0, x10), (11, 6, x11), (14, 0, x14), (15, 0, x15), (16, 0, x16)]) E 9 rfl (by rw [hN]; decide) (fun _ => rfl) dX65_makeNode_133 (fun v47 _ => ?_)
    refine r_goto E 118 (by decide) dX65_makeNode_136 ?_
    refine r_pick E [1, 2, 3, 4, 5, 6, 7, 8, 9, 0] rfl ?_
    exact hr118 v47
theorem w_fX65_makeNode_J24 {K : zK} {nf : Nat} (E : zE K cX65_makeNode "RingHouse$Tape" (some (.object "RingHouse$Node")) (5 + nf + 1)) (hN : zNl K = 18) (hT : zTr K = (some 6)) {sf : Int → Int → zX} (hsf : ∀ (l : Launch) (G : zG) (x1 : Int) (x2 : Int), zCt l G yX65_makeNode cX65_makeNode 18 (some (.object "RingHouse$Node")) (5 + nf) [(67, 0), (6, x1), (1, x2)] (some 6) (sf x1 x2)) (x1 : Int) (x4 : Int) (s0 : Int) : zR K 24 [(0, 67, 0), (1, 6, x1), (4, 0, x4)] [(1, s0)] (fX65_makeNode_J24 sf x1 x4 s0) := by
  refine r_lstore (ls' := [(5, 1, s0), (0, 67, 0), (1, 6, x1), (4, 0, x4)]) E dX65_makeNode_24 (by rw [hN]; decide) rfl ?_
  refine r_aload_n E dX65_makeNode_26 rfl 1 rfl ?_
  refine r_callV E [] [] rfl zc_67 zr_67 (fun o _ => ⟨_, zw_X65.1 o, rfl⟩) (lw_V q3088 q3090 qs77 q292 q3091) dX65_makeNode_27 zy_X65_take rfl (by omega) (by decide) (Nat.le_of_ble_eq_true rfl) (by decide) (fun l G => k_fX65_take l G) (fun v3 => ?_)
  refine r_istore (ls' := [(7, 0, v3), (5, 1, s0), (0, 67, 0), (1, 6, x1), (4, 0, x4)]) E dX65_makeNode_30 (by rw [hN]; decide) rfl ?_
  refine r_aload_n E dX65_makeNode_32 rfl 2 rfl ?_
  refine r_callV E [] [] rfl zc_67 zr_67 (fun o _ => ⟨_, zw_X65.1 o, rfl⟩) (lw_V q3088 q3090 qs77 q292 q3091) dX65_makeNode_33 zy_X65_take rfl (by omega) (by decide) (Nat.le_of_ble_eq_true rfl) (by decide) (fun l G => k_fX65_take l G) (fun v4 => ?_)
  refine r_istore (ls' := [(8, 0, v4), (7, 0, v3), (5, 1, s0), (0, 67, 0), (1, 6, x1), (4, 0, x4)]) E dX65_makeNode_36 (by rw [hN]; decide) rfl ?_
  refine r_aload_n E dX65_makeNode_38 rfl 3 rfl ?_
  refine r_callV E [] [] rfl zc_67 zr_67 (fun o _ => ⟨_, zw_X65.1 o, rfl⟩) (lw_V q3088 q3090 qs77 q292 q3091) dX65_makeNode_39 zy_X65_take rfl (by omega) (by decide) (Nat.le_of_ble_eq_true rfl) (by decide) (fun l G => k_fX65_take l G) (fun v5 => ?_)
  refine r_istore (ls' := [(9, 0, v5), (8, 0, v4), (7, 0, v3), (5, 1, s0), (0, 67, 0), (1, 6, x1), (4, 0, x4)]) E dX65_makeNode_42 (by rw [hN]; decide) rfl ?_
  refine r_aload_n E dX65_makeNode_44 rfl 4 rfl ?_
  refine r_get E zc_67 zt_6603 dX65_makeNode_45 q1718 zr_67 (zg_6603 _) (by decide) (fun v6 => ?_)
  refine r_istore (ls' := [(10, 0, v6), (9, 0, v5), (8, 0, v4), (7, 0, v3), (5, 1, s0), (0, 67, 0), (1, 6, x1), (4, 0, x4)]) E dX65_makeNode_48 (by rw [hN]; decide) rfl ?_
  refine r_aload_n E dX65_makeNode_50 rfl 5 rfl ?_
  refine r_callV E [] [] rfl zc_67 zr_67 (fun o _ => ⟨_, zw_X65.1 o, rfl⟩) (lw_V q3145 q3147 qs90 q292 q3148) dX65_makeNode_51 zy_X65_skipItems rfl (by omega) (by decide) (Nat.le_of_ble_eq_true rfl) (by decide) (fun l G => k_fX65_skipItems l G) (fun _ => ?_)
  refine r_iload E dX65_makeNode_54 7 rfl ?_
  refine r_iconst E dX65_makeNode_56 (zkI (by decide) (by decide)) ?_
  refine r_icmp_ne E 164 (by decide) dX65_makeNode_57 (fun _ => ?_) (fun _ => ?_)
  · refine r_iload E dX65_makeNode_164 7 rfl ?_
    refine r_iconst E dX65_makeNode_166 (zkI (by decide) (by decide)) ?_
    refine r_icmp_ne E 234 (by decide) dX65_makeNode_167 (fun _ => ?_) (fun _ => ?_)
    · refine r_aload_n E dX65_makeNode_234 rfl 5 rfl ?_
      refine r_callV E [] [] rfl zc_67 zr_67 (fun o _ => ⟨_, zw_X65.1 o, rfl⟩) (lw_V q3088 q3090 qs77 q292 q3091) dX65_makeNode_235 zy_X65_take rfl (by omega) (by decide) (Nat.le_of_ble_eq_true rfl) (by decide) (fun l G => k_fX65_take l G) (fun v8 => ?_)
      refine r_istore (ls' := [(12, 0, v8), (10, 0, v6), (9, 0, v5), (8, 0, v4), (7, 0, v3), (5, 1, s0), (0, 67, 0), (1, 6, x1), (4, 0, x4)]) E dX65_makeNode_238 (by rw [hN]; decide) rfl ?_
      refine r_aload_n E dX65_makeNode_240 rfl 6 rfl ?_
      refine r_callV E [] [] rfl zc_67 zr_67 (fun o _ => ⟨_, zw_X65.1 o, rfl⟩) (lw_V q3088 q3090 qs77 q292 q3091) dX65_makeNode_241 zy_X65_take rfl (by omega) (by decide) (Nat.le_of_ble_eq_true rfl) (by decide) (fun l G => k_fX65_take l G) (fun v9 => ?_)
      refine r_bipush E dX65_makeNode_244 (by decide) (zkI (by decide) (by decide)) ?_
      refine r_ishl (P := 256) E (by decide) dX65_makeNode_246 ?_
      refine r_let E (fun v10 ev10 => ?_)
      refine r_istore (ls' := [(13, 0, v10), (12, 0, v8), (10, 0, v6), (9, 0, v5), (8, 0, v4), (7, 0, v3), (5, 1, s0), (0, 67, 0), (1, 6, x1), (4, 0, x4)]) E dX65_makeNode_247 (by rw [hN]; decide) rfl ?_
      refine r_iload E dX65_makeNode_249 0 rfl ?_
      refine r_aload_n E dX65_makeNode_251 rfl 7 rfl ?_
      refine r_callV E [] [(0, v10)] rfl zc_67 zr_67 (fun o _ => ⟨_, zw_X65.1 o, rfl⟩) (lw_V q3088 q3090 qs77 q292 q3091) dX65_makeNode_252 zy_X65_take rfl (by omega) (by decide) (Nat.le_of_ble_eq_true rfl) (by decide) (fun l G => k_fX65_take l G) (fun v11 => ?_)
      refine r_iadd E dX65_makeNode_255 ?_
      refine r_let E (fun v12 ev12 => ?_)
      refine r_istore (ls' := [(13, 0, v12), (12, 0, v8), (10, 0, v6), (9, 0, v5), (8, 0, v4), (7, 0, v3), (5, 1, s0), (0, 67, 0), (1, 6, x1), (4, 0, x4)]) E dX65_makeNode_256 (by rw [hN]; decide) rfl ?_
      refine r_aload_n E dX65_makeNode_258 rfl 7 rfl ?_
      refine r_gec (y := 0) E zc_67 dX65_makeNode_259 q1713 zr_67 (zh_6600 (by decide)) (by decide) ?_
      refine r_aload_n E dX65_makeNode_262 rfl 8 rfl ?_
      refine r_iconst E dX65_makeNode_263 (zkI (by decide) (by decide)) ?_
      refine r_lload E dX65_makeNode_264 6 rfl ?_
      refine r_aload_n E dX65_makeNode_266 rfl 8 rfl ?_
      refine r_nn E (fun hn13 => ?_)
      refine r_getN E zc_6 zt_503 dX65_makeNode_267 q391 zr_6 (zg_503 _) hn13 (fun v14 => ?_)
      refine r_iconst E dX65_makeNode_270 (zkI (by decide) (by decide)) ?_
      refine r_callV E [(6, x1), (0, 2), (1, s0), (0, v14), (0, 0)] [] rfl zc_3 zr_3 (fun o _ => ⟨_, zw_X1.1 o, rfl⟩) (lw_V q3149 q1884 q1885 q228 q1886) dX65_makeNode_271 zy_X1_make rfl (by omega) (by decide) (Nat.le_of_ble_eq_true rfl) (by decide) (fun l G => k_fX1_make l G x1 2 s0 v14 0) (fun v15 => ?_)
      refine r_astore (ls' := [(11, 6, v15), (13, 0, v12), (12, 0, v8), (10, 0, v6), (9, 0, v5), (8, 0, v4), (7, 0, v3), (5, 1, s0), (0, 67, 0), (1, 6, x1), (4, 0, x4)]) E dX65_makeNode_274 (by rw [hN]; decide) rfl ?_
      refine r_aload E dX65_makeNode_276 0 rfl ?_
      refine r_iload E dX65_makeNode_278 2 rfl ?_
      refine r_nn E (fun hn16 => ?_)
      refine r_putN E zc_6 zt_521 zo_521 dX65_makeNode_280 q472 zr_6 zw_X4 zp_521 (fun _ => rfl) (fun _ => rfl) hn16 ?_
      refine r_aload_n E dX65_makeNode_283 rfl 8 rfl ?_
      refine r_gec (y := 0) E zc_67 dX65_makeNode_284 q1713 zr_67 (zh_6600 (by decide)) (by decide) ?_
      refine r_aload E dX65_makeNode_287 0 rfl ?_
      refine r_iload E dX65_makeNode_289 1 rfl ?_
      refine r_callV E [(6, v15), (0, v12)] [] rfl zc_3 zr_3 (fun o _ => ⟨_, zw_X1.1 o, rfl⟩) (lw_V q3157 q1946 q1947 q228 q1948) dX65_makeNode_291 zy_X1_resize rfl (by omega) (by decide) (Nat.le_of_ble_eq_true rfl) (by decide) (fun l G => k_fX1_resize l G v15 v12) (fun _ => ?_)
      refine r_iconst E dX65_makeNode_294 (zkI (by decide) (by decide)) ?_
      refine r_istore (ls' := [(14, 0, 0), (11, 6, v15), (13, 0, v12), (12, 0, v8), (10, 0, v6), (9, 0, v5), (8, 0, v4), (7, 0, v3), (5, 1, s0), (0, 67, 0), (1, 6, x1), (4, 0, x4)]) E dX65_makeNode_295 (by rw [hN]; decide) rfl ?_
      refine r_pick E [9, 7, 6, 5, 4, 1, 2, 0] rfl ?_
      exact r_loop (L := fun s => [(0, 67, 0), (7, 0, v3), (8, 0, v4), (9, 0, v5), (10, 0, v6), (11, 6, v15), (13, 0, v12), (14, 0, s)]) (w_fX65_makeNode_B297 E hN hT hsf v3 v4 v5 v6 v15 v12) zBIG 0
    · refine r_aload_n E dX65_makeNode_170 rfl 5 rfl ?_
      refine r_callV E [] [] rfl zc_67 zr_67 (fun o _ => ⟨_, zw_X65.1 o, rfl⟩) (lw_V q3088 q3090 qs77 q292 q3091) dX65_makeNode_171 zy_X65_take rfl (by omega) (by decide) (Nat.le_of_ble_eq_true rfl) (by decide) (fun l G => k_fX65_take l G) (fun v24 => ?_)
      refine r_istore (ls' := [(12, 0, v24), (10, 0, v6), (9, 0, v5), (8, 0, v4), (7, 0, v3), (5, 1, s0), (0, 67, 0), (1, 6, x1), (4, 0, x4)]) E dX65_makeNode_174 (by rw [hN]; decide) rfl ?_
      refine r_aload_n E dX65_makeNode_176 rfl 6 rfl ?_
      refine r_gec (y := 0) E zc_67 dX65_makeNode_177 q1713 zr_67 (zh_6600 (by decide)) (by decide) ?_
      refine r_aload_n E dX65_makeNode_180 rfl 7 rfl ?_
      refine r_iconst E dX65_makeNode_181 (zkI (by decide) (by decide)) ?_
      refine r_lload E dX65_makeNode_182 5 rfl ?_
      refine r_aload_n E dX65_makeNode_184 rfl 7 rfl ?_
      refine r_nn E (fun hn25 => ?_)
      refine r_getN E zc_6 zt_503 dX65_makeNode_185 q391 zr_6 (zg_503 _) hn25 (fun v26 => ?_)
      refine r_iconst E dX65_makeNode_188 (zkI (by decide) (by decide)) ?_
      refine r_callV E [(6, x1), (0, 3), (1, s0), (0, v26), (0, 0)] [] rfl zc_3 zr_3 (fun o _ => ⟨_, zw_X1.1 o, rfl⟩) (lw_V q3149 q1884 q1885 q228 q1886) dX65_makeNode_189 zy_X1_make rfl (by omega) (by decide) (Nat.le_of_ble_eq_true rfl) (by decide) (fun l G => k_fX1_make l G x1 3 s0 v26 0) (fun v27 => ?_)
      refine r_astore (ls' := [(11, 6, v27), (12, 0, v24), (10, 0, v6), (9, 0, v5), (8, 0, v4), (7, 0, v3), (5, 1, s0), (0, 67, 0), (1, 6, x1), (4, 0, x4)]) E dX65_makeNode_192 (by rw [hN]; decide) rfl ?_
      refine r_iconst E dX65_makeNode_194 (zkI (by decide) (by decide)) ?_
      refine r_istore (ls' := [(13, 0, 0), (11, 6, v27), (12, 0, v24), (10, 0, v6), (9, 0, v5), (8, 0, v4), (7, 0, v3), (5, 1, s0), (0, 67, 0), (1, 6, x1), (4, 0, x4)]) E dX65_makeNode_195 (by rw [hN]; decide) rfl ?_
      refine r_pick E [8, 6, 5, 4, 3, 1, 2, 0] rfl ?_
      exact r_loop (L := fun s => [(0, 67, 0), (7, 0, v3), (8, 0, v4), (9, 0, v5), (10, 0, v6), (11, 6, v27), (12, 0, v24), (13, 0, s)]) (w_fX65_makeNode_B197 E hN hT hsf v3 v4 v5 v6 v27 v24) zBIG 0
  · refine r_aload_n E dX65_makeNode_60 rfl 5 rfl ?_
    refine r_callV E [] [] rfl zc_67 zr_67 (fun o _ => ⟨_, zw_X65.1 o, rfl⟩) (lw_V q3088 q3090 qs77 q292 q3091) dX65_makeNode_61 zy_X65_take rfl (by omega) (by decide) (Nat.le_of_ble_eq_true rfl) (by decide) (fun l G => k_fX65_take l G) (fun v35 => ?_)
    refine r_istore (ls' := [(12, 0, v35), (10, 0, v6), (9, 0, v5), (8, 0, v4), (7, 0, v3), (5, 1, s0), (0, 67, 0), (1, 6, x1), (4, 0, x4)]) E dX65_makeNode_64 (by rw [hN]; decide) rfl ?_
    refine r_aload_n E dX65_makeNode_66 rfl 6 rfl ?_
    refine r_callV E [] [] rfl zc_67 zr_67 (fun o _ => ⟨_, zw_X65.1 o, rfl⟩) (lw_V q3088 q3090 qs77 q292 q3091) dX65_makeNode_67 zy_X65_take rfl (by omega) (by decide) (Nat.le_of_ble_eq_true rfl) (by decide) (fun l G => k_fX65_take l G) (fun v36 => ?_)
    refine r_istore (ls' := [(13, 0, v36), (12, 0, v35), (10, 0, v6), (9, 0, v5), (8, 0, v4), (7, 0, v3), (5, 1, s0), (0, 67, 0), (1, 6, x1), (4, 0, x4)]) E dX65_makeNode_70 (by rw [hN]; decide) rfl ?_
    refine r_aload_n E dX65_makeNode_72 rfl 7 rfl ?_
    refine r_get E zc_67 zt_6603 dX65_makeNode_73 q1718 zr_67 (zg_6603 _) (by decide) (fun v37 => ?_)
    refine r_istore (ls' := [(14, 0, v37), (13, 0, v36), (12, 0, v35), (10, 0, v6), (9, 0, v5), (8, 0, v4), (7, 0, v3), (5, 1, s0), (0, 67, 0), (1, 6, x1), (4, 0, x4)]) E dX65_makeNode_76 (by rw [hN]; decide) rfl ?_
    refine r_aload_n E dX65_makeNode_78 rfl 8 rfl ?_
    refine r_callV E [] [] rfl zc_67 zr_67 (fun o _ => ⟨_, zw_X65.1 o, rfl⟩) (lw_V q3145 q3147 qs90 q292 q3148) dX65_makeNode_79 zy_X65_skipItems rfl (by omega) (by decide) (Nat.le_of_ble_eq_true rfl) (by decide) (fun l G => k_fX65_skipItems l G) (fun _ => ?_)
    refine r_aload_n E dX65_makeNode_82 rfl 8 rfl ?_
    refine r_get E zc_67 zt_6603 dX65_makeNode_83 q1718 zr_67 (zg_6603 _) (by decide) (fun v39 => ?_)
    refine r_istore (ls' := [(15, 0, v39), (14, 0, v37), (13, 0, v36), (12, 0, v35), (10, 0, v6), (9, 0, v5), (8, 0, v4), (7, 0, v3), (5, 1, s0), (0, 67, 0), (1, 6, x1), (4, 0, x4)]) E dX65_makeNode_86 (by rw [hN]; decide) rfl ?_
    refine r_aload_n E dX65_makeNode_88 rfl 9 rfl ?_
    refine r_callV E [] [] rfl zc_67 zr_67 (fun o _ => ⟨_, zw_X65.1 o, rfl⟩) (lw_V q3145 q3147 qs90 q292 q3148) dX65_makeNode_89 zy_X65_skipItems rfl (by omega) (by decide) (Nat.le_of_ble_eq_true rfl) (by decide) (fun l G => k_fX65_skipItems l G) (fun _ => ?_)
    refine r_aload_n E dX65_makeNode_92 rfl 9 rfl ?_
    refine r_callV E [] [] rfl zc_67 zr_67 (fun o _ => ⟨_, zw_X65.1 o, rfl⟩) (lw_V q3088 q3090 qs77 q292 q3091) dX65_makeNode_93 zy_X65_take rfl (by omega) (by decide) (Nat.le_of_ble_eq_true rfl) (by decide) (fun l G => k_fX65_take l G) (fun v41 => ?_)
    refine r_istore (ls' := [(16, 0, v41), (15, 0, v39), (14, 0, v37), (13, 0, v36), (12, 0, v35), (10, 0, v6), (9, 0, v5), (8, 0, v4), (7, 0, v3), (5, 1, s0), (0, 67, 0), (1, 6, x1), (4, 0, x4)]) E dX65_makeNode_96 (by rw [hN]; decide) rfl ?_
    refine r_aload_n E dX65_makeNode_98 rfl 10 rfl ?_
    refine r_gec (y := 0) E zc_67 dX65_makeNode_99 q1713 zr_67 (zh_6600 (by decide)) (by decide) ?_
    refine r_aload_n E dX65_makeNode_102 rfl 11 rfl ?_
    refine r_iconst E dX65_makeNode_103 (zkI (by decide) (by decide)) ?_
    refine r_lload E dX65_makeNode_104 9 rfl ?_
    refine r_iload E dX65_makeNode_106 4 rfl ?_
    refine r_iload E dX65_makeNode_108 3 rfl ?_
    refine r_callV E [(6, x1), (0, 1), (1, s0), (0, v35), (0, v36)] [] rfl zc_3 zr_3 (fun o _ => ⟨_, zw_X1.1 o, rfl⟩) (lw_V q3149 q1884 q1885 q228 q1886) dX65_makeNode_110 zy_X1_make rfl (by omega) (by decide) (Nat.le_of_ble_eq_true rfl) (by decide) (fun l G => k_fX1_make l G x1 1 s0 v35 v36) (fun v42 => ?_)
    refine r_astore (ls' := [(11, 6, v42), (16, 0, v41), (15, 0, v39), (14, 0, v37), (13, 0, v36), (12, 0, v35), (10, 0, v6), (9, 0, v5), (8, 0, v4), (7, 0, v3), (5, 1, s0), (0, 67, 0), (1, 6, x1), (4, 0, x4)]) E dX65_makeNode_113 (by rw [hN]; decide) rfl ?_
    refine r_iconst E dX65_makeNode_115 (zkI (by decide) (by decide)) ?_
    refine r_istore (ls' := [(17, 0, 0), (11, 6, v42), (16, 0, v41), (15, 0, v39), (14, 0, v37), (13, 0, v36), (12, 0, v35), (10, 0, v6), (9, 0, v5), (8, 0, v4), (7, 0, v3), (5, 1, s0), (0, 67, 0), (1, 6, x1), (4, 0, x4)]) E dX65_makeNode_116 (by rw [hN]; decide) rfl ?_
    refine r_pick E [12, 10, 9, 8, 7, 1, 4, 3, 2, 0] rfl ?_
    exact r_loop (L := fun s => [(0, 67, 0), (7, 0, v3), (8, 0, v4), (9, 0, v5), (10, 0, v6), (11, 6, v42), (14, 0, v37), (15, 0, v39), (16, 0, v41), (17, 0, s)]) (w_fX65_makeNode_B118 E hN hT hsf v3 v4 v5 v6 v42 v37 v39 v41) zBIG 0
theorem w_fX65_makeNode_E {K : zK} {nf : Nat} (E : zE K cX65_makeNode "RingHouse$Tape" (some (.object "RingHouse$Node")) (5 + nf + 1)) (hN : zNl K = 18) (hT : zTr K = (some 6)) {sf : Int → Int → zX} (hsf : ∀ (l : Launch) (G : zG) (x1 : Int) (x2 : Int), zCt l G yX65_makeNode cX65_makeNode 18 (some (.object "RingHouse$Node")) (5 + nf) [(67, 0), (6, x1), (1, x2)] (some 6) (sf x1 x2)) (x1 : Int) (x2 : Int) : zR K 0 [(0, 67, 0), (1, 6, x1), (2, 1, x2)] [] (fX65_makeNode_E sf x1 x2) := by
  refine r_aload_n E dX65_makeNode_0 rfl 0 rfl ?_
  refine r_callV E [] [] rfl zc_67 zr_67 (fun o _ => ⟨_, zw_X65.1 o, rfl⟩) (lw_V q3088 q3090 qs77 q292 q3091) dX65_makeNode_1 zy_X65_take rfl (by omega) (by decide) (Nat.le_of_ble_eq_true rfl) (by decide) (fun l G => k_fX65_take l G) (fun v1 => ?_)
  refine r_istore (ls' := [(4, 0, v1), (0, 67, 0), (1, 6, x1), (2, 1, x2)]) E dX65_makeNode_4 (by rw [hN]; decide) rfl ?_
  refine r_aload_n E dX65_makeNode_6 rfl 1 rfl ?_
  refine r_callV E [] [] rfl zc_67 zr_67 (fun o _ => ⟨_, zw_X65.1 o, rfl⟩) (lw_V q3108 q3110 qs82 q292 q3111) dX65_makeNode_7 zy_X65_takeWord rfl (by omega) (by decide) (Nat.le_of_ble_eq_true rfl) (by decide) (fun l G => k_fX65_takeWord l G) (fun v2 => ?_)
  refine r_lstore (ls' := [(5, 1, v2), (4, 0, v1), (0, 67, 0), (1, 6, x1), (2, 1, x2)]) E dX65_makeNode_10 (by rw [hN]; decide) rfl ?_
  refine r_lload_n E dX65_makeNode_12 rfl 4 rfl ?_
  refine r_lconst (v := 0) E dX65_makeNode_13 (by decide) (zkJ (by decide) (by decide)) ?_
  refine r_lcmp_le E 22 (by decide) dX65_makeNode_14 dX65_makeNode_15 (fun _ => ?_) (fun _ => ?_)
  · refine r_lload E dX65_makeNode_22 0 rfl ?_
    refine r_pick E [2, 3, 1] rfl ?_
    exact w_fX65_makeNode_J24 E hN hT hsf x1 v1 v2
  · refine r_lload_n E dX65_makeNode_18 rfl 4 rfl ?_
    refine r_goto E 24 (by decide) dX65_makeNode_19 ?_
    refine r_pick E [2, 3, 1] rfl ?_
    exact w_fX65_makeNode_J24 E hN hT hsf x1 v1 x2
theorem k0_fX65_makeNode (nf : Nat) : ∀ (l : Launch) (G : zG) (x1 : Int) (x2 : Int), zCt l G yX65_makeNode cX65_makeNode 18 (some (.object "RingHouse$Node")) (5 + nf) [(67, 0), (6, x1), (1, x2)] (some 6) (fX65_makeNode nf x1 x2) := by
  induction nf with
  | zero => intro l G x1 x2 M r M' hX; cases hX
  | succ nf ih => intro l G x1 x2; exact zCt.of (by decide) (Nat.le_of_ble_eq_true rfl) (fun K E _ _ hN hT => w_fX65_makeNode_E E hN hT ih x1 x2)
theorem k_fX65_makeNode (l : Launch) (G : zG) (x1 : Int) (x2 : Int) : zCt l G yX65_makeNode cX65_makeNode 18 (some (.object "RingHouse$Node")) 305 [(67, 0), (6, x1), (1, x2)] (some 6) (fX65_makeNode 300 x1 x2) := k0_fX65_makeNode 300 l G x1 x2
