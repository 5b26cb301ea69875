set_option maxRecDepth 100000
theorem dX67_plain_0 : decode cX67_plain 0 = .ok (.iload_n 2, 1) := by decide +kernel
theorem dX67_plain_1 : decode cX67_plain 1 = .ok (.tableswitch 363 0 24 #[115, 363, 131, 161, 363, 170, 224, 363, 363, 363, 363, 363, 363, 363, 230, 363, 236, 291, 363, 363, 363, 363, 363, 363, 357], 115) := by decide +kernel
theorem dX67_plain_116 : decode cX67_plain 116 = .ok (.aload_n 0, 1) := by decide +kernel
theorem dX67_plain_117 : decode cX67_plain 117 = .ok (.iload_n 1, 1) := by decide +kernel
theorem dX67_plain_118 : decode cX67_plain 118 = .ok (.iconst 1, 1) := by decide +kernel
theorem dX67_plain_119 : decode cX67_plain 119 = .ok (.aload_n 0, 1) := by decide +kernel
theorem dX67_plain_120 : decode cX67_plain 120 = .ok (.getfield 86, 3) := by decide +kernel
theorem dX67_plain_123 : decode cX67_plain 123 = .ok (.iload_n 1, 1) := by decide +kernel
theorem dX67_plain_124 : decode cX67_plain 124 = .ok (.laload, 1) := by decide +kernel
theorem dX67_plain_125 : decode cX67_plain 125 = .ok (.lconst 0, 1) := by decide +kernel
theorem dX67_plain_126 : decode cX67_plain 126 = .ok (.lconst 0, 1) := by decide +kernel
theorem dX67_plain_127 : decode cX67_plain 127 = .ok (.invokevirtual 616, 3) := by decide +kernel
theorem dX67_plain_130 : decode cX67_plain 130 = .ok (.iconst 0, 1) := by decide +kernel
theorem dX67_plain_131 : decode cX67_plain 131 = .ok (.ireturn, 1) := by decide +kernel
theorem dX67_plain_132 : decode cX67_plain 132 = .ok (.aload_n 0, 1) := by decide +kernel
theorem dX67_plain_133 : decode cX67_plain 133 = .ok (.getfield 131, 3) := by decide +kernel
theorem dX67_plain_136 : decode cX67_plain 136 = .ok (.iload_n 1, 1) := by decide +kernel
theorem dX67_plain_137 : decode cX67_plain 137 = .ok (.iaload, 1) := by decide +kernel
theorem dX67_plain_138 : decode cX67_plain 138 = .ok (.ifCond .ne 5, 3) := by decide +kernel
theorem dX67_plain_141 : decode cX67_plain 141 = .ok (.iconst (-1), 1) := by decide +kernel
theorem dX67_plain_142 : decode cX67_plain 142 = .ok (.ireturn, 1) := by decide +kernel
theorem dX67_plain_143 : decode cX67_plain 143 = .ok (.aload_n 0, 1) := by decide +kernel
theorem dX67_plain_144 : decode cX67_plain 144 = .ok (.getfield 131, 3) := by decide +kernel
theorem dX67_plain_147 : decode cX67_plain 147 = .ok (.iload_n 1, 1) := by decide +kernel
theorem dX67_plain_148 : decode cX67_plain 148 = .ok (.aload_n 0, 1) := by decide +kernel
theorem dX67_plain_149 : decode cX67_plain 149 = .ok (.getfield 17, 3) := by decide +kernel
theorem dX67_plain_152 : decode cX67_plain 152 = .ok (.aload_n 0, 1) := by decide +kernel
theorem dX67_plain_153 : decode cX67_plain 153 = .ok (.getfield 131, 3) := by decide +kernel
theorem dX67_plain_156 : decode cX67_plain 156 = .ok (.iload_n 1, 1) := by decide +kernel
theorem dX67_plain_157 : decode cX67_plain 157 = .ok (.iaload, 1) := by decide +kernel
theorem dX67_plain_158 : decode cX67_plain 158 = .ok (.iaload, 1) := by decide +kernel
theorem dX67_plain_159 : decode cX67_plain 159 = .ok (.iastore, 1) := by decide +kernel
theorem dX67_plain_160 : decode cX67_plain 160 = .ok (.iconst 0, 1) := by decide +kernel
theorem dX67_plain_161 : decode cX67_plain 161 = .ok (.ireturn, 1) := by decide +kernel
theorem dX67_plain_162 : decode cX67_plain 162 = .ok (.aload_n 0, 1) := by decide +kernel
theorem dX67_plain_163 : decode cX67_plain 163 = .ok (.getfield 131, 3) := by decide +kernel
theorem dX67_plain_166 : decode cX67_plain 166 = .ok (.iload_n 1, 1) := by decide +kernel
theorem dX67_plain_167 : decode cX67_plain 167 = .ok (.iconst 0, 1) := by decide +kernel
theorem dX67_plain_168 : decode cX67_plain 168 = .ok (.iastore, 1) := by decide +kernel
theorem dX67_plain_169 : decode cX67_plain 169 = .ok (.iconst 0, 1) := by decide +kernel
theorem dX67_plain_170 : decode cX67_plain 170 = .ok (.ireturn, 1) := by decide +kernel
theorem dX67_plain_171 : decode cX67_plain 171 = .ok (.aload_n 0, 1) := by decide +kernel
theorem dX67_plain_172 : decode cX67_plain 172 = .ok (.getfield 86, 3) := by decide +kernel
theorem dX67_plain_175 : decode cX67_plain 175 = .ok (.iload_n 1, 1) := by decide +kernel
theorem dX67_plain_176 : decode cX67_plain 176 = .ok (.laload, 1) := by decide +kernel
theorem dX67_plain_177 : decode cX67_plain 177 = .ok (.ldc2_w 411, 3) := by decide +kernel
theorem dX67_plain_180 : decode cX67_plain 180 = .ok (.ldc2_w 445, 3) := by decide +kernel
theorem dX67_plain_183 : decode cX67_plain 183 = .ok (.invokestatic 363, 3) := by decide +kernel
theorem dX67_plain_186 : decode cX67_plain 186 = .ok (.ifCond .eq 23, 3) := by decide +kernel
theorem dX67_plain_189 : decode cX67_plain 189 = .ok (.aload_n 0, 1) := by decide +kernel
theorem dX67_plain_190 : decode cX67_plain 190 = .ok (.getfield 125, 3) := by decide +kernel
theorem dX67_plain_193 : decode cX67_plain 193 = .ok (.bipush 32, 2) := by decide +kernel
theorem dX67_plain_195 : decode cX67_plain 195 = .ok (.iload_n 1, 1) := by decide +kernel
theorem dX67_plain_196 : decode cX67_plain 196 = .ok (.imul, 1) := by decide +kernel
theorem dX67_plain_197 : decode cX67_plain 197 = .ok (.aload_n 0, 1) := by decide +kernel
theorem dX67_plain_198 : decode cX67_plain 198 = .ok (.getfield 86, 3) := by decide +kernel
theorem dX67_plain_201 : decode cX67_plain 201 = .ok (.iload_n 1, 1) := by decide +kernel
theorem dX67_plain_202 : decode cX67_plain 202 = .ok (.laload, 1) := by decide +kernel
theorem dX67_plain_203 : decode cX67_plain 203 = .ok (.l2i, 1) := by decide +kernel
theorem dX67_plain_204 : decode cX67_plain 204 = .ok (.iadd, 1) := by decide +kernel
theorem dX67_plain_205 : decode cX67_plain 205 = .ok (.iaload, 1) := by decide +kernel
theorem dX67_plain_206 : decode cX67_plain 206 = .ok (.ifCond .ge 5, 3) := by decide +kernel
theorem dX67_plain_209 : decode cX67_plain 209 = .ok (.iconst (-1), 1) := by decide +kernel
theorem dX67_plain_210 : decode cX67_plain 210 = .ok (.ireturn, 1) := by decide +kernel
theorem dX67_plain_211 : decode cX67_plain 211 = .ok (.aload_n 0, 1) := by decide +kernel
theorem dX67_plain_212 : decode cX67_plain 212 = .ok (.iload_n 1, 1) := by decide +kernel
theorem dX67_plain_213 : decode cX67_plain 213 = .ok (.aload_n 0, 1) := by decide +kernel
theorem dX67_plain_214 : decode cX67_plain 214 = .ok (.getfield 86, 3) := by decide +kernel
theorem dX67_plain_217 : decode cX67_plain 217 = .ok (.iload_n 1, 1) := by decide +kernel
theorem dX67_plain_218 : decode cX67_plain 218 = .ok (.laload, 1) := by decide +kernel
theorem dX67_plain_219 : decode cX67_plain 219 = .ok (.l2i, 1) := by decide +kernel
theorem dX67_plain_220 : decode cX67_plain 220 = .ok (.invokevirtual 416, 3) := by decide +kernel
theorem dX67_plain_223 : decode cX67_plain 223 = .ok (.iconst 0, 1) := by decide +kernel
theorem dX67_plain_224 : decode cX67_plain 224 = .ok (.ireturn, 1) := by decide +kernel
theorem dX67_plain_225 : decode cX67_plain 225 = .ok (.aload_n 0, 1) := by decide +kernel
theorem dX67_plain_226 : decode cX67_plain 226 = .ok (.iload_n 1, 1) := by decide +kernel
theorem dX67_plain_227 : decode cX67_plain 227 = .ok (.invokevirtual 755, 3) := by decide +kernel
theorem dX67_plain_230 : decode cX67_plain 230 = .ok (.ireturn, 1) := by decide +kernel
theorem dX67_plain_231 : decode cX67_plain 231 = .ok (.aload_n 0, 1) := by decide +kernel
theorem dX67_plain_232 : decode cX67_plain 232 = .ok (.iload_n 1, 1) := by decide +kernel
theorem dX67_plain_233 : decode cX67_plain 233 = .ok (.invokevirtual 758, 3) := by decide +kernel
theorem dX67_plain_236 : decode cX67_plain 236 = .ok (.ireturn, 1) := by decide +kernel
theorem dX67_plain_237 : decode cX67_plain 237 = .ok (.aload_n 0, 1) := by decide +kernel
theorem dX67_plain_238 : decode cX67_plain 238 = .ok (.getfield 92, 3) := by decide +kernel
theorem dX67_plain_241 : decode cX67_plain 241 = .ok (.iconst 4, 1) := by decide +kernel
theorem dX67_plain_242 : decode cX67_plain 242 = .ok (.iload_n 1, 1) := by decide +kernel
theorem dX67_plain_243 : decode cX67_plain 243 = .ok (.imul, 1) := by decide +kernel
theorem dX67_plain_244 : decode cX67_plain 244 = .ok (.iaload, 1) := by decide +kernel
theorem dX67_plain_245 : decode cX67_plain 245 = .ok (.iconst 3, 1) := by decide +kernel
theorem dX67_plain_246 : decode cX67_plain 246 = .ok (.if_icmp .le 6, 3) := by decide +kernel
theorem dX67_plain_249 : decode cX67_plain 249 = .ok (.bipush (-8), 2) := by decide +kernel
theorem dX67_plain_251 : decode cX67_plain 251 = .ok (.ireturn, 1) := by decide +kernel
theorem dX67_plain_252 : decode cX67_plain 252 = .ok (.aload_n 0, 1) := by decide +kernel
theorem dX67_plain_253 : decode cX67_plain 253 = .ok (.getfield 134, 3) := by decide +kernel
theorem dX67_plain_256 : decode cX67_plain 256 = .ok (.iconst 4, 1) := by decide +kernel
theorem dX67_plain_257 : decode cX67_plain 257 = .ok (.iload_n 1, 1) := by decide +kernel
theorem dX67_plain_258 : decode cX67_plain 258 = .ok (.imul, 1) := by decide +kernel
theorem dX67_plain_259 : decode cX67_plain 259 = .ok (.aload_n 0, 1) := by decide +kernel
theorem dX67_plain_260 : decode cX67_plain 260 = .ok (.getfield 92, 3) := by decide +kernel
theorem dX67_plain_263 : decode cX67_plain 263 = .ok (.iconst 4, 1) := by decide +kernel
theorem dX67_plain_264 : decode cX67_plain 264 = .ok (.iload_n 1, 1) := by decide +kernel
theorem dX67_plain_265 : decode cX67_plain 265 = .ok (.imul, 1) := by decide +kernel
theorem dX67_plain_266 : decode cX67_plain 266 = .ok (.iaload, 1) := by decide +kernel
theorem dX67_plain_267 : decode cX67_plain 267 = .ok (.iadd, 1) := by decide +kernel
theorem dX67_plain_268 : decode cX67_plain 268 = .ok (.aload_n 0, 1) := by decide +kernel
theorem dX67_plain_269 : decode cX67_plain 269 = .ok (.getfield 86, 3) := by decide +kernel
theorem dX67_plain_272 : decode cX67_plain 272 = .ok (.iload_n 1, 1) := by decide +kernel
theorem dX67_plain_273 : decode cX67_plain 273 = .ok (.laload, 1) := by decide +kernel
theorem dX67_plain_274 : decode cX67_plain 274 = .ok (.lconst 0, 1) := by decide +kernel
theorem dX67_plain_275 : decode cX67_plain 275 = .ok (.lcmp, 1) := by decide +kernel
theorem dX67_plain_276 : decode cX67_plain 276 = .ok (.ifCond .ne 7, 3) := by decide +kernel
theorem dX67_plain_279 : decode cX67_plain 279 = .ok (.iconst (-1), 1) := by decide +kernel
theorem dX67_plain_280 : decode cX67_plain 280 = .ok (.goto 9, 3) := by decide +kernel
theorem dX67_plain_283 : decode cX67_plain 283 = .ok (.aload_n 0, 1) := by decide +kernel
theorem dX67_plain_284 : decode cX67_plain 284 = .ok (.getfield 131, 3) := by decide +kernel
theorem dX67_plain_287 : decode cX67_plain 287 = .ok (.iload_n 1, 1) := by decide +kernel
theorem dX67_plain_288 : decode cX67_plain 288 = .ok (.iaload, 1) := by decide +kernel
theorem dX67_plain_289 : decode cX67_plain 289 = .ok (.iastore, 1) := by decide +kernel
theorem dX67_plain_290 : decode cX67_plain 290 = .ok (.iconst 0, 1) := by decide +kernel
theorem dX67_plain_291 : decode cX67_plain 291 = .ok (.ireturn, 1) := by decide +kernel
theorem dX67_plain_292 : decode cX67_plain 292 = .ok (.aload_n 0, 1) := by decide +kernel
theorem dX67_plain_293 : decode cX67_plain 293 = .ok (.getfield 137, 3) := by decide +kernel
theorem dX67_plain_296 : decode cX67_plain 296 = .ok (.iload_n 1, 1) := by decide +kernel
theorem dX67_plain_297 : decode cX67_plain 297 = .ok (.aload_n 0, 1) := by decide +kernel
theorem dX67_plain_298 : decode cX67_plain 298 = .ok (.getfield 86, 3) := by decide +kernel
theorem dX67_plain_301 : decode cX67_plain 301 = .ok (.iload_n 1, 1) := by decide +kernel
theorem dX67_plain_302 : decode cX67_plain 302 = .ok (.laload, 1) := by decide +kernel
theorem dX67_plain_303 : decode cX67_plain 303 = .ok (.lconst 0, 1) := by decide +kernel
theorem dX67_plain_304 : decode cX67_plain 304 = .ok (.lcmp, 1) := by decide +kernel
theorem dX67_plain_305 : decode cX67_plain 305 = .ok (.ifCond .eq 7, 3) := by decide +kernel
theorem dX67_plain_308 : decode cX67_plain 308 = .ok (.iconst 1, 1) := by decide +kernel
theorem dX67_plain_309 : decode cX67_plain 309 = .ok (.goto 4, 3) := by decide +kernel
theorem dX67_plain_312 : decode cX67_plain 312 = .ok (.iconst 0, 1) := by decide +kernel
theorem dX67_plain_313 : decode cX67_plain 313 = .ok (.bastore, 1) := by decide +kernel
theorem dX67_plain_314 : decode cX67_plain 314 = .ok (.aload_n 0, 1) := by decide +kernel
theorem dX67_plain_315 : decode cX67_plain 315 = .ok (.getfield 140, 3) := by decide +kernel
theorem dX67_plain_318 : decode cX67_plain 318 = .ok (.iload_n 1, 1) := by decide +kernel
theorem dX67_plain_319 : decode cX67_plain 319 = .ok (.aload_n 0, 1) := by decide +kernel
theorem dX67_plain_320 : decode cX67_plain 320 = .ok (.getfield 95, 3) := by decide +kernel
theorem dX67_plain_323 : decode cX67_plain 323 = .ok (.bipush 8, 2) := by decide +kernel
theorem dX67_plain_325 : decode cX67_plain 325 = .ok (.iload_n 1, 1) := by decide +kernel
theorem dX67_plain_326 : decode cX67_plain 326 = .ok (.imul, 1) := by decide +kernel
theorem dX67_plain_327 : decode cX67_plain 327 = .ok (.iaload, 1) := by decide +kernel
theorem dX67_plain_328 : decode cX67_plain 328 = .ok (.iastore, 1) := by decide +kernel
theorem dX67_plain_329 : decode cX67_plain 329 = .ok (.aload_n 0, 1) := by decide +kernel
theorem dX67_plain_330 : decode cX67_plain 330 = .ok (.getfield 143, 3) := by decide +kernel
theorem dX67_plain_333 : decode cX67_plain 333 = .ok (.iload_n 1, 1) := by decide +kernel
theorem dX67_plain_334 : decode cX67_plain 334 = .ok (.aload_n 0, 1) := by decide +kernel
theorem dX67_plain_335 : decode cX67_plain 335 = .ok (.getfield 98, 3) := by decide +kernel
theorem dX67_plain_338 : decode cX67_plain 338 = .ok (.bipush 8, 2) := by decide +kernel
theorem dX67_plain_340 : decode cX67_plain 340 = .ok (.iload_n 1, 1) := by decide +kernel
theorem dX67_plain_341 : decode cX67_plain 341 = .ok (.imul, 1) := by decide +kernel
theorem dX67_plain_342 : decode cX67_plain 342 = .ok (.iaload, 1) := by decide +kernel
theorem dX67_plain_343 : decode cX67_plain 343 = .ok (.iastore, 1) := by decide +kernel
theorem dX67_plain_344 : decode cX67_plain 344 = .ok (.aload_n 0, 1) := by decide +kernel
theorem dX67_plain_345 : decode cX67_plain 345 = .ok (.getfield 146, 3) := by decide +kernel
theorem dX67_plain_348 : decode cX67_plain 348 = .ok (.iload_n 1, 1) := by decide +kernel
theorem dX67_plain_349 : decode cX67_plain 349 = .ok (.aload_n 0, 1) := by decide +kernel
theorem dX67_plain_350 : decode cX67_plain 350 = .ok (.getfield 110, 3) := by decide +kernel
theorem dX67_plain_353 : decode cX67_plain 353 = .ok (.iload_n 1, 1) := by decide +kernel
theorem dX67_plain_354 : decode cX67_plain 354 = .ok (.iaload, 1) := by decide +kernel
theorem dX67_plain_355 : decode cX67_plain 355 = .ok (.iastore, 1) := by decide +kernel
theorem dX67_plain_356 : decode cX67_plain 356 = .ok (.iconst 0, 1) := by decide +kernel
theorem dX67_plain_357 : decode cX67_plain 357 = .ok (.ireturn, 1) := by decide +kernel
theorem dX67_plain_358 : decode cX67_plain 358 = .ok (.aload_n 0, 1) := by decide +kernel
theorem dX67_plain_359 : decode cX67_plain 359 = .ok (.iload_n 1, 1) := by decide +kernel
theorem dX67_plain_360 : decode cX67_plain 360 = .ok (.invokevirtual 761, 3) := by decide +kernel
theorem dX67_plain_363 : decode cX67_plain 363 = .ok (.ireturn, 1) := by decide +kernel
theorem dX67_plain_364 : decode cX67_plain 364 = .ok (.aload_n 0, 1) := by decide +kernel
theorem dX67_plain_365 : decode cX67_plain 365 = .ok (.iload_n 1, 1) := by decide +kernel
theorem dX67_plain_366 : decode cX67_plain 366 = .ok (.iload_n 2, 1) := by decide +kernel
theorem dX67_plain_367 : decode cX67_plain 367 = .ok (.invokevirtual 764, 3) := by decide +kernel
theorem dX67_plain_370 : decode cX67_plain 370 = .ok (.ireturn, 1) := by decide +kernel
theorem zy_X67_plain : yX67_plain.cls ≠ "java/lang/invoke/MethodHandle" ∧ yX67_plain.cls ≠ "java/lang/invoke/VarHandle" ∧ (parseMethodDescriptor yX67_plain.desc).map (fun d => d.parameters.length) = some 2 := by decide +kernel
theorem w_fX67_plain_J289 {K : zK} (E : zE K cX67_plain "RingHouseModel" (some .int) 5) (hN : zNl K = 3) (hT : zTr K = (some 0)) (s1 : Int) (s2 : Int) : zR K 289 [] [(0, s2), (0, s1), (6841, 0)] (fX67_plain_J289 s1 s2) := by
  refine r_iastore E zc_6841 za_6841 zt_6841 zo_6841 zx_6841 rfl rfl dX67_plain_289 (by decide) ?_
  refine r_iconst E dX67_plain_290 (zkI (by decide) (by decide)) ?_
  exact r_ireturn E rfl hT dX67_plain_291
theorem w_fX67_plain_J313 {K : zK} (E : zE K cX67_plain "RingHouseModel" (some .int) 5) (hN : zNl K = 3) (hT : zTr K = (some 0)) (x1 : Int) (s1 : Int) (s2 : Int) : zR K 313 [(0, 69, 0), (1, 0, x1)] [(0, s2), (0, s1), (6842, 0)] (fX67_plain_J313 x1 s1 s2) := by
  refine r_zastore E zc_6842 za_6842 zt_6842 zo_6842 zx_6842 rfl rfl dX67_plain_313 (by decide) ?_
  refine r_aload_n E dX67_plain_314 rfl 0 rfl ?_
  refine r_gec (y := 0) E zc_69 dX67_plain_315 q3258 zr_69 (zh_6843 (by decide)) (by decide) ?_
  refine r_iload_n E dX67_plain_318 rfl 1 rfl ?_
  refine r_aload_n E dX67_plain_319 rfl 0 rfl ?_
  refine r_gec (y := 0) E zc_69 dX67_plain_320 q3243 zr_69 (zh_6828 (by decide)) (by decide) ?_
  refine r_bipush E dX67_plain_323 (by decide) (zkI (by decide) (by decide)) ?_
  refine r_iload_n E dX67_plain_325 rfl 1 rfl ?_
  refine r_imul E dX67_plain_326 ?_
  refine r_iaload E zc_6828 za_6828 zt_6828 zx_6828 rfl rfl dX67_plain_327 (by decide) (fun v27 => ?_)
  refine r_iastore E zc_6843 za_6843 zt_6843 zo_6843 zx_6843 rfl rfl dX67_plain_328 (by decide) ?_
  refine r_aload_n E dX67_plain_329 rfl 0 rfl ?_
  refine r_gec (y := 0) E zc_69 dX67_plain_330 q3259 zr_69 (zh_6844 (by decide)) (by decide) ?_
  refine r_iload_n E dX67_plain_333 rfl 1 rfl ?_
  refine r_aload_n E dX67_plain_334 rfl 0 rfl ?_
  refine r_gec (y := 0) E zc_69 dX67_plain_335 q3244 zr_69 (zh_6829 (by decide)) (by decide) ?_
  refine r_bipush E dX67_plain_338 (by decide) (zkI (by decide) (by decide)) ?_
  refine r_iload_n E dX67_plain_340 rfl 1 rfl ?_
  refine r_imul E dX67_plain_341 ?_
  refine r_iaload E zc_6829 za_6829 zt_6829 zx_6829 rfl rfl dX67_plain_342 (by decide) (fun v28 => ?_)
  refine r_iastore E zc_6844 za_6844 zt_6844 zo_6844 zx_6844 rfl rfl dX67_plain_343 (by decide) ?_
  refine r_aload_n E dX67_plain_344 rfl 0 rfl ?_
  refine r_gec (y := 0) E zc_69 dX67_plain_345 q3260 zr_69 (zh_6845 (by decide)) (by decide) ?_
  refine r_iload_n E dX67_plain_348 rfl 1 rfl ?_
  refine r_aload_n E dX67_plain_349 rfl 0 rfl ?_
  refine r_gec (y := 0) E zc_69 dX67_plain_350 q3248 zr_69 (zh_6833 (by decide)) (by decide) ?_
  refine r_iload_n E dX67_plain_353 rfl 1 rfl ?_
  refine r_iaload E zc_6833 za_6833 zt_6833 zx_6833 rfl rfl dX67_plain_354 (by decide) (fun v29 => ?_)
  refine r_iastore E zc_6845 za_6845 zt_6845 zo_6845 zx_6845 rfl rfl dX67_plain_355 (by decide) ?_
  refine r_iconst E dX67_plain_356 (zkI (by decide) (by decide)) ?_
  exact r_ireturn E rfl hT dX67_plain_357
theorem w_fX67_plain {K : zK} (E : zE K cX67_plain "RingHouseModel" (some .int) 5) (hN : zNl K = 3) (hT : zTr K = (some 0)) (x1 : Int) (x2 : Int) : zR K 0 [(0, 69, 0), (1, 0, x1), (2, 0, x2)] [] (fX67_plain x1 x2) := by
  refine r_iload_n E dX67_plain_0 rfl 2 rfl ?_
  refine r_tabc E dX67_plain_1 0 116 (by decide) (by decide) rfl (by decide) (fun _ => ?_) (fun ht1 => ?_)
  · refine r_aload_n E dX67_plain_116 rfl 0 rfl ?_
    refine r_iload_n E dX67_plain_117 rfl 1 rfl ?_
    refine r_iconst E dX67_plain_118 (zkI (by decide) (by decide)) ?_
    refine r_aload_n E dX67_plain_119 rfl 0 rfl ?_
    refine r_gec (y := 0) E zc_69 dX67_plain_120 q3240 zr_69 (zh_6825 (by decide)) (by decide) ?_
    refine r_iload_n E dX67_plain_123 rfl 1 rfl ?_
    refine r_laload E zc_6825 za_6825 zt_6825 zx_6825 rfl rfl dX67_plain_124 (by decide) (fun v2 => ?_)
    refine r_lconst (v := 0) E dX67_plain_125 (by decide) (zkJ (by decide) (by decide)) ?_
    refine r_lconst (v := 0) E dX67_plain_126 (by decide) (zkJ (by decide) (by decide)) ?_
    refine r_callV E [(0, x1), (0, 1), (1, v2), (1, 0), (1, 0)] [] rfl zc_69 zr_69 (fun o _ => ⟨_, zw_X67.1 o, rfl⟩) (lw_V q3830 q3832 qs118 q294 q3833) dX67_plain_127 zy_X67_tell rfl (by omega) (by decide) (Nat.le_of_ble_eq_true rfl) (by decide) (fun l G => k_fX67_tell l G x1 1 v2 0 0) (fun _ => ?_)
    refine r_iconst E dX67_plain_130 (zkI (by decide) (by decide)) ?_
    exact r_ireturn E rfl hT dX67_plain_131
  · refine r_tabc E dX67_plain_1 2 132 (by decide) (by decide) rfl (by decide) (fun _ => ?_) (fun ht4 => ?_)
    · refine r_aload_n E dX67_plain_132 rfl 0 rfl ?_
      refine r_gec (y := 0) E zc_69 dX67_plain_133 q3255 zr_69 (zh_6840 (by decide)) (by decide) ?_
      refine r_iload_n E dX67_plain_136 rfl 1 rfl ?_
      refine r_iaload E zc_6840 za_6840 zt_6840 zx_6840 rfl rfl dX67_plain_137 (by decide) (fun v5 => ?_)
      refine r_if_ne E 143 (by decide) dX67_plain_138 (fun _ => ?_) (fun _ => ?_)
      · refine r_aload_n E dX67_plain_143 rfl 0 rfl ?_
        refine r_gec (y := 0) E zc_69 dX67_plain_144 q3255 zr_69 (zh_6840 (by decide)) (by decide) ?_
        refine r_iload_n E dX67_plain_147 rfl 1 rfl ?_
        refine r_aload_n E dX67_plain_148 rfl 0 rfl ?_
        refine r_gec (y := 0) E zc_69 dX67_plain_149 q3217 zr_69 (zh_6802 (by decide)) (by decide) ?_
        refine r_aload_n E dX67_plain_152 rfl 0 rfl ?_
        refine r_gec (y := 0) E zc_69 dX67_plain_153 q3255 zr_69 (zh_6840 (by decide)) (by decide) ?_
        refine r_iload_n E dX67_plain_156 rfl 1 rfl ?_
        refine r_iaload E zc_6840 za_6840 zt_6840 zx_6840 rfl rfl dX67_plain_157 (by decide) (fun v6 => ?_)
        refine r_iaload E zc_6802 za_6802 zt_6802 zx_6802 rfl rfl dX67_plain_158 (by decide) (fun v7 => ?_)
        refine r_iastore E zc_6840 za_6840 zt_6840 zo_6840 zx_6840 rfl rfl dX67_plain_159 (by decide) ?_
        refine r_iconst E dX67_plain_160 (zkI (by decide) (by decide)) ?_
        exact r_ireturn E rfl hT dX67_plain_161
      · refine r_iconst E dX67_plain_141 (zkI (by decide) (by decide)) ?_
        exact r_ireturn E rfl hT dX67_plain_142
    · refine r_tabc E dX67_plain_1 3 162 (by decide) (by decide) rfl (by decide) (fun _ => ?_) (fun ht8 => ?_)
      · refine r_aload_n E dX67_plain_162 rfl 0 rfl ?_
        refine r_gec (y := 0) E zc_69 dX67_plain_163 q3255 zr_69 (zh_6840 (by decide)) (by decide) ?_
        refine r_iload_n E dX67_plain_166 rfl 1 rfl ?_
        refine r_iconst E dX67_plain_167 (zkI (by decide) (by decide)) ?_
        refine r_iastore E zc_6840 za_6840 zt_6840 zo_6840 zx_6840 rfl rfl dX67_plain_168 (by decide) ?_
        refine r_iconst E dX67_plain_169 (zkI (by decide) (by decide)) ?_
        exact r_ireturn E rfl hT dX67_plain_170
      · refine r_tabc E dX67_plain_1 5 171 (by decide) (by decide) rfl (by decide) (fun _ => ?_) (fun ht9 => ?_)
        · refine r_aload_n E dX67_plain_171 rfl 0 rfl ?_
          refine r_gec (y := 0) E zc_69 dX67_plain_172 q3240 zr_69 (zh_6825 (by decide)) (by decide) ?_
          refine r_iload_n E dX67_plain_175 rfl 1 rfl ?_
          refine r_laload E zc_6825 za_6825 zt_6825 zx_6825 rfl rfl dX67_plain_176 (by decide) (fun v10 => ?_)
          refine r_ldc2 (v := 8) E dX67_plain_177 q3692 (by decide) (zkJ (by decide) (by decide)) ?_
          refine r_ldc2 (v := 31) E dX67_plain_180 q3631 (by decide) (zkJ (by decide) (by decide)) ?_
          refine r_callS E [(1, v10), (1, 8), (1, 31)] [] rfl q3619 q3620 q294 q3621 dX67_plain_183 zy_X67_in rfl (by omega) (by decide) (Nat.le_of_ble_eq_true rfl) (fun l G => k_fX67_in l G v10 8 31) (fun v11 => ?_)
          refine r_if_eq E 209 (by decide) dX67_plain_186 (fun _ => ?_) (fun _ => ?_)
          · refine r_iconst E dX67_plain_209 (zkI (by decide) (by decide)) ?_
            exact r_ireturn E rfl hT dX67_plain_210
          · refine r_aload_n E dX67_plain_189 rfl 0 rfl ?_
            refine r_gec (y := 0) E zc_69 dX67_plain_190 q3253 zr_69 (zh_6838 (by decide)) (by decide) ?_
            refine r_bipush E dX67_plain_193 (by decide) (zkI (by decide) (by decide)) ?_
            refine r_iload_n E dX67_plain_195 rfl 1 rfl ?_
            refine r_imul E dX67_plain_196 ?_
            refine r_aload_n E dX67_plain_197 rfl 0 rfl ?_
            refine r_gec (y := 0) E zc_69 dX67_plain_198 q3240 zr_69 (zh_6825 (by decide)) (by decide) ?_
            refine r_iload_n E dX67_plain_201 rfl 1 rfl ?_
            refine r_laload E zc_6825 za_6825 zt_6825 zx_6825 rfl rfl dX67_plain_202 (by decide) (fun v12 => ?_)
            refine r_l2i E dX67_plain_203 ?_
            refine r_iadd E dX67_plain_204 ?_
            refine r_iaload E zc_6838 za_6838 zt_6838 zx_6838 rfl rfl dX67_plain_205 (by decide) (fun v13 => ?_)
            refine r_if_ge E 211 (by decide) dX67_plain_206 (fun _ => ?_) (fun _ => ?_)
            · refine r_aload_n E dX67_plain_211 rfl 0 rfl ?_
              refine r_iload_n E dX67_plain_212 rfl 1 rfl ?_
              refine r_aload_n E dX67_plain_213 rfl 0 rfl ?_
              refine r_gec (y := 0) E zc_69 dX67_plain_214 q3240 zr_69 (zh_6825 (by decide)) (by decide) ?_
              refine r_iload_n E dX67_plain_217 rfl 1 rfl ?_
              refine r_laload E zc_6825 za_6825 zt_6825 zx_6825 rfl rfl dX67_plain_218 (by decide) (fun v14 => ?_)
              refine r_l2i E dX67_plain_219 ?_
              refine r_callV E [(0, x1), (0, (zi v14))] [] rfl zc_69 zr_69 (fun o _ => ⟨_, zw_X67.1 o, rfl⟩) (lw_V q3754 q3756 qs112 q294 q3757) dX67_plain_220 zy_X67_forget rfl (by omega) (by decide) (Nat.le_of_ble_eq_true rfl) (by decide) (fun l G => k_fX67_forget l G x1 (zi v14)) (fun _ => ?_)
              refine r_iconst E dX67_plain_223 (zkI (by decide) (by decide)) ?_
              exact r_ireturn E rfl hT dX67_plain_224
            · refine r_iconst E dX67_plain_209 (zkI (by decide) (by decide)) ?_
              exact r_ireturn E rfl hT dX67_plain_210
        · refine r_tabc E dX67_plain_1 6 225 (by decide) (by decide) rfl (by decide) (fun _ => ?_) (fun ht16 => ?_)
          · refine r_aload_n E dX67_plain_225 rfl 0 rfl ?_
            refine r_iload_n E dX67_plain_226 rfl 1 rfl ?_
            refine r_callV E [(0, x1)] [] rfl zc_69 zr_69 (fun o _ => ⟨_, zw_X67.1 o, rfl⟩) (lw_V q3996 q3998 qs154 q294 q3999) dX67_plain_227 zy_X67_nameOf rfl (by omega) (by decide) (Nat.le_of_ble_eq_true rfl) (by decide) (fun l G => k_fX67_nameOf l G x1) (fun v17 => ?_)
            exact r_ireturn E rfl hT dX67_plain_230
          · refine r_tabc E dX67_plain_1 14 231 (by decide) (by decide) rfl (by decide) (fun _ => ?_) (fun ht18 => ?_)
            · refine r_aload_n E dX67_plain_231 rfl 0 rfl ?_
              refine r_iload_n E dX67_plain_232 rfl 1 rfl ?_
              refine r_callV E [(0, x1)] [] rfl zc_69 zr_69 (fun o _ => ⟨_, zw_X67.1 o, rfl⟩) (lw_V q4009 q4011 qs157 q294 q4012) dX67_plain_233 zy_X67_newLength rfl (by omega) (by decide) (Nat.le_of_ble_eq_true rfl) (by decide) (fun l G => k_fX67_newLength l G x1) (fun v19 => ?_)
              exact r_ireturn E rfl hT dX67_plain_236
            · refine r_tabc E dX67_plain_1 16 237 (by decide) (by decide) rfl (by decide) (fun _ => ?_) (fun ht20 => ?_)
              · refine r_aload_n E dX67_plain_237 rfl 0 rfl ?_
                refine r_gec (y := 0) E zc_69 dX67_plain_238 q3242 zr_69 (zh_6827 (by decide)) (by decide) ?_
                refine r_iconst E dX67_plain_241 (zkI (by decide) (by decide)) ?_
                refine r_iload_n E dX67_plain_242 rfl 1 rfl ?_
                refine r_imul E dX67_plain_243 ?_
                refine r_iaload E zc_6827 za_6827 zt_6827 zx_6827 rfl rfl dX67_plain_244 (by decide) (fun v21 => ?_)
                refine r_iconst E dX67_plain_245 (zkI (by decide) (by decide)) ?_
                refine r_icmp_le E 252 (by decide) dX67_plain_246 (fun _ => ?_) (fun _ => ?_)
                · refine r_aload_n E dX67_plain_252 rfl 0 rfl ?_
                  refine r_gec (y := 0) E zc_69 dX67_plain_253 q3256 zr_69 (zh_6841 (by decide)) (by decide) ?_
                  refine r_iconst E dX67_plain_256 (zkI (by decide) (by decide)) ?_
                  refine r_iload_n E dX67_plain_257 rfl 1 rfl ?_
                  refine r_imul E dX67_plain_258 ?_
                  refine r_aload_n E dX67_plain_259 rfl 0 rfl ?_
                  refine r_gec (y := 0) E zc_69 dX67_plain_260 q3242 zr_69 (zh_6827 (by decide)) (by decide) ?_
                  refine r_iconst E dX67_plain_263 (zkI (by decide) (by decide)) ?_
                  refine r_iload_n E dX67_plain_264 rfl 1 rfl ?_
                  refine r_imul E dX67_plain_265 ?_
                  refine r_iaload E zc_6827 za_6827 zt_6827 zx_6827 rfl rfl dX67_plain_266 (by decide) (fun v22 => ?_)
                  refine r_iadd E dX67_plain_267 ?_
                  refine r_aload_n E dX67_plain_268 rfl 0 rfl ?_
                  refine r_gec (y := 0) E zc_69 dX67_plain_269 q3240 zr_69 (zh_6825 (by decide)) (by decide) ?_
                  refine r_iload_n E dX67_plain_272 rfl 1 rfl ?_
                  refine r_laload E zc_6825 za_6825 zt_6825 zx_6825 rfl rfl dX67_plain_273 (by decide) (fun v23 => ?_)
                  refine r_lconst (v := 0) E dX67_plain_274 (by decide) (zkJ (by decide) (by decide)) ?_
                  refine r_lcmp_ne E 283 (by decide) dX67_plain_275 dX67_plain_276 (fun _ => ?_) (fun _ => ?_)
                  · refine r_aload_n E dX67_plain_283 rfl 0 rfl ?_
                    refine r_gec (y := 0) E zc_69 dX67_plain_284 q3255 zr_69 (zh_6840 (by decide)) (by decide) ?_
                    refine r_iload_n E dX67_plain_287 rfl 1 rfl ?_
                    refine r_iaload E zc_6840 za_6840 zt_6840 zx_6840 rfl rfl dX67_plain_288 (by decide) (fun v24 => ?_)
                    refine r_pick E [] rfl ?_
                    exact w_fX67_plain_J289 E hN hT (zi ((zi (4 * x1)) + v22)) v24
                  · refine r_iconst E dX67_plain_279 (zkI (by decide) (by decide)) ?_
                    refine r_goto E 289 (by decide) dX67_plain_280 ?_
                    refine r_pick E [] rfl ?_
                    exact w_fX67_plain_J289 E hN hT (zi ((zi (4 * x1)) + v22)) (-1)
                · refine r_bipush E dX67_plain_249 (by decide) (zkI (by decide) (by decide)) ?_
                  exact r_ireturn E rfl hT dX67_plain_251
              · refine r_tabc E dX67_plain_1 17 292 (by decide) (by decide) rfl (by decide) (fun _ => ?_) (fun ht25 => ?_)
                · refine r_aload_n E dX67_plain_292 rfl 0 rfl ?_
                  refine r_gec (y := 0) E zc_69 dX67_plain_293 q3257 zr_69 (zh_6842 (by decide)) (by decide) ?_
                  refine r_iload_n E dX67_plain_296 rfl 1 rfl ?_
                  refine r_aload_n E dX67_plain_297 rfl 0 rfl ?_
                  refine r_gec (y := 0) E zc_69 dX67_plain_298 q3240 zr_69 (zh_6825 (by decide)) (by decide) ?_
                  refine r_iload_n E dX67_plain_301 rfl 1 rfl ?_
                  refine r_laload E zc_6825 za_6825 zt_6825 zx_6825 rfl rfl dX67_plain_302 (by decide) (fun v26 => ?_)
                  refine r_lconst (v := 0) E dX67_plain_303 (by decide) (zkJ (by decide) (by decide)) ?_
                  refine r_lcmp_eq E 312 (by decide) dX67_plain_304 dX67_plain_305 (fun _ => ?_) (fun _ => ?_)
                  · refine r_iconst E dX67_plain_312 (zkI (by decide) (by decide)) ?_
                    refine r_pick E [0, 1] rfl ?_
                    exact w_fX67_plain_J313 E hN hT x1 x1 0
                  · refine r_iconst E dX67_plain_308 (zkI (by decide) (by decide)) ?_
                    refine r_goto E 313 (by decide) dX67_plain_309 ?_
                    refine r_pick E [0, 1] rfl ?_
                    exact w_fX67_plain_J313 E hN hT x1 x1 1
                · refine r_tabc E dX67_plain_1 24 358 (by decide) (by decide) rfl (by decide) (fun _ => ?_) (fun ht30 => ?_)
                  · refine r_aload_n E dX67_plain_358 rfl 0 rfl ?_
                    refine r_iload_n E dX67_plain_359 rfl 1 rfl ?_
                    refine r_callV E [(0, x1)] [] rfl zc_69 zr_69 (fun o _ => ⟨_, zw_X67.1 o, rfl⟩) (lw_V q4013 q4015 qs158 q294 q4016) dX67_plain_360 zy_X67_newFirst rfl (by omega) (by decide) (Nat.le_of_ble_eq_true rfl) (by decide) (fun l G => k_fX67_newFirst l G x1) (fun v31 => ?_)
                    exact r_ireturn E rfl hT dX67_plain_363
                  · refine r_tabd E dX67_plain_1 364 [0, 2, 3, 5, 6, 14, 16, 17, 24] (by decide) (by decide) (by decide) ⟨ht1, ht4, ht8, ht9, ht16, ht18, ht20, ht25, ht30, trivial⟩ ?_
                    refine r_aload_n E dX67_plain_364 rfl 0 rfl ?_
                    refine r_iload_n E dX67_plain_365 rfl 1 rfl ?_
                    refine r_iload_n E dX67_plain_366 rfl 2 rfl ?_
                    refine r_callV E [(0, x1), (0, x2)] [] rfl zc_69 zr_69 (fun o _ => ⟨_, zw_X67.1 o, rfl⟩) (lw_V q4018 q4020 qs159 q294 q4021) dX67_plain_367 zy_X67_among rfl (by omega) (by decide) (Nat.le_of_ble_eq_true rfl) (by decide) (fun l G => k_fX67_among l G x1 x2) (fun v32 => ?_)
                    exact r_ireturn E rfl hT dX67_plain_370
theorem k_fX67_plain (l : Launch) (G : zG) (x1 : Int) (x2 : Int) : zCt l G yX67_plain cX67_plain 3 (some .int) 5 [(69, 0), (0, x1), (0, x2)] (some 0) (fX67_plain x1 x2) := zCt.of (by decide) (Nat.le_of_ble_eq_true rfl) (fun K E _ _ hN hT => w_fX67_plain E hN hT x1 x2)
theorem dX67_numberFor_0 : decode cX67_numberFor 0 = .ok (.bipush 8, 2) := by decide +kernel
theorem dX67_numberFor_2 : decode cX67_numberFor 2 = .ok (.istore_n 3, 1) := by decide +kernel
theorem dX67_numberFor_3 : decode cX67_numberFor 3 = .ok (.iload_n 3, 1) := by decide +kernel
theorem dX67_numberFor_4 : decode cX67_numberFor 4 = .ok (.bipush 32, 2) := by decide +kernel
theorem dX67_numberFor_6 : decode cX67_numberFor 6 = .ok (.if_icmp .ge 26, 3) := by decide +kernel
theorem dX67_numberFor_9 : decode cX67_numberFor 9 = .ok (.aload_n 0, 1) := by decide +kernel
theorem dX67_numberFor_10 : decode cX67_numberFor 10 = .ok (.getfield 125, 3) := by decide +kernel
theorem dX67_numberFor_13 : decode cX67_numberFor 13 = .ok (.bipush 32, 2) := by decide +kernel
theorem dX67_numberFor_15 : decode cX67_numberFor 15 = .ok (.iload_n 1, 1) := by decide +kernel
theorem dX67_numberFor_16 : decode cX67_numberFor 16 = .ok (.imul, 1) := by decide +kernel
theorem dX67_numberFor_17 : decode cX67_numberFor 17 = .ok (.iload_n 3, 1) := by decide +kernel
theorem dX67_numberFor_18 : decode cX67_numberFor 18 = .ok (.iadd, 1) := by decide +kernel
theorem dX67_numberFor_19 : decode cX67_numberFor 19 = .ok (.iaload, 1) := by decide +kernel
theorem dX67_numberFor_20 : decode cX67_numberFor 20 = .ok (.iload_n 2, 1) := by decide +kernel
theorem dX67_numberFor_21 : decode cX67_numberFor 21 = .ok (.if_icmp .ne 5, 3) := by decide +kernel
theorem dX67_numberFor_24 : decode cX67_numberFor 24 = .ok (.iload_n 3, 1) := by decide +kernel
theorem dX67_numberFor_25 : decode cX67_numberFor 25 = .ok (.ireturn, 1) := by decide +kernel
theorem dX67_numberFor_26 : decode cX67_numberFor 26 = .ok (.iinc 3 1, 3) := by decide +kernel
theorem dX67_numberFor_29 : decode cX67_numberFor 29 = .ok (.goto (-26), 3) := by decide +kernel
theorem dX67_numberFor_32 : decode cX67_numberFor 32 = .ok (.bipush 8, 2) := by decide +kernel
theorem dX67_numberFor_34 : decode cX67_numberFor 34 = .ok (.istore_n 3, 1) := by decide +kernel
theorem dX67_numberFor_35 : decode cX67_numberFor 35 = .ok (.iload_n 3, 1) := by decide +kernel
theorem dX67_numberFor_36 : decode cX67_numberFor 36 = .ok (.bipush 32, 2) := by decide +kernel
theorem dX67_numberFor_38 : decode cX67_numberFor 38 = .ok (.if_icmp .ge 25, 3) := by decide +kernel
theorem dX67_numberFor_41 : decode cX67_numberFor 41 = .ok (.aload_n 0, 1) := by decide +kernel
theorem dX67_numberFor_42 : decode cX67_numberFor 42 = .ok (.getfield 125, 3) := by decide +kernel
theorem dX67_numberFor_45 : decode cX67_numberFor 45 = .ok (.bipush 32, 2) := by decide +kernel
theorem dX67_numberFor_47 : decode cX67_numberFor 47 = .ok (.iload_n 1, 1) := by decide +kernel
theorem dX67_numberFor_48 : decode cX67_numberFor 48 = .ok (.imul, 1) := by decide +kernel
theorem dX67_numberFor_49 : decode cX67_numberFor 49 = .ok (.iload_n 3, 1) := by decide +kernel
theorem dX67_numberFor_50 : decode cX67_numberFor 50 = .ok (.iadd, 1) := by decide +kernel
theorem dX67_numberFor_51 : decode cX67_numberFor 51 = .ok (.iaload, 1) := by decide +kernel
theorem dX67_numberFor_52 : decode cX67_numberFor 52 = .ok (.ifCond .ge 5, 3) := by decide +kernel
theorem dX67_numberFor_55 : decode cX67_numberFor 55 = .ok (.iload_n 3, 1) := by decide +kernel
theorem dX67_numberFor_56 : decode cX67_numberFor 56 = .ok (.ireturn, 1) := by decide +kernel
theorem dX67_numberFor_57 : decode cX67_numberFor 57 = .ok (.iinc 3 1, 3) := by decide +kernel
theorem dX67_numberFor_60 : decode cX67_numberFor 60 = .ok (.goto (-25), 3) := by decide +kernel
theorem dX67_numberFor_63 : decode cX67_numberFor 63 = .ok (.iconst (-1), 1) := by decide +kernel
theorem dX67_numberFor_64 : decode cX67_numberFor 64 = .ok (.ireturn, 1) := by decide +kernel
theorem zy_X67_numberFor : yX67_numberFor.cls ≠ "java/lang/invoke/MethodHandle" ∧ yX67_numberFor.cls ≠ "java/lang/invoke/VarHandle" ∧ (parseMethodDescriptor yX67_numberFor.desc).map (fun d => d.parameters.length) = some 2 := by decide +kernel
theorem w_fX67_numberFor_B35 {K : zK} (E : zE K cX67_numberFor "RingHouseModel" (some .int) 0) (hN : zNl K = 4) (hT : zTr K = (some 0)) (x1 : Int) : ∀ r35 : Int → zX, (∀ s : Int, zR K 35 [(0, 69, 0), (1, 0, x1), (3, 0, s)] [] (r35 s)) → ∀ s : Int, zR K 35 [(0, 69, 0), (1, 0, x1), (3, 0, s)] [] (fX67_numberFor_B35 x1 r35 s) := by
  intro r35 hr35 x3
  refine r_iload_n E dX67_numberFor_35 rfl 2 rfl ?_
  refine r_bipush E dX67_numberFor_36 (by decide) (zkI (by decide) (by decide)) ?_
  refine r_icmp_ge E 63 (by decide) dX67_numberFor_38 (fun _ => ?_) (fun _ => ?_)
  · refine r_iconst E dX67_numberFor_63 (zkI (by decide) (by decide)) ?_
    exact r_ireturn E rfl hT dX67_numberFor_64
  · refine r_aload_n E dX67_numberFor_41 rfl 0 rfl ?_
    refine r_gec (y := 0) E zc_69 dX67_numberFor_42 q3253 zr_69 (zh_6838 (by decide)) (by decide) ?_
    refine r_bipush E dX67_numberFor_45 (by decide) (zkI (by decide) (by decide)) ?_
    refine r_iload_n E dX67_numberFor_47 rfl 1 rfl ?_
    refine r_imul E dX67_numberFor_48 ?_
    refine r_iload_n E dX67_numberFor_49 rfl 2 rfl ?_
    refine r_iadd E dX67_numberFor_50 ?_
    refine r_iaload E zc_6838 za_6838 zt_6838 zx_6838 rfl rfl dX67_numberFor_51 (by decide) (fun v1 => ?_)
    refine r_if_ge E 57 (by decide) dX67_numberFor_52 (fun _ => ?_) (fun _ => ?_)
    · refine r_iinc (ls' := fun v2 => [(3, 0, v2), (0, 69, 0), (1, 0, x1)]) E 2 rfl (by rw [hN]; decide) (fun _ => rfl) dX67_numberFor_57 (fun v2 _ => ?_)
      refine r_goto E 35 (by decide) dX67_numberFor_60 ?_
      refine r_pick E [1, 2, 0] rfl ?_
      exact hr35 v2
    · refine r_iload_n E dX67_numberFor_55 rfl 2 rfl ?_
      exact r_ireturn E rfl hT dX67_numberFor_56
theorem w_fX67_numberFor_J32 {K : zK} (E : zE K cX67_numberFor "RingHouseModel" (some .int) 0) (hN : zNl K = 4) (hT : zTr K = (some 0)) (x1 : Int) : zR K 32 [(0, 69, 0), (1, 0, x1)] [] (fX67_numberFor_J32 x1) := by
  refine r_bipush E dX67_numberFor_32 (by decide) (zkI (by decide) (by decide)) ?_
  refine r_istore_n (ls' := [(3, 0, 8), (0, 69, 0), (1, 0, x1)]) E dX67_numberFor_34 rfl (by rw [hN]; decide) rfl ?_
  refine r_pick E [1, 2, 0] rfl ?_
  exact r_loop (L := fun s => [(0, 69, 0), (1, 0, x1), (3, 0, s)]) (w_fX67_numberFor_B35 E hN hT x1) zBIG 8
theorem w_fX67_numberFor_B3 {K : zK} (E : zE K cX67_numberFor "RingHouseModel" (some .int) 0) (hN : zNl K = 4) (hT : zTr K = (some 0)) (x1 : Int) (x2 : Int) : ∀ r3 : Int → zX, (∀ s : Int, zR K 3 [(0, 69, 0), (1, 0, x1), (2, 0, x2), (3, 0, s)] [] (r3 s)) → ∀ s : Int, zR K 3 [(0, 69, 0), (1, 0, x1), (2, 0, x2), (3, 0, s)] [] (fX67_numberFor_B3 x1 x2 r3 s) := by
  intro r3 hr3 x3
  refine r_iload_n E dX67_numberFor_3 rfl 3 rfl ?_
  refine r_bipush E dX67_numberFor_4 (by decide) (zkI (by decide) (by decide)) ?_
  refine r_icmp_ge E 32 (by decide) dX67_numberFor_6 (fun _ => ?_) (fun _ => ?_)
  · refine r_pick E [0, 1] rfl ?_
    exact w_fX67_numberFor_J32 E hN hT x1
  · refine r_aload_n E dX67_numberFor_9 rfl 0 rfl ?_
    refine r_gec (y := 0) E zc_69 dX67_numberFor_10 q3253 zr_69 (zh_6838 (by decide)) (by decide) ?_
    refine r_bipush E dX67_numberFor_13 (by decide) (zkI (by decide) (by decide)) ?_
    refine r_iload_n E dX67_numberFor_15 rfl 1 rfl ?_
    refine r_imul E dX67_numberFor_16 ?_
    refine r_iload_n E dX67_numberFor_17 rfl 3 rfl ?_
    refine r_iadd E dX67_numberFor_18 ?_
    refine r_iaload E zc_6838 za_6838 zt_6838 zx_6838 rfl rfl dX67_numberFor_19 (by decide) (fun v3 => ?_)
    refine r_iload_n E dX67_numberFor_20 rfl 2 rfl ?_
    refine r_icmp_ne E 26 (by decide) dX67_numberFor_21 (fun _ => ?_) (fun _ => ?_)
    · refine r_iinc (ls' := fun v4 => [(3, 0, v4), (0, 69, 0), (1, 0, x1), (2, 0, x2)]) E 3 rfl (by rw [hN]; decide) (fun _ => rfl) dX67_numberFor_26 (fun v4 _ => ?_)
      refine r_goto E 3 (by decide) dX67_numberFor_29 ?_
      refine r_pick E [1, 2, 3, 0] rfl ?_
      exact hr3 v4
    · refine r_iload_n E dX67_numberFor_24 rfl 3 rfl ?_
      exact r_ireturn E rfl hT dX67_numberFor_25
theorem w_fX67_numberFor {K : zK} (E : zE K cX67_numberFor "RingHouseModel" (some .int) 0) (hN : zNl K = 4) (hT : zTr K = (some 0)) (x1 : Int) (x2 : Int) : zR K 0 [(0, 69, 0), (1, 0, x1), (2, 0, x2)] [] (fX67_numberFor x1 x2) := by
  refine r_bipush E dX67_numberFor_0 (by decide) (zkI (by decide) (by decide)) ?_
  refine r_istore_n (ls' := [(3, 0, 8), (0, 69, 0), (1, 0, x1), (2, 0, x2)]) E dX67_numberFor_2 rfl (by rw [hN]; decide) rfl ?_
  refine r_pick E [1, 2, 3, 0] rfl ?_
  exact r_loop (L := fun s => [(0, 69, 0), (1, 0, x1), (2, 0, x2), (3, 0, s)]) (w_fX67_numberFor_B3 E hN hT x1 x2) zBIG 8
theorem k_fX67_numberFor (l : Launch) (G : zG) (x1 : Int) (x2 : Int) : zCt l G yX67_numberFor cX67_numberFor 4 (some .int) 0 [(69, 0), (0, x1), (0, x2)] (some 0) (fX67_numberFor x1 x2) := zCt.of (by decide) (Nat.le_of_ble_eq_true rfl) (fun K E _ _ hN hT => w_fX67_numberFor E hN hT x1 x2)
theorem dX67_look_0 : decode cX67_look 0 = .ok (.iload_n 2, 1) := by decide +kernel
theorem dX67_look_1 : decode cX67_look 1 = .ok (.bipush 7, 2) := by decide +kernel
theorem dX67_look_3 : decode cX67_look 3 = .ok (.if_icmp .ne 88, 3) := by decide +kernel
theorem dX67_look_6 : decode cX67_look 6 = .ok (.aload_n 0, 1) := by decide +kernel
theorem dX67_look_7 : decode cX67_look 7 = .ok (.getfield 89, 3) := by decide +kernel
theorem dX67_look_10 : decode cX67_look 10 = .ok (.iload_n 1, 1) := by decide +kernel
theorem dX67_look_11 : decode cX67_look 11 = .ok (.aload_n 0, 1) := by decide +kernel
theorem dX67_look_12 : decode cX67_look 12 = .ok (.getfield 7, 3) := by decide +kernel
theorem dX67_look_15 : decode cX67_look 15 = .ok (.iload_n 3, 1) := by decide +kernel
theorem dX67_look_16 : decode cX67_look 16 = .ok (.iaload, 1) := by decide +kernel
theorem dX67_look_17 : decode cX67_look 17 = .ok (.i2l, 1) := by decide +kernel
theorem dX67_look_18 : decode cX67_look 18 = .ok (.ldc2_w 719, 3) := by decide +kernel
theorem dX67_look_21 : decode cX67_look 21 = .ok (.aload_n 0, 1) := by decide +kernel
theorem dX67_look_22 : decode cX67_look 22 = .ok (.getfield 20, 3) := by decide +kernel
theorem dX67_look_25 : decode cX67_look 25 = .ok (.iload_n 3, 1) := by decide +kernel
theorem dX67_look_26 : decode cX67_look 26 = .ok (.iaload, 1) := by decide +kernel
theorem dX67_look_27 : decode cX67_look 27 = .ok (.i2l, 1) := by decide +kernel
theorem dX67_look_28 : decode cX67_look 28 = .ok (.lmul, 1) := by decide +kernel
theorem dX67_look_29 : decode cX67_look 29 = .ok (.ladd, 1) := by decide +kernel
theorem dX67_look_30 : decode cX67_look 30 = .ok (.ldc2_w 721, 3) := by decide +kernel
theorem dX67_look_33 : decode cX67_look 33 = .ok (.aload_n 0, 1) := by decide +kernel
theorem dX67_look_34 : decode cX67_look 34 = .ok (.getfield 23, 3) := by decide +kernel
theorem dX67_look_37 : decode cX67_look 37 = .ok (.iconst 3, 1) := by decide +kernel
theorem dX67_look_38 : decode cX67_look 38 = .ok (.iload_n 3, 1) := by decide +kernel
theorem dX67_look_39 : decode cX67_look 39 = .ok (.imul, 1) := by decide +kernel
theorem dX67_look_40 : decode cX67_look 40 = .ok (.iaload, 1) := by decide +kernel
theorem dX67_look_41 : decode cX67_look 41 = .ok (.i2l, 1) := by decide +kernel
theorem dX67_look_42 : decode cX67_look 42 = .ok (.lmul, 1) := by decide +kernel
theorem dX67_look_43 : decode cX67_look 43 = .ok (.ladd, 1) := by decide +kernel
theorem dX67_look_44 : decode cX67_look 44 = .ok (.ldc2_w 464, 3) := by decide +kernel
theorem dX67_look_47 : decode cX67_look 47 = .ok (.aload_n 0, 1) := by decide +kernel
theorem dX67_look_48 : decode cX67_look 48 = .ok (.getfield 23, 3) := by decide +kernel
theorem dX67_look_51 : decode cX67_look 51 = .ok (.iconst 3, 1) := by decide +kernel
theorem dX67_look_52 : decode cX67_look 52 = .ok (.iload_n 3, 1) := by decide +kernel
theorem dX67_look_53 : decode cX67_look 53 = .ok (.imul, 1) := by decide +kernel
theorem dX67_look_54 : decode cX67_look 54 = .ok (.iconst 1, 1) := by decide +kernel
theorem dX67_look_55 : decode cX67_look 55 = .ok (.iadd, 1) := by decide +kernel
theorem dX67_look_56 : decode cX67_look 56 = .ok (.iaload, 1) := by decide +kernel
theorem dX67_look_57 : decode cX67_look 57 = .ok (.i2l, 1) := by decide +kernel
theorem dX67_look_58 : decode cX67_look 58 = .ok (.lmul, 1) := by decide +kernel
theorem dX67_look_59 : decode cX67_look 59 = .ok (.ladd, 1) := by decide +kernel
theorem dX67_look_60 : decode cX67_look 60 = .ok (.ldc2_w 723, 3) := by decide +kernel
theorem dX67_look_63 : decode cX67_look 63 = .ok (.aload_n 0, 1) := by decide +kernel
theorem dX67_look_64 : decode cX67_look 64 = .ok (.getfield 23, 3) := by decide +kernel
theorem dX67_look_67 : decode cX67_look 67 = .ok (.iconst 3, 1) := by decide +kernel
theorem dX67_look_68 : decode cX67_look 68 = .ok (.iload_n 3, 1) := by decide +kernel
theorem dX67_look_69 : decode cX67_look 69 = .ok (.imul, 1) := by decide +kernel
theorem dX67_look_70 : decode cX67_look 70 = .ok (.iconst 2, 1) := by decide +kernel
theorem dX67_look_71 : decode cX67_look 71 = .ok (.iadd, 1) := by decide +kernel
theorem dX67_look_72 : decode cX67_look 72 = .ok (.iaload, 1) := by decide +kernel
theorem dX67_look_73 : decode cX67_look 73 = .ok (.i2l, 1) := by decide +kernel
theorem dX67_look_74 : decode cX67_look 74 = .ok (.lmul, 1) := by decide +kernel
theorem dX67_look_75 : decode cX67_look 75 = .ok (.ladd, 1) := by decide +kernel
theorem dX67_look_76 : decode cX67_look 76 = .ok (.ldc2_w 725, 3) := by decide +kernel
theorem dX67_look_79 : decode cX67_look 79 = .ok (.aload_n 0, 1) := by decide +kernel
theorem dX67_look_80 : decode cX67_look 80 = .ok (.getfield 29, 3) := by decide +kernel
theorem dX67_look_83 : decode cX67_look 83 = .ok (.iload_n 3, 1) := by decide +kernel
theorem dX67_look_84 : decode cX67_look 84 = .ok (.iaload, 1) := by decide +kernel
theorem dX67_look_85 : decode cX67_look 85 = .ok (.i2l, 1) := by decide +kernel
theorem dX67_look_86 : decode cX67_look 86 = .ok (.lmul, 1) := by decide +kernel
theorem dX67_look_87 : decode cX67_look 87 = .ok (.ladd, 1) := by decide +kernel
theorem dX67_look_88 : decode cX67_look 88 = .ok (.lastore, 1) := by decide +kernel
theorem dX67_look_89 : decode cX67_look 89 = .ok (.iconst 0, 1) := by decide +kernel
theorem dX67_look_90 : decode cX67_look 90 = .ok (.ireturn, 1) := by decide +kernel
theorem dX67_look_91 : decode cX67_look 91 = .ok (.aload_n 0, 1) := by decide +kernel
theorem dX67_look_92 : decode cX67_look 92 = .ok (.getfield 7, 3) := by decide +kernel
theorem dX67_look_95 : decode cX67_look 95 = .ok (.iload_n 3, 1) := by decide +kernel
theorem dX67_look_96 : decode cX67_look 96 = .ok (.iaload, 1) := by decide +kernel
theorem dX67_look_97 : decode cX67_look 97 = .ok (.iload_n 2, 1) := by decide +kernel
theorem dX67_look_98 : decode cX67_look 98 = .ok (.iconst 1, 1) := by decide +kernel
theorem dX67_look_99 : decode cX67_look 99 = .ok (.if_icmp .ne 7, 3) := by decide +kernel
theorem dX67_look_102 : decode cX67_look 102 = .ok (.iconst 1, 1) := by decide +kernel
theorem dX67_look_103 : decode cX67_look 103 = .ok (.goto 4, 3) := by decide +kernel
theorem dX67_look_106 : decode cX67_look 106 = .ok (.iconst 2, 1) := by decide +kernel
theorem dX67_look_107 : decode cX67_look 107 = .ok (.if_icmp .eq 6, 3) := by decide +kernel
theorem dX67_look_110 : decode cX67_look 110 = .ok (.bipush (-7), 2) := by decide +kernel
theorem dX67_look_112 : decode cX67_look 112 = .ok (.ireturn, 1) := by decide +kernel
theorem dX67_look_113 : decode cX67_look 113 = .ok (.iload_n 2, 1) := by decide +kernel
theorem dX67_look_114 : decode cX67_look 114 = .ok (.iconst 1, 1) := by decide +kernel
theorem dX67_look_115 : decode cX67_look 115 = .ok (.if_icmp .ne 33, 3) := by decide +kernel
theorem dX67_look_118 : decode cX67_look 118 = .ok (.aload_n 0, 1) := by decide +kernel
theorem dX67_look_119 : decode cX67_look 119 = .ok (.getfield 83, 3) := by decide +kernel
theorem dX67_look_122 : decode cX67_look 122 = .ok (.iload_n 1, 1) := by decide +kernel
theorem dX67_look_123 : decode cX67_look 123 = .ok (.iaload, 1) := by decide +kernel
theorem dX67_look_124 : decode cX67_look 124 = .ok (.aload_n 0, 1) := by decide +kernel
theorem dX67_look_125 : decode cX67_look 125 = .ok (.getfield 20, 3) := by decide +kernel
theorem dX67_look_128 : decode cX67_look 128 = .ok (.iload_n 3, 1) := by decide +kernel
theorem dX67_look_129 : decode cX67_look 129 = .ok (.iaload, 1) := by decide +kernel
theorem dX67_look_130 : decode cX67_look 130 = .ok (.invokestatic 447, 3) := by decide +kernel
theorem dX67_look_133 : decode cX67_look 133 = .ok (.ifCond .ne 6, 3) := by decide +kernel
theorem dX67_look_136 : decode cX67_look 136 = .ok (.bipush (-3), 2) := by decide +kernel
theorem dX67_look_138 : decode cX67_look 138 = .ok (.ireturn, 1) := by decide +kernel
theorem dX67_look_139 : decode cX67_look 139 = .ok (.aload_n 0, 1) := by decide +kernel
theorem dX67_look_140 : decode cX67_look 140 = .ok (.getfield 131, 3) := by decide +kernel
theorem dX67_look_143 : decode cX67_look 143 = .ok (.iload_n 1, 1) := by decide +kernel
theorem dX67_look_144 : decode cX67_look 144 = .ok (.iload_n 3, 1) := by decide +kernel
theorem dX67_look_145 : decode cX67_look 145 = .ok (.iastore, 1) := by decide +kernel
theorem dX67_look_146 : decode cX67_look 146 = .ok (.iconst 0, 1) := by decide +kernel
theorem dX67_look_147 : decode cX67_look 147 = .ok (.ireturn, 1) := by decide +kernel
theorem dX67_look_148 : decode cX67_look 148 = .ok (.aload_n 0, 1) := by decide +kernel
theorem dX67_look_149 : decode cX67_look 149 = .ok (.iload_n 3, 1) := by decide +kernel
theorem dX67_look_150 : decode cX67_look 150 = .ok (.aload_n 0, 1) := by decide +kernel
theorem dX67_look_151 : decode cX67_look 151 = .ok (.getfield 77, 3) := by decide +kernel
theorem dX67_look_154 : decode cX67_look 154 = .ok (.iload_n 1, 1) := by decide +kernel
theorem dX67_look_155 : decode cX67_look 155 = .ok (.iaload, 1) := by decide +kernel
theorem dX67_look_156 : decode cX67_look 156 = .ok (.aload_n 0, 1) := by decide +kernel
theorem dX67_look_157 : decode cX67_look 157 = .ok (.getfield 80, 3) := by decide +kernel
theorem dX67_look_160 : decode cX67_look 160 = .ok (.iload_n 1, 1) := by decide +kernel
theorem dX67_look_161 : decode cX67_look 161 = .ok (.iaload, 1) := by decide +kernel
theorem dX67_look_162 : decode cX67_look 162 = .ok (.invokevirtual 498, 3) := by decide +kernel
theorem dX67_look_165 : decode cX67_look 165 = .ok (.ifCond .ne 6, 3) := by decide +kernel
theorem dX67_look_168 : decode cX67_look 168 = .ok (.bipush (-2), 2) := by decide +kernel
theorem dX67_look_170 : decode cX67_look 170 = .ok (.ireturn, 1) := by decide +kernel
theorem dX67_look_171 : decode cX67_look 171 = .ok (.aload_n 0, 1) := by decide +kernel
theorem dX67_look_172 : decode cX67_look 172 = .ok (.iload_n 1, 1) := by decide +kernel
theorem dX67_look_173 : decode cX67_look 173 = .ok (.iload_n 3, 1) := by decide +kernel
theorem dX67_look_174 : decode cX67_look 174 = .ok (.invokevirtual 680, 3) := by decide +kernel
theorem dX67_look_177 : decode cX67_look 177 = .ok (.istore 4, 2) := by decide +kernel
theorem dX67_look_179 : decode cX67_look 179 = .ok (.iload 4, 2) := by decide +kernel
theorem dX67_look_181 : decode cX67_look 181 = .ok (.ifCond .ge 6, 3) := by decide +kernel
theorem dX67_look_184 : decode cX67_look 184 = .ok (.bipush (-5), 2) := by decide +kernel
theorem dX67_look_186 : decode cX67_look 186 = .ok (.ireturn, 1) := by decide +kernel
theorem dX67_look_187 : decode cX67_look 187 = .ok (.aload_n 0, 1) := by decide +kernel
theorem dX67_look_188 : decode cX67_look 188 = .ok (.getfield 125, 3) := by decide +kernel
theorem dX67_look_191 : decode cX67_look 191 = .ok (.bipush 32, 2) := by decide +kernel
theorem dX67_look_193 : decode cX67_look 193 = .ok (.iload_n 1, 1) := by decide +kernel
theorem dX67_look_194 : decode cX67_look 194 = .ok (.imul, 1) := by decide +kernel
theorem dX67_look_195 : decode cX67_look 195 = .ok (.iload 4, 2) := by decide +kernel
theorem dX67_look_197 : decode cX67_look 197 = .ok (.iadd, 1) := by decide +kernel
theorem dX67_look_198 : decode cX67_look 198 = .ok (.iload_n 3, 1) := by decide +kernel
theorem dX67_look_199 : decode cX67_look 199 = .ok (.iastore, 1) := by decide +kernel
theorem dX67_look_200 : decode cX67_look 200 = .ok (.aload_n 0, 1) := by decide +kernel
theorem dX67_look_201 : decode cX67_look 201 = .ok (.getfield 89, 3) := by decide +kernel
theorem dX67_look_204 : decode cX67_look 204 = .ok (.iload_n 1, 1) := by decide +kernel
theorem dX67_look_205 : decode cX67_look 205 = .ok (.iload 4, 2) := by decide +kernel
theorem dX67_look_207 : decode cX67_look 207 = .ok (.i2l, 1) := by decide +kernel
theorem dX67_look_208 : decode cX67_look 208 = .ok (.lastore, 1) := by decide +kernel
theorem dX67_look_209 : decode cX67_look 209 = .ok (.iconst 0, 1) := by decide +kernel
theorem dX67_look_210 : decode cX67_look 210 = .ok (.ireturn, 1) := by decide +kernel
theorem zy_X67_look : yX67_look.cls ≠ "java/lang/invoke/MethodHandle" ∧ yX67_look.cls ≠ "java/lang/invoke/VarHandle" ∧ (parseMethodDescriptor yX67_look.desc).map (fun d => d.parameters.length) = some 3 := by decide +kernel
theorem w_fX67_look_J107 {K : zK} (E : zE K cX67_look "RingHouseModel" (some .int) 1) (hN : zNl K = 5) (hT : zTr K = (some 0)) (x1 : Int) (x2 : Int) (x3 : Int) (s0 : Int) (s1 : Int) : zR K 107 [(0, 69, 0), (1, 0, x1), (2, 0, x2), (3, 0, x3)] [(0, s1), (0, s0)] (fX67_look_J107 x1 x2 x3 s0 s1) := by
  refine r_icmp_eq E 113 (by decide) dX67_look_107 (fun _ => ?_) (fun _ => ?_)
  · refine r_iload_n E dX67_look_113 rfl 2 rfl ?_
    refine r_iconst E dX67_look_114 (zkI (by decide) (by decide)) ?_
    refine r_icmp_ne E 148 (by decide) dX67_look_115 (fun _ => ?_) (fun _ => ?_)
    · refine r_aload_n E dX67_look_148 rfl 0 rfl ?_
      refine r_iload_n E dX67_look_149 rfl 3 rfl ?_
      refine r_aload_n E dX67_look_150 rfl 0 rfl ?_
      refine r_gec (y := 0) E zc_69 dX67_look_151 q3237 zr_69 (zh_6822 (by decide)) (by decide) ?_
      refine r_iload_n E dX67_look_154 rfl 1 rfl ?_
      refine r_iaload E zc_6822 za_6822 zt_6822 zx_6822 rfl rfl dX67_look_155 (by decide) (fun v2 => ?_)
      refine r_aload_n E dX67_look_156 rfl 0 rfl ?_
      refine r_gec (y := 0) E zc_69 dX67_look_157 q3238 zr_69 (zh_6823 (by decide)) (by decide) ?_
      refine r_iload_n E dX67_look_160 rfl 1 rfl ?_
      refine r_iaload E zc_6823 za_6823 zt_6823 zx_6823 rfl rfl dX67_look_161 (by decide) (fun v3 => ?_)
      refine r_callV E [(0, x3), (0, v2), (0, v3)] [] rfl zc_69 zr_69 (fun o _ => ⟨_, zw_X67.1 o, rfl⟩) (lw_V q3778 q3780 qs114 q294 q3781) dX67_look_162 zy_X67_modesFor rfl (by omega) (by decide) (Nat.le_of_ble_eq_true rfl) (by decide) (fun l G => k_fX67_modesFor l G x3 v2 v3) (fun v4 => ?_)
      refine r_if_ne E 171 (by decide) dX67_look_165 (fun _ => ?_) (fun _ => ?_)
      · refine r_aload_n E dX67_look_171 rfl 0 rfl ?_
        refine r_iload_n E dX67_look_172 rfl 1 rfl ?_
        refine r_iload_n E dX67_look_173 rfl 3 rfl ?_
        refine r_callV E [(0, x1), (0, x3)] [] rfl zc_69 zr_69 (fun o _ => ⟨_, zw_X67.1 o, rfl⟩) (lw_V q3896 q3898 qs133 q294 q3899) dX67_look_174 zy_X67_numberFor rfl (by omega) (by decide) (Nat.le_of_ble_eq_true rfl) (by decide) (fun l G => k_fX67_numberFor l G x1 x3) (fun v5 => ?_)
        refine r_istore (ls' := [(4, 0, v5), (0, 69, 0), (1, 0, x1), (2, 0, x2), (3, 0, x3)]) E dX67_look_177 (by rw [hN]; decide) rfl ?_
        refine r_iload E dX67_look_179 0 rfl ?_
        refine r_if_ge E 187 (by decide) dX67_look_181 (fun _ => ?_) (fun _ => ?_)
        · refine r_aload_n E dX67_look_187 rfl 1 rfl ?_
          refine r_gec (y := 0) E zc_69 dX67_look_188 q3253 zr_69 (zh_6838 (by decide)) (by decide) ?_
          refine r_bipush E dX67_look_191 (by decide) (zkI (by decide) (by decide)) ?_
          refine r_iload_n E dX67_look_193 rfl 2 rfl ?_
          refine r_imul E dX67_look_194 ?_
          refine r_iload E dX67_look_195 0 rfl ?_
          refine r_iadd E dX67_look_197 ?_
          refine r_iload_n E dX67_look_198 rfl 4 rfl ?_
          refine r_iastore E zc_6838 za_6838 zt_6838 zo_6838 zx_6838 rfl rfl dX67_look_199 (by decide) ?_
          refine r_aload_n E dX67_look_200 rfl 1 rfl ?_
          refine r_gec (y := 0) E zc_69 dX67_look_201 q3241 zr_69 (zh_6826 (by decide)) (by decide) ?_
          refine r_iload_n E dX67_look_204 rfl 2 rfl ?_
          refine r_iload E dX67_look_205 0 rfl ?_
          refine r_i2l E dX67_look_207 ?_
          refine r_lastore E zc_6826 za_6826 zt_6826 zo_6826 zx_6826 rfl rfl dX67_look_208 (by decide) ?_
          refine r_iconst E dX67_look_209 (zkI (by decide) (by decide)) ?_
          exact r_ireturn E rfl hT dX67_look_210
        · refine r_bipush E dX67_look_184 (by decide) (zkI (by decide) (by decide)) ?_
          exact r_ireturn E rfl hT dX67_look_186
      · refine r_bipush E dX67_look_168 (by decide) (zkI (by decide) (by decide)) ?_
        exact r_ireturn E rfl hT dX67_look_170
    · refine r_aload_n E dX67_look_118 rfl 0 rfl ?_
      refine r_gec (y := 0) E zc_69 dX67_look_119 q3239 zr_69 (zh_6824 (by decide)) (by decide) ?_
      refine r_iload_n E dX67_look_122 rfl 1 rfl ?_
      refine r_iaload E zc_6824 za_6824 zt_6824 zx_6824 rfl rfl dX67_look_123 (by decide) (fun v6 => ?_)
      refine r_aload_n E dX67_look_124 rfl 0 rfl ?_
      refine r_gec (y := 0) E zc_69 dX67_look_125 q3218 zr_69 (zh_6803 (by decide)) (by decide) ?_
      refine r_iload_n E dX67_look_128 rfl 3 rfl ?_
      refine r_iaload E zc_6803 za_6803 zt_6803 zx_6803 rfl rfl dX67_look_129 (by decide) (fun v7 => ?_)
      refine r_callS E [(0, v6), (0, v7)] [] rfl q3632 q3633 q294 q3634 dX67_look_130 zy_X67_dominates rfl (by omega) (by decide) (Nat.le_of_ble_eq_true rfl) (fun l G => k_fX67_dominates l G v6 v7) (fun v8 => ?_)
      refine r_if_ne E 139 (by decide) dX67_look_133 (fun _ => ?_) (fun _ => ?_)
      · refine r_aload_n E dX67_look_139 rfl 0 rfl ?_
        refine r_gec (y := 0) E zc_69 dX67_look_140 q3255 zr_69 (zh_6840 (by decide)) (by decide) ?_
        refine r_iload_n E dX67_look_143 rfl 1 rfl ?_
        refine r_iload_n E dX67_look_144 rfl 3 rfl ?_
        refine r_iastore E zc_6840 za_6840 zt_6840 zo_6840 zx_6840 rfl rfl dX67_look_145 (by decide) ?_
        refine r_iconst E dX67_look_146 (zkI (by decide) (by decide)) ?_
        exact r_ireturn E rfl hT dX67_look_147
      · refine r_bipush E dX67_look_136 (by decide) (zkI (by decide) (by decide)) ?_
        exact r_ireturn E rfl hT dX67_look_138
  · refine r_bipush E dX67_look_110 (by decide) (zkI (by decide) (by decide)) ?_
    exact r_ireturn E rfl hT dX67_look_112
theorem w_fX67_look {K : zK} (E : zE K cX67_look "RingHouseModel" (some .int) 1) (hN : zNl K = 5) (hT : zTr K = (some 0)) (x1 : Int) (x2 : Int) (x3 : Int) : zR K 0 [(0, 69, 0), (1, 0, x1), (2, 0, x2), (3, 0, x3)] [] (fX67_look x1 x2 x3) := by
  refine r_iload_n E dX67_look_0 rfl 2 rfl ?_
  refine r_bipush E dX67_look_1 (by decide) (zkI (by decide) (by decide)) ?_
  refine r_icmp_ne E 91 (by decide) dX67_look_3 (fun _ => ?_) (fun _ => ?_)
  · refine r_aload_n E dX67_look_91 rfl 0 rfl ?_
    refine r_gec (y := 0) E zc_69 dX67_look_92 q3215 zr_69 (zh_6800 (by decide)) (by decide) ?_
    refine r_iload_n E dX67_look_95 rfl 3 rfl ?_
    refine r_iaload E zc_6800 za_6800 zt_6800 zx_6800 rfl rfl dX67_look_96 (by decide) (fun v1 => ?_)
    refine r_iload_n E dX67_look_97 rfl 2 rfl ?_
    refine r_iconst E dX67_look_98 (zkI (by decide) (by decide)) ?_
    refine r_icmp_ne E 106 (by decide) dX67_look_99 (fun _ => ?_) (fun _ => ?_)
    · refine r_iconst E dX67_look_106 (zkI (by decide) (by decide)) ?_
      exact w_fX67_look_J107 E hN hT x1 x2 x3 v1 2
    · refine r_iconst E dX67_look_102 (zkI (by decide) (by decide)) ?_
      refine r_goto E 107 (by decide) dX67_look_103 ?_
      exact w_fX67_look_J107 E hN hT x1 x2 x3 v1 1
  · refine r_aload_n E dX67_look_6 rfl 0 rfl ?_
    refine r_gec (y := 0) E zc_69 dX67_look_7 q3241 zr_69 (zh_6826 (by decide)) (by decide) ?_
    refine r_iload_n E dX67_look_10 rfl 1 rfl ?_
    refine r_aload_n E dX67_look_11 rfl 0 rfl ?_
    refine r_gec (y := 0) E zc_69 dX67_look_12 q3215 zr_69 (zh_6800 (by decide)) (by decide) ?_
    refine r_iload_n E dX67_look_15 rfl 3 rfl ?_
    refine r_iaload E zc_6800 za_6800 zt_6800 zx_6800 rfl rfl dX67_look_16 (by decide) (fun v9 => ?_)
    refine r_i2l E dX67_look_17 ?_
    refine r_ldc2 (v := 4) E dX67_look_18 q3983 (by decide) (zkJ (by decide) (by decide)) ?_
    refine r_aload_n E dX67_look_21 rfl 0 rfl ?_
    refine r_gec (y := 0) E zc_69 dX67_look_22 q3218 zr_69 (zh_6803 (by decide)) (by decide) ?_
    refine r_iload_n E dX67_look_25 rfl 3 rfl ?_
    refine r_iaload E zc_6803 za_6803 zt_6803 zx_6803 rfl rfl dX67_look_26 (by decide) (fun v10 => ?_)
    refine r_i2l E dX67_look_27 ?_
    refine r_lmul E dX67_look_28 ?_
    refine r_ladd E dX67_look_29 ?_
    refine r_ldc2 (v := 128) E dX67_look_30 q3984 (by decide) (zkJ (by decide) (by decide)) ?_
    refine r_aload_n E dX67_look_33 rfl 0 rfl ?_
    refine r_gec (y := 0) E zc_69 dX67_look_34 q3219 zr_69 (zh_6804 (by decide)) (by decide) ?_
    refine r_iconst E dX67_look_37 (zkI (by decide) (by decide)) ?_
    refine r_iload_n E dX67_look_38 rfl 3 rfl ?_
    refine r_imul E dX67_look_39 ?_
    refine r_iaload E zc_6804 za_6804 zt_6804 zx_6804 rfl rfl dX67_look_40 (by decide) (fun v11 => ?_)
    refine r_i2l E dX67_look_41 ?_
    refine r_lmul E dX67_look_42 ?_
    refine r_ladd E dX67_look_43 ?_
    refine r_ldc2 (v := 1024) E dX67_look_44 q3678 (by decide) (zkJ (by decide) (by decide)) ?_
    refine r_aload_n E dX67_look_47 rfl 0 rfl ?_
    refine r_gec (y := 0) E zc_69 dX67_look_48 q3219 zr_69 (zh_6804 (by decide)) (by decide) ?_
    refine r_iconst E dX67_look_51 (zkI (by decide) (by decide)) ?_
    refine r_iload_n E dX67_look_52 rfl 3 rfl ?_
    refine r_imul E dX67_look_53 ?_
    refine r_iconst E dX67_look_54 (zkI (by decide) (by decide)) ?_
    refine r_iadd E dX67_look_55 ?_
    refine r_iaload E zc_6804 za_6804 zt_6804 zx_6804 rfl rfl dX67_look_56 (by decide) (fun v12 => ?_)
    refine r_i2l E dX67_look_57 ?_
    refine r_lmul E dX67_look_58 ?_
    refine r_ladd E dX67_look_59 ?_
    refine r_ldc2 (v := 8192) E dX67_look_60 q3985 (by decide) (zkJ (by decide) (by decide)) ?_
    refine r_aload_n E dX67_look_63 rfl 0 rfl ?_
    refine r_gec (y := 0) E zc_69 dX67_look_64 q3219 zr_69 (zh_6804 (by decide)) (by decide) ?_
    refine r_iconst E dX67_look_67 (zkI (by decide) (by decide)) ?_
    refine r_iload_n E dX67_look_68 rfl 3 rfl ?_
    refine r_imul E dX67_look_69 ?_
    refine r_iconst E dX67_look_70 (zkI (by decide) (by decide)) ?_
    refine r_iadd E dX67_look_71 ?_
    refine r_iaload E zc_6804 za_6804 zt_6804 zx_6804 rfl rfl dX67_look_72 (by decide) (fun v13 => ?_)
    refine r_i2l E dX67_look_73 ?_
    refine r_lmul E dX67_look_74 ?_
    refine r_ladd E dX67_look_75 ?_
    refine r_ldc2 (v := 65536) E dX67_look_76 q3986 (by decide) (zkJ (by decide) (by decide)) ?_
    refine r_aload_n E dX67_look_79 rfl 0 rfl ?_
    refine r_gec (y := 0) E zc_69 dX67_look_80 q3221 zr_69 (zh_6806 (by decide)) (by decide) ?_
    refine r_iload_n E dX67_look_83 rfl 3 rfl ?_
    refine r_iaload E zc_6806 za_6806 zt_6806 zx_6806 rfl rfl dX67_look_84 (by decide) (fun v14 => ?_)
    refine r_i2l E dX67_look_85 ?_
    refine r_lmul E dX67_look_86 ?_
    refine r_ladd E dX67_look_87 ?_
    refine r_lastore E zc_6826 za_6826 zt_6826 zo_6826 zx_6826 rfl rfl dX67_look_88 (by decide) ?_
    refine r_iconst E dX67_look_89 (zkI (by decide) (by decide)) ?_
    exact r_ireturn E rfl hT dX67_look_90
theorem k_fX67_look (l : Launch) (G : zG) (x1 : Int) (x2 : Int) (x3 : Int) : zCt l G yX67_look cX67_look 5 (some .int) 1 [(69, 0), (0, x1), (0, x2), (0, x3)] (some 0) (fX67_look x1 x2 x3) := zCt.of (by decide) (Nat.le_of_ble_eq_true rfl) (fun K E _ _ hN hT => w_fX67_look E hN hT x1 x2 x3)
theorem dX67_isUpgraded_0 : decode cX67_isUpgraded 0 = .ok (.iload_n 1, 1) := by decide +kernel
theorem dX67_isUpgraded_1 : decode cX67_isUpgraded 1 = .ok (.ifCond .le 37, 3) := by decide +kernel
theorem dX67_isUpgraded_4 : decode cX67_isUpgraded 4 = .ok (.aload_n 0, 1) := by decide +kernel
theorem dX67_isUpgraded_5 : decode cX67_isUpgraded 5 = .ok (.getfield 7, 3) := by decide +kernel
theorem dX67_isUpgraded_8 : decode cX67_isUpgraded 8 = .ok (.iload_n 1, 1) := by decide +kernel
theorem dX67_isUpgraded_9 : decode cX67_isUpgraded 9 = .ok (.iaload, 1) := by decide +kernel
theorem dX67_isUpgraded_10 : decode cX67_isUpgraded 10 = .ok (.iconst 1, 1) := by decide +kernel
theorem dX67_isUpgraded_11 : decode cX67_isUpgraded 11 = .ok (.if_icmp .ne 27, 3) := by decide +kernel
theorem dX67_isUpgraded_14 : decode cX67_isUpgraded 14 = .ok (.aload_n 0, 1) := by decide +kernel
theorem dX67_isUpgraded_15 : decode cX67_isUpgraded 15 = .ok (.getfield 20, 3) := by decide +kernel
theorem dX67_isUpgraded_18 : decode cX67_isUpgraded 18 = .ok (.iload_n 1, 1) := by decide +kernel
theorem dX67_isUpgraded_19 : decode cX67_isUpgraded 19 = .ok (.iaload, 1) := by decide +kernel
theorem dX67_isUpgraded_20 : decode cX67_isUpgraded 20 = .ok (.aload_n 0, 1) := by decide +kernel
theorem dX67_isUpgraded_21 : decode cX67_isUpgraded 21 = .ok (.getfield 20, 3) := by decide +kernel
theorem dX67_isUpgraded_24 : decode cX67_isUpgraded 24 = .ok (.aload_n 0, 1) := by decide +kernel
theorem dX67_isUpgraded_25 : decode cX67_isUpgraded 25 = .ok (.getfield 17, 3) := by decide +kernel
theorem dX67_isUpgraded_28 : decode cX67_isUpgraded 28 = .ok (.iload_n 1, 1) := by decide +kernel
theorem dX67_isUpgraded_29 : decode cX67_isUpgraded 29 = .ok (.iaload, 1) := by decide +kernel
theorem dX67_isUpgraded_30 : decode cX67_isUpgraded 30 = .ok (.iaload, 1) := by decide +kernel
theorem dX67_isUpgraded_31 : decode cX67_isUpgraded 31 = .ok (.if_icmp .eq 7, 3) := by decide +kernel
theorem dX67_isUpgraded_34 : decode cX67_isUpgraded 34 = .ok (.iconst 1, 1) := by decide +kernel
theorem dX67_isUpgraded_35 : decode cX67_isUpgraded 35 = .ok (.goto 4, 3) := by decide +kernel
theorem dX67_isUpgraded_38 : decode cX67_isUpgraded 38 = .ok (.iconst 0, 1) := by decide +kernel
theorem dX67_isUpgraded_39 : decode cX67_isUpgraded 39 = .ok (.ireturn, 1) := by decide +kernel
theorem zy_X67_isUpgraded : yX67_isUpgraded.cls ≠ "java/lang/invoke/MethodHandle" ∧ yX67_isUpgraded.cls ≠ "java/lang/invoke/VarHandle" ∧ (parseMethodDescriptor yX67_isUpgraded.desc).map (fun d => d.parameters.length) = some 1 := by decide +kernel
theorem w_fX67_isUpgraded {K : zK} (E : zE K cX67_isUpgraded "RingHouseModel" (some .boolean) 0) (hN : zNl K = 2) (hT : zTr K = (some 0)) (x1 : Int) : zR K 0 [(0, 69, 0), (1, 0, x1)] [] (fX67_isUpgraded x1) := by
  refine r_iload_n E dX67_isUpgraded_0 rfl 1 rfl ?_
  refine r_if_le E 38 (by decide) dX67_isUpgraded_1 (fun _ => ?_) (fun _ => ?_)
  · refine r_iconst E dX67_isUpgraded_38 (zkI (by decide) (by decide)) ?_
    exact r_zreturn E rfl hT (by decide) dX67_isUpgraded_39
  · refine r_aload_n E dX67_isUpgraded_4 rfl 0 rfl ?_
    refine r_gec (y := 0) E zc_69 dX67_isUpgraded_5 q3215 zr_69 (zh_6800 (by decide)) (by decide) ?_
    refine r_iload_n E dX67_isUpgraded_8 rfl 1 rfl ?_
    refine r_iaload E zc_6800 za_6800 zt_6800 zx_6800 rfl rfl dX67_isUpgraded_9 (by decide) (fun v1 => ?_)
    refine r_iconst E dX67_isUpgraded_10 (zkI (by decide) (by decide)) ?_
    refine r_icmp_ne E 38 (by decide) dX67_isUpgraded_11 (fun _ => ?_) (fun _ => ?_)
    · refine r_iconst E dX67_isUpgraded_38 (zkI (by decide) (by decide)) ?_
      exact r_zreturn E rfl hT (by decide) dX67_isUpgraded_39
    · refine r_aload_n E dX67_isUpgraded_14 rfl 0 rfl ?_
      refine r_gec (y := 0) E zc_69 dX67_isUpgraded_15 q3218 zr_69 (zh_6803 (by decide)) (by decide) ?_
      refine r_iload_n E dX67_isUpgraded_18 rfl 1 rfl ?_
      refine r_iaload E zc_6803 za_6803 zt_6803 zx_6803 rfl rfl dX67_isUpgraded_19 (by decide) (fun v2 => ?_)
      refine r_aload_n E dX67_isUpgraded_20 rfl 0 rfl ?_
      refine r_gec (y := 0) E zc_69 dX67_isUpgraded_21 q3218 zr_69 (zh_6803 (by decide)) (by decide) ?_
      refine r_aload_n E dX67_isUpgraded_24 rfl 0 rfl ?_
      refine r_gec (y := 0) E zc_69 dX67_isUpgraded_25 q3217 zr_69 (zh_6802 (by decide)) (by decide) ?_
      refine r_iload_n E dX67_isUpgraded_28 rfl 1 rfl ?_
      refine r_iaload E zc_6802 za_6802 zt_6802 zx_6802 rfl rfl dX67_isUpgraded_29 (by decide) (fun v3 => ?_)
      refine r_iaload E zc_6803 za_6803 zt_6803 zx_6803 rfl rfl dX67_isUpgraded_30 (by decide) (fun v4 => ?_)
      refine r_icmp_eq E 38 (by decide) dX67_isUpgraded_31 (fun _ => ?_) (fun _ => ?_)
      · refine r_iconst E dX67_isUpgraded_38 (zkI (by decide) (by decide)) ?_
        exact r_zreturn E rfl hT (by decide) dX67_isUpgraded_39
      · refine r_iconst E dX67_isUpgraded_34 (zkI (by decide) (by decide)) ?_
        refine r_goto E 39 (by decide) dX67_isUpgraded_35 ?_
        exact r_zreturn E rfl hT (by decide) dX67_isUpgraded_39
theorem k_fX67_isUpgraded (l : Launch) (G : zG) (x1 : Int) : zCt l G yX67_isUpgraded cX67_isUpgraded 2 (some .boolean) 0 [(69, 0), (0, x1)] (some 0) (fX67_isUpgraded x1) := zCt.of (by decide) (Nat.le_of_ble_eq_true rfl) (fun K E _ _ hN hT => w_fX67_isUpgraded E hN hT x1)
theorem dX67_isOutOfRing_0 : decode cX67_isOutOfRing 0 = .ok (.aload_n 0, 1) := by decide +kernel
theorem dX67_isOutOfRing_1 : decode cX67_isOutOfRing 1 = .ok (.getfield 110, 3) := by decide +kernel
theorem dX67_isOutOfRing_4 : decode cX67_isOutOfRing 4 = .ok (.iload_n 1, 1) := by decide +kernel
theorem dX67_isOutOfRing_5 : decode cX67_isOutOfRing 5 = .ok (.iaload, 1) := by decide +kernel
theorem dX67_isOutOfRing_6 : decode cX67_isOutOfRing 6 = .ok (.aload_n 0, 1) := by decide +kernel
theorem dX67_isOutOfRing_7 : decode cX67_isOutOfRing 7 = .ok (.getfield 23, 3) := by decide +kernel
theorem dX67_isOutOfRing_10 : decode cX67_isOutOfRing 10 = .ok (.iconst 3, 1) := by decide +kernel
theorem dX67_isOutOfRing_11 : decode cX67_isOutOfRing 11 = .ok (.iload_n 2, 1) := by decide +kernel
theorem dX67_isOutOfRing_12 : decode cX67_isOutOfRing 12 = .ok (.imul, 1) := by decide +kernel
theorem dX67_isOutOfRing_13 : decode cX67_isOutOfRing 13 = .ok (.iaload, 1) := by decide +kernel
theorem dX67_isOutOfRing_14 : decode cX67_isOutOfRing 14 = .ok (.if_icmp .le 7, 3) := by decide +kernel
theorem dX67_isOutOfRing_17 : decode cX67_isOutOfRing 17 = .ok (.iconst 1, 1) := by decide +kernel
theorem dX67_isOutOfRing_18 : decode cX67_isOutOfRing 18 = .ok (.goto 4, 3) := by decide +kernel
theorem dX67_isOutOfRing_21 : decode cX67_isOutOfRing 21 = .ok (.iconst 0, 1) := by decide +kernel
theorem dX67_isOutOfRing_22 : decode cX67_isOutOfRing 22 = .ok (.ireturn, 1) := by decide +kernel
theorem zy_X67_isOutOfRing : yX67_isOutOfRing.cls ≠ "java/lang/invoke/MethodHandle" ∧ yX67_isOutOfRing.cls ≠ "java/lang/invoke/VarHandle" ∧ (parseMethodDescriptor yX67_isOutOfRing.desc).map (fun d => d.parameters.length) = some 2 := by decide +kernel
theorem w_fX67_isOutOfRing {K : zK} (E : zE K cX67_isOutOfRing "RingHouseModel" (some .boolean) 0) (hN : zNl K = 3) (hT : zTr K = (some 0)) (x1 : Int) (x2 : Int) : zR K 0 [(0, 69, 0), (1, 0, x1), (2, 0, x2)] [] (fX67_isOutOfRing x1 x2) := by
  refine r_aload_n E dX67_isOutOfRing_0 rfl 0 rfl ?_
  refine r_gec (y := 0) E zc_69 dX67_isOutOfRing_1 q3248 zr_69 (zh_6833 (by decide)) (by decide) ?_
  refine r_iload_n E dX67_isOutOfRing_4 rfl 1 rfl ?_
  refine r_iaload E zc_6833 za_6833 zt_6833 zx_6833 rfl rfl dX67_isOutOfRing_5 (by decide) (fun v1 => ?_)
  refine r_aload_n E dX67_isOutOfRing_6 rfl 0 rfl ?_
  refine r_gec (y := 0) E zc_69 dX67_isOutOfRing_7 q3219 zr_69 (zh_6804 (by decide)) (by decide) ?_
  refine r_iconst E dX67_isOutOfRing_10 (zkI (by decide) (by decide)) ?_
  refine r_iload_n E dX67_isOutOfRing_11 rfl 2 rfl ?_
  refine r_imul E dX67_isOutOfRing_12 ?_
  refine r_iaload E zc_6804 za_6804 zt_6804 zx_6804 rfl rfl dX67_isOutOfRing_13 (by decide) (fun v2 => ?_)
  refine r_icmp_le E 21 (by decide) dX67_isOutOfRing_14 (fun _ => ?_) (fun _ => ?_)
  · refine r_iconst E dX67_isOutOfRing_21 (zkI (by decide) (by decide)) ?_
    exact r_zreturn E rfl hT (by decide) dX67_isOutOfRing_22
  · refine r_iconst E dX67_isOutOfRing_17 (zkI (by decide) (by decide)) ?_
    refine r_goto E 22 (by decide) dX67_isOutOfRing_18 ?_
    exact r_zreturn E rfl hT (by decide) dX67_isOutOfRing_22
theorem k_fX67_isOutOfRing (l : Launch) (G : zG) (x1 : Int) (x2 : Int) : zCt l G yX67_isOutOfRing cX67_isOutOfRing 3 (some .boolean) 0 [(69, 0), (0, x1), (0, x2)] (some 0) (fX67_isOutOfRing x1 x2) := zCt.of (by decide) (Nat.le_of_ble_eq_true rfl) (fun K E _ _ hN hT => w_fX67_isOutOfRing E hN hT x1 x2)
theorem dX67_newBrackets_0 : decode cX67_newBrackets 0 = .ok (.aload_n 0, 1) := by decide +kernel
theorem dX67_newBrackets_1 : decode cX67_newBrackets 1 = .ok (.getfield 89, 3) := by decide +kernel
theorem dX67_newBrackets_4 : decode cX67_newBrackets 4 = .ok (.iload_n 1, 1) := by decide +kernel
theorem dX67_newBrackets_5 : decode cX67_newBrackets 5 = .ok (.laload, 1) := by decide +kernel
theorem dX67_newBrackets_6 : decode cX67_newBrackets 6 = .ok (.ldc2_w 744, 3) := by decide +kernel
theorem dX67_newBrackets_9 : decode cX67_newBrackets 9 = .ok (.lcmp, 1) := by decide +kernel
theorem dX67_newBrackets_10 : decode cX67_newBrackets 10 = .ok (.ifCond .le 6, 3) := by decide +kernel
theorem dX67_newBrackets_13 : decode cX67_newBrackets 13 = .ok (.bipush (-8), 2) := by decide +kernel
theorem dX67_newBrackets_15 : decode cX67_newBrackets 15 = .ok (.ireturn, 1) := by decide +kernel
theorem dX67_newBrackets_16 : decode cX67_newBrackets 16 = .ok (.aload_n 0, 1) := by decide +kernel
theorem dX67_newBrackets_17 : decode cX67_newBrackets 17 = .ok (.getfield 89, 3) := by decide +kernel
theorem dX67_newBrackets_20 : decode cX67_newBrackets 20 = .ok (.iload_n 1, 1) := by decide +kernel
theorem dX67_newBrackets_21 : decode cX67_newBrackets 21 = .ok (.laload, 1) := by decide +kernel
theorem dX67_newBrackets_22 : decode cX67_newBrackets 22 = .ok (.l2i, 1) := by decide +kernel
theorem dX67_newBrackets_23 : decode cX67_newBrackets 23 = .ok (.istore_n 3, 1) := by decide +kernel
theorem dX67_newBrackets_24 : decode cX67_newBrackets 24 = .ok (.iload_n 3, 1) := by decide +kernel
theorem dX67_newBrackets_25 : decode cX67_newBrackets 25 = .ok (.bipush 8, 2) := by decide +kernel
theorem dX67_newBrackets_27 : decode cX67_newBrackets 27 = .ok (.irem, 1) := by decide +kernel
theorem dX67_newBrackets_28 : decode cX67_newBrackets 28 = .ok (.istore 4, 2) := by decide +kernel
theorem dX67_newBrackets_30 : decode cX67_newBrackets 30 = .ok (.aload_n 0, 1) := by decide +kernel
theorem dX67_newBrackets_31 : decode cX67_newBrackets 31 = .ok (.iload_n 2, 1) := by decide +kernel
theorem dX67_newBrackets_32 : decode cX67_newBrackets 32 = .ok (.iload 4, 2) := by decide +kernel
theorem dX67_newBrackets_34 : decode cX67_newBrackets 34 = .ok (.iload_n 3, 1) := by decide +kernel
theorem dX67_newBrackets_35 : decode cX67_newBrackets 35 = .ok (.bipush 8, 2) := by decide +kernel
theorem dX67_newBrackets_37 : decode cX67_newBrackets 37 = .ok (.idiv, 1) := by decide +kernel
theorem dX67_newBrackets_38 : decode cX67_newBrackets 38 = .ok (.bipush 8, 2) := by decide +kernel
theorem dX67_newBrackets_40 : decode cX67_newBrackets 40 = .ok (.irem, 1) := by decide +kernel
theorem dX67_newBrackets_41 : decode cX67_newBrackets 41 = .ok (.iload_n 3, 1) := by decide +kernel
theorem dX67_newBrackets_42 : decode cX67_newBrackets 42 = .ok (.bipush 64, 2) := by decide +kernel
theorem dX67_newBrackets_44 : decode cX67_newBrackets 44 = .ok (.idiv, 1) := by decide +kernel
theorem dX67_newBrackets_45 : decode cX67_newBrackets 45 = .ok (.bipush 8, 2) := by decide +kernel
theorem dX67_newBrackets_47 : decode cX67_newBrackets 47 = .ok (.irem, 1) := by decide +kernel
theorem dX67_newBrackets_48 : decode cX67_newBrackets 48 = .ok (.iload_n 3, 1) := by decide +kernel
theorem dX67_newBrackets_49 : decode cX67_newBrackets 49 = .ok (.sipush 512, 3) := by decide +kernel
theorem dX67_newBrackets_52 : decode cX67_newBrackets 52 = .ok (.idiv, 1) := by decide +kernel
theorem dX67_newBrackets_53 : decode cX67_newBrackets 53 = .ok (.invokevirtual 478, 3) := by decide +kernel
theorem dX67_newBrackets_56 : decode cX67_newBrackets 56 = .ok (.ifCond .ne 6, 3) := by decide +kernel
theorem dX67_newBrackets_59 : decode cX67_newBrackets 59 = .ok (.bipush (-8), 2) := by decide +kernel
theorem dX67_newBrackets_61 : decode cX67_newBrackets 61 = .ok (.ireturn, 1) := by decide +kernel
theorem dX67_newBrackets_62 : decode cX67_newBrackets 62 = .ok (.aload_n 0, 1) := by decide +kernel
theorem dX67_newBrackets_63 : decode cX67_newBrackets 63 = .ok (.iload_n 1, 1) := by decide +kernel
theorem dX67_newBrackets_64 : decode cX67_newBrackets 64 = .ok (.iload_n 2, 1) := by decide +kernel
theorem dX67_newBrackets_65 : decode cX67_newBrackets 65 = .ok (.invokevirtual 730, 3) := by decide +kernel
theorem dX67_newBrackets_68 : decode cX67_newBrackets 68 = .ok (.ifCond .ne 14, 3) := by decide +kernel
theorem dX67_newBrackets_71 : decode cX67_newBrackets 71 = .ok (.aload_n 0, 1) := by decide +kernel
theorem dX67_newBrackets_72 : decode cX67_newBrackets 72 = .ok (.getfield 110, 3) := by decide +kernel
theorem dX67_newBrackets_75 : decode cX67_newBrackets 75 = .ok (.iload_n 1, 1) := by decide +kernel
theorem dX67_newBrackets_76 : decode cX67_newBrackets 76 = .ok (.iaload, 1) := by decide +kernel
theorem dX67_newBrackets_77 : decode cX67_newBrackets 77 = .ok (.iload 4, 2) := by decide +kernel
theorem dX67_newBrackets_79 : decode cX67_newBrackets 79 = .ok (.if_icmp .le 8, 3) := by decide +kernel
theorem dX67_newBrackets_82 : decode cX67_newBrackets 82 = .ok (.bipush (-4), 2) := by decide +kernel
theorem dX67_newBrackets_84 : decode cX67_newBrackets 84 = .ok (.goto 29, 3) := by decide +kernel
theorem dX67_newBrackets_87 : decode cX67_newBrackets 87 = .ok (.aload_n 0, 1) := by decide +kernel
theorem dX67_newBrackets_88 : decode cX67_newBrackets 88 = .ok (.iload_n 2, 1) := by decide +kernel
theorem dX67_newBrackets_89 : decode cX67_newBrackets 89 = .ok (.iload 4, 2) := by decide +kernel
theorem dX67_newBrackets_91 : decode cX67_newBrackets 91 = .ok (.iload_n 3, 1) := by decide +kernel
theorem dX67_newBrackets_92 : decode cX67_newBrackets 92 = .ok (.bipush 8, 2) := by decide +kernel
theorem dX67_newBrackets_94 : decode cX67_newBrackets 94 = .ok (.idiv, 1) := by decide +kernel
theorem dX67_newBrackets_95 : decode cX67_newBrackets 95 = .ok (.bipush 8, 2) := by decide +kernel
theorem dX67_newBrackets_97 : decode cX67_newBrackets 97 = .ok (.irem, 1) := by decide +kernel
theorem dX67_newBrackets_98 : decode cX67_newBrackets 98 = .ok (.iload_n 3, 1) := by decide +kernel
theorem dX67_newBrackets_99 : decode cX67_newBrackets 99 = .ok (.bipush 64, 2) := by decide +kernel
theorem dX67_newBrackets_101 : decode cX67_newBrackets 101 = .ok (.idiv, 1) := by decide +kernel
theorem dX67_newBrackets_102 : decode cX67_newBrackets 102 = .ok (.bipush 8, 2) := by decide +kernel
theorem dX67_newBrackets_104 : decode cX67_newBrackets 104 = .ok (.irem, 1) := by decide +kernel
theorem dX67_newBrackets_105 : decode cX67_newBrackets 105 = .ok (.iload_n 3, 1) := by decide +kernel
theorem dX67_newBrackets_106 : decode cX67_newBrackets 106 = .ok (.sipush 512, 3) := by decide +kernel
theorem dX67_newBrackets_109 : decode cX67_newBrackets 109 = .ok (.idiv, 1) := by decide +kernel
theorem dX67_newBrackets_110 : decode cX67_newBrackets 110 = .ok (.invokevirtual 746, 3) := by decide +kernel
theorem dX67_newBrackets_113 : decode cX67_newBrackets 113 = .ok (.ireturn, 1) := by decide +kernel
theorem zy_X67_newBrackets : yX67_newBrackets.cls ≠ "java/lang/invoke/MethodHandle" ∧ yX67_newBrackets.cls ≠ "java/lang/invoke/VarHandle" ∧ (parseMethodDescriptor yX67_newBrackets.desc).map (fun d => d.parameters.length) = some 2 := by decide +kernel
theorem w_fX67_newBrackets {K : zK} (E : zE K cX67_newBrackets "RingHouseModel" (some .int) 3) (hN : zNl K = 5) (hT : zTr K = (some 0)) (x1 : Int) (x2 : Int) : zR K 0 [(0, 69, 0), (1, 0, x1), (2, 0, x2)] [] (fX67_newBrackets x1 x2) := by
  refine r_aload_n E dX67_newBrackets_0 rfl 0 rfl ?_
  refine r_gec (y := 0) E zc_69 dX67_newBrackets_1 q3241 zr_69 (zh_6826 (by decide)) (by decide) ?_
  refine r_iload_n E dX67_newBrackets_4 rfl 1 rfl ?_
  refine r_laload E zc_6826 za_6826 zt_6826 zx_6826 rfl rfl dX67_newBrackets_5 (by decide) (fun v1 => ?_)
  refine r_ldc2 (v := 32767) E dX67_newBrackets_6 q3973 (by decide) (zkJ (by decide) (by decide)) ?_
  refine r_lcmp_le E 16 (by decide) dX67_newBrackets_9 dX67_newBrackets_10 (fun _ => ?_) (fun _ => ?_)
  · refine r_aload_n E dX67_newBrackets_16 rfl 0 rfl ?_
    refine r_gec (y := 0) E zc_69 dX67_newBrackets_17 q3241 zr_69 (zh_6826 (by decide)) (by decide) ?_
    refine r_iload_n E dX67_newBrackets_20 rfl 1 rfl ?_
    refine r_laload E zc_6826 za_6826 zt_6826 zx_6826 rfl rfl dX67_newBrackets_21 (by decide) (fun v2 => ?_)
    refine r_l2i E dX67_newBrackets_22 ?_
    refine r_let E (fun v3 ev3 => ?_)
    refine r_istore_n (ls' := [(3, 0, v3), (0, 69, 0), (1, 0, x1), (2, 0, x2)]) E dX67_newBrackets_23 rfl (by rw [hN]; decide) rfl ?_
    refine r_iload_n E dX67_newBrackets_24 rfl 0 rfl ?_
    refine r_bipush E dX67_newBrackets_25 (by decide) (zkI (by decide) (by decide)) ?_
    refine r_irem E (by decide) dX67_newBrackets_27 ?_
    refine r_let E (fun v4 ev4 => ?_)
    refine r_istore (ls' := [(4, 0, v4), (3, 0, v3), (0, 69, 0), (1, 0, x1), (2, 0, x2)]) E dX67_newBrackets_28 (by rw [hN]; decide) rfl ?_
    refine r_aload_n E dX67_newBrackets_30 rfl 2 rfl ?_
    refine r_iload_n E dX67_newBrackets_31 rfl 4 rfl ?_
    refine r_iload E dX67_newBrackets_32 0 rfl ?_
    refine r_iload_n E dX67_newBrackets_34 rfl 1 rfl ?_
    refine r_bipush E dX67_newBrackets_35 (by decide) (zkI (by decide) (by decide)) ?_
    refine r_idiv E (by decide) dX67_newBrackets_37 ?_
    refine r_bipush E dX67_newBrackets_38 (by decide) (zkI (by decide) (by decide)) ?_
    refine r_irem E (by decide) dX67_newBrackets_40 ?_
    refine r_iload_n E dX67_newBrackets_41 rfl 1 rfl ?_
    refine r_bipush E dX67_newBrackets_42 (by decide) (zkI (by decide) (by decide)) ?_
    refine r_idiv E (by decide) dX67_newBrackets_44 ?_
    refine r_bipush E dX67_newBrackets_45 (by decide) (zkI (by decide) (by decide)) ?_
    refine r_irem E (by decide) dX67_newBrackets_47 ?_
    refine r_iload_n E dX67_newBrackets_48 rfl 1 rfl ?_
    refine r_sipush E dX67_newBrackets_49 (by decide) (zkI (by decide) (by decide)) ?_
    refine r_idiv E (by decide) dX67_newBrackets_52 ?_
    refine r_callV E [(0, x2), (0, v4), (0, (Int.tmod (zi (Int.tdiv v3 8)) 8)), (0, (Int.tmod (zi (Int.tdiv v3 64)) 8)), (0, (zi (Int.tdiv v3 512)))] [] rfl zc_69 zr_69 (fun o _ => ⟨_, zw_X67.1 o, rfl⟩) (lw_V q3705 q3707 qs104 q294 q3708) dX67_newBrackets_53 zy_X67_areBrackets rfl (by omega) (by decide) (Nat.le_of_ble_eq_true rfl) (by decide) (fun l G => k_fX67_areBrackets l G x2 v4 (Int.tmod (zi (Int.tdiv v3 8)) 8) (Int.tmod (zi (Int.tdiv v3 64)) 8) (zi (Int.tdiv v3 512))) (fun v5 => ?_)
    refine r_if_ne E 62 (by decide) dX67_newBrackets_56 (fun _ => ?_) (fun _ => ?_)
    · refine r_aload_n E dX67_newBrackets_62 rfl 2 rfl ?_
      refine r_iload_n E dX67_newBrackets_63 rfl 3 rfl ?_
      refine r_iload_n E dX67_newBrackets_64 rfl 4 rfl ?_
      refine r_callV E [(0, x1), (0, x2)] [] rfl zc_69 zr_69 (fun o _ => ⟨_, zw_X67.1 o, rfl⟩) (lw_V q3963 q3965 qs148 q294 q3966) dX67_newBrackets_65 zy_X67_isOutOfRing rfl (by omega) (by decide) (Nat.le_of_ble_eq_true rfl) (by decide) (fun l G => k_fX67_isOutOfRing l G x1 x2) (fun v6 => ?_)
      refine r_if_ne E 82 (by decide) dX67_newBrackets_68 (fun _ => ?_) (fun _ => ?_)
      · refine r_bipush E dX67_newBrackets_82 (by decide) (zkI (by decide) (by decide)) ?_
        refine r_goto E 113 (by decide) dX67_newBrackets_84 ?_
        exact r_ireturn E rfl hT dX67_newBrackets_113
      · refine r_aload_n E dX67_newBrackets_71 rfl 2 rfl ?_
        refine r_gec (y := 0) E zc_69 dX67_newBrackets_72 q3248 zr_69 (zh_6833 (by decide)) (by decide) ?_
        refine r_iload_n E dX67_newBrackets_75 rfl 3 rfl ?_
        refine r_iaload E zc_6833 za_6833 zt_6833 zx_6833 rfl rfl dX67_newBrackets_76 (by decide) (fun v7 => ?_)
        refine r_iload E dX67_newBrackets_77 0 rfl ?_
        refine r_icmp_le E 87 (by decide) dX67_newBrackets_79 (fun _ => ?_) (fun _ => ?_)
        · refine r_aload_n E dX67_newBrackets_87 rfl 2 rfl ?_
          refine r_iload_n E dX67_newBrackets_88 rfl 4 rfl ?_
          refine r_iload E dX67_newBrackets_89 0 rfl ?_
          refine r_iload_n E dX67_newBrackets_91 rfl 1 rfl ?_
          refine r_bipush E dX67_newBrackets_92 (by decide) (zkI (by decide) (by decide)) ?_
          refine r_idiv E (by decide) dX67_newBrackets_94 ?_
          refine r_bipush E dX67_newBrackets_95 (by decide) (zkI (by decide) (by decide)) ?_
          refine r_irem E (by decide) dX67_newBrackets_97 ?_
          refine r_iload_n E dX67_newBrackets_98 rfl 1 rfl ?_
          refine r_bipush E dX67_newBrackets_99 (by decide) (zkI (by decide) (by decide)) ?_
          refine r_idiv E (by decide) dX67_newBrackets_101 ?_
          refine r_bipush E dX67_newBrackets_102 (by decide) (zkI (by decide) (by decide)) ?_
          refine r_irem E (by decide) dX67_newBrackets_104 ?_
          refine r_iload_n E dX67_newBrackets_105 rfl 1 rfl ?_
          refine r_sipush E dX67_newBrackets_106 (by decide) (zkI (by decide) (by decide)) ?_
          refine r_idiv E (by decide) dX67_newBrackets_109 ?_
          refine r_callV E [(0, x2), (0, v4), (0, (Int.tmod (zi (Int.tdiv v3 8)) 8)), (0, (Int.tmod (zi (Int.tdiv v3 64)) 8)), (0, (zi (Int.tdiv v3 512)))] [] rfl zc_69 zr_69 (fun o _ => ⟨_, zw_X67.1 o, rfl⟩) (lw_V q3974 q3702 q3703 q294 q3704) dX67_newBrackets_110 zy_X67_brackets rfl (by omega) (by decide) (Nat.le_of_ble_eq_true rfl) (by decide) (fun l G => k_fX67_brackets l G x2 v4 (Int.tmod (zi (Int.tdiv v3 8)) 8) (Int.tmod (zi (Int.tdiv v3 64)) 8) (zi (Int.tdiv v3 512))) (fun v8 => ?_)
          exact r_ireturn E rfl hT dX67_newBrackets_113
        · refine r_bipush E dX67_newBrackets_82 (by decide) (zkI (by decide) (by decide)) ?_
          refine r_goto E 113 (by decide) dX67_newBrackets_84 ?_
          exact r_ireturn E rfl hT dX67_newBrackets_113
    · refine r_bipush E dX67_newBrackets_59 (by decide) (zkI (by decide) (by decide)) ?_
      exact r_ireturn E rfl hT dX67_newBrackets_61
  · refine r_bipush E dX67_newBrackets_13 (by decide) (zkI (by decide) (by decide)) ?_
    exact r_ireturn E rfl hT dX67_newBrackets_15
theorem k_fX67_newBrackets (l : Launch) (G : zG) (x1 : Int) (x2 : Int) : zCt l G yX67_newBrackets cX67_newBrackets 5 (some .int) 3 [(69, 0), (0, x1), (0, x2)] (some 0) (fX67_newBrackets x1 x2) := zCt.of (by decide) (Nat.le_of_ble_eq_true rfl) (fun K E _ _ hN hT => w_fX67_newBrackets E hN hT x1 x2)
theorem dX67_newLimit_0 : decode cX67_newLimit 0 = .ok (.aload_n 0, 1) := by decide +kernel
theorem dX67_newLimit_1 : decode cX67_newLimit 1 = .ok (.getfield 7, 3) := by decide +kernel
theorem dX67_newLimit_4 : decode cX67_newLimit 4 = .ok (.iload_n 2, 1) := by decide +kernel
theorem dX67_newLimit_5 : decode cX67_newLimit 5 = .ok (.iaload, 1) := by decide +kernel
theorem dX67_newLimit_6 : decode cX67_newLimit 6 = .ok (.iconst 1, 1) := by decide +kernel
theorem dX67_newLimit_7 : decode cX67_newLimit 7 = .ok (.if_icmp .ne 12, 3) := by decide +kernel
theorem dX67_newLimit_10 : decode cX67_newLimit 10 = .ok (.aload_n 0, 1) := by decide +kernel
theorem dX67_newLimit_11 : decode cX67_newLimit 11 = .ok (.getfield 32, 3) := by decide +kernel
theorem dX67_newLimit_14 : decode cX67_newLimit 14 = .ok (.iload_n 2, 1) := by decide +kernel
theorem dX67_newLimit_15 : decode cX67_newLimit 15 = .ok (.iaload, 1) := by decide +kernel
theorem dX67_newLimit_16 : decode cX67_newLimit 16 = .ok (.ifCond .ne 6, 3) := by decide +kernel
theorem dX67_newLimit_19 : decode cX67_newLimit 19 = .ok (.bipush (-7), 2) := by decide +kernel
theorem dX67_newLimit_21 : decode cX67_newLimit 21 = .ok (.ireturn, 1) := by decide +kernel
theorem dX67_newLimit_22 : decode cX67_newLimit 22 = .ok (.aload_n 0, 1) := by decide +kernel
theorem dX67_newLimit_23 : decode cX67_newLimit 23 = .ok (.iload_n 2, 1) := by decide +kernel
theorem dX67_newLimit_24 : decode cX67_newLimit 24 = .ok (.invokevirtual 727, 3) := by decide +kernel
theorem dX67_newLimit_27 : decode cX67_newLimit 27 = .ok (.ifCond .eq 6, 3) := by decide +kernel
theorem dX67_newLimit_30 : decode cX67_newLimit 30 = .ok (.bipush (-3), 2) := by decide +kernel
theorem dX67_newLimit_32 : decode cX67_newLimit 32 = .ok (.ireturn, 1) := by decide +kernel
theorem dX67_newLimit_33 : decode cX67_newLimit 33 = .ok (.aload_n 0, 1) := by decide +kernel
theorem dX67_newLimit_34 : decode cX67_newLimit 34 = .ok (.iload_n 1, 1) := by decide +kernel
theorem dX67_newLimit_35 : decode cX67_newLimit 35 = .ok (.iload_n 2, 1) := by decide +kernel
theorem dX67_newLimit_36 : decode cX67_newLimit 36 = .ok (.invokevirtual 730, 3) := by decide +kernel
theorem dX67_newLimit_39 : decode cX67_newLimit 39 = .ok (.ifCond .eq 6, 3) := by decide +kernel
theorem dX67_newLimit_42 : decode cX67_newLimit 42 = .ok (.bipush (-4), 2) := by decide +kernel
theorem dX67_newLimit_44 : decode cX67_newLimit 44 = .ok (.ireturn, 1) := by decide +kernel
theorem dX67_newLimit_45 : decode cX67_newLimit 45 = .ok (.aload_n 0, 1) := by decide +kernel
theorem dX67_newLimit_46 : decode cX67_newLimit 46 = .ok (.getfield 89, 3) := by decide +kernel
theorem dX67_newLimit_49 : decode cX67_newLimit 49 = .ok (.iload_n 1, 1) := by decide +kernel
theorem dX67_newLimit_50 : decode cX67_newLimit 50 = .ok (.laload, 1) := by decide +kernel
theorem dX67_newLimit_51 : decode cX67_newLimit 51 = .ok (.lconst 1, 1) := by decide +kernel
theorem dX67_newLimit_52 : decode cX67_newLimit 52 = .ok (.ldc2_w 377, 3) := by decide +kernel
theorem dX67_newLimit_55 : decode cX67_newLimit 55 = .ok (.invokestatic 363, 3) := by decide +kernel
theorem dX67_newLimit_58 : decode cX67_newLimit 58 = .ok (.ifCond .ne 6, 3) := by decide +kernel
theorem dX67_newLimit_61 : decode cX67_newLimit 61 = .ok (.bipush (-8), 2) := by decide +kernel
theorem dX67_newLimit_63 : decode cX67_newLimit 63 = .ok (.ireturn, 1) := by decide +kernel
theorem dX67_newLimit_64 : decode cX67_newLimit 64 = .ok (.aload_n 0, 1) := by decide +kernel
theorem dX67_newLimit_65 : decode cX67_newLimit 65 = .ok (.iload_n 2, 1) := by decide +kernel
theorem dX67_newLimit_66 : decode cX67_newLimit 66 = .ok (.aload_n 0, 1) := by decide +kernel
theorem dX67_newLimit_67 : decode cX67_newLimit 67 = .ok (.getfield 89, 3) := by decide +kernel
theorem dX67_newLimit_70 : decode cX67_newLimit 70 = .ok (.iload_n 1, 1) := by decide +kernel
theorem dX67_newLimit_71 : decode cX67_newLimit 71 = .ok (.laload, 1) := by decide +kernel
theorem dX67_newLimit_72 : decode cX67_newLimit 72 = .ok (.l2i, 1) := by decide +kernel
theorem dX67_newLimit_73 : decode cX67_newLimit 73 = .ok (.invokevirtual 485, 3) := by decide +kernel
theorem dX67_newLimit_76 : decode cX67_newLimit 76 = .ok (.ifCond .eq 7, 3) := by decide +kernel
theorem dX67_newLimit_79 : decode cX67_newLimit 79 = .ok (.iconst 0, 1) := by decide +kernel
theorem dX67_newLimit_80 : decode cX67_newLimit 80 = .ok (.goto 5, 3) := by decide +kernel
theorem dX67_newLimit_83 : decode cX67_newLimit 83 = .ok (.bipush (-5), 2) := by decide +kernel
theorem dX67_newLimit_85 : decode cX67_newLimit 85 = .ok (.ireturn, 1) := by decide +kernel
theorem zy_X67_newLimit : yX67_newLimit.cls ≠ "java/lang/invoke/MethodHandle" ∧ yX67_newLimit.cls ≠ "java/lang/invoke/VarHandle" ∧ (parseMethodDescriptor yX67_newLimit.desc).map (fun d => d.parameters.length) = some 2 := by decide +kernel
theorem w_fX67_newLimit {K : zK} (E : zE K cX67_newLimit "RingHouseModel" (some .int) 3) (hN : zNl K = 3) (hT : zTr K = (some 0)) (x1 : Int) (x2 : Int) : zR K 0 [(0, 69, 0), (1, 0, x1), (2, 0, x2)] [] (fX67_newLimit x1 x2) := by
  refine r_aload_n E dX67_newLimit_0 rfl 0 rfl ?_
  refine r_gec (y := 0) E zc_69 dX67_newLimit_1 q3215 zr_69 (zh_6800 (by decide)) (by decide) ?_
  refine r_iload_n E dX67_newLimit_4 rfl 2 rfl ?_
  refine r_iaload E zc_6800 za_6800 zt_6800 zx_6800 rfl rfl dX67_newLimit_5 (by decide) (fun v1 => ?_)
  refine r_iconst E dX67_newLimit_6 (zkI (by decide) (by decide)) ?_
  refine r_icmp_ne E 19 (by decide) dX67_newLimit_7 (fun _ => ?_) (fun _ => ?_)
  · refine r_bipush E dX67_newLimit_19 (by decide) (zkI (by decide) (by decide)) ?_
    exact r_ireturn E rfl hT dX67_newLimit_21
  · refine r_aload_n E dX67_newLimit_10 rfl 0 rfl ?_
    refine r_gec (y := 0) E zc_69 dX67_newLimit_11 q3222 zr_69 (zh_6807 (by decide)) (by decide) ?_
    refine r_iload_n E dX67_newLimit_14 rfl 2 rfl ?_
    refine r_iaload E zc_6807 za_6807 zt_6807 zx_6807 rfl rfl dX67_newLimit_15 (by decide) (fun v2 => ?_)
    refine r_if_ne E 22 (by decide) dX67_newLimit_16 (fun _ => ?_) (fun _ => ?_)
    · refine r_aload_n E dX67_newLimit_22 rfl 0 rfl ?_
      refine r_iload_n E dX67_newLimit_23 rfl 2 rfl ?_
      refine r_callV E [(0, x2)] [] rfl zc_69 zr_69 (fun o _ => ⟨_, zw_X67.1 o, rfl⟩) (lw_V q3959 q3961 qs147 q294 q3962) dX67_newLimit_24 zy_X67_isUpgraded rfl (by omega) (by decide) (Nat.le_of_ble_eq_true rfl) (by decide) (fun l G => k_fX67_isUpgraded l G x2) (fun v3 => ?_)
      refine r_if_eq E 33 (by decide) dX67_newLimit_27 (fun _ => ?_) (fun _ => ?_)
      · refine r_aload_n E dX67_newLimit_33 rfl 0 rfl ?_
        refine r_iload_n E dX67_newLimit_34 rfl 1 rfl ?_
        refine r_iload_n E dX67_newLimit_35 rfl 2 rfl ?_
        refine r_callV E [(0, x1), (0, x2)] [] rfl zc_69 zr_69 (fun o _ => ⟨_, zw_X67.1 o, rfl⟩) (lw_V q3963 q3965 qs148 q294 q3966) dX67_newLimit_36 zy_X67_isOutOfRing rfl (by omega) (by decide) (Nat.le_of_ble_eq_true rfl) (by decide) (fun l G => k_fX67_isOutOfRing l G x1 x2) (fun v4 => ?_)
        refine r_if_eq E 45 (by decide) dX67_newLimit_39 (fun _ => ?_) (fun _ => ?_)
        · refine r_aload_n E dX67_newLimit_45 rfl 0 rfl ?_
          refine r_gec (y := 0) E zc_69 dX67_newLimit_46 q3241 zr_69 (zh_6826 (by decide)) (by decide) ?_
          refine r_iload_n E dX67_newLimit_49 rfl 1 rfl ?_
          refine r_laload E zc_6826 za_6826 zt_6826 zx_6826 rfl rfl dX67_newLimit_50 (by decide) (fun v5 => ?_)
          refine r_lconst (v := 1) E dX67_newLimit_51 (by decide) (zkJ (by decide) (by decide)) ?_
          refine r_ldc2 (v := 255) E dX67_newLimit_52 q3618 (by decide) (zkJ (by decide) (by decide)) ?_
          refine r_callS E [(1, v5), (1, 1), (1, 255)] [] rfl q3619 q3620 q294 q3621 dX67_newLimit_55 zy_X67_in rfl (by omega) (by decide) (Nat.le_of_ble_eq_true rfl) (fun l G => k_fX67_in l G v5 1 255) (fun v6 => ?_)
          refine r_if_ne E 64 (by decide) dX67_newLimit_58 (fun _ => ?_) (fun _ => ?_)
          · refine r_aload_n E dX67_newLimit_64 rfl 0 rfl ?_
            refine r_iload_n E dX67_newLimit_65 rfl 2 rfl ?_
            refine r_aload_n E dX67_newLimit_66 rfl 0 rfl ?_
            refine r_gec (y := 0) E zc_69 dX67_newLimit_67 q3241 zr_69 (zh_6826 (by decide)) (by decide) ?_
            refine r_iload_n E dX67_newLimit_70 rfl 1 rfl ?_
            refine r_laload E zc_6826 za_6826 zt_6826 zx_6826 rfl rfl dX67_newLimit_71 (by decide) (fun v7 => ?_)
            refine r_l2i E dX67_newLimit_72 ?_
            refine r_callV E [(0, x2), (0, (zi v7))] [] rfl zc_69 zr_69 (fun o _ => ⟨_, zw_X67.1 o, rfl⟩) (lw_V q3726 q3728 qs107 q294 q3729) dX67_newLimit_73 zy_X67_setLimit rfl (by omega) (by decide) (Nat.le_of_ble_eq_true rfl) (by decide) (fun l G => k_fX67_setLimit l G x2 (zi v7)) (fun v8 => ?_)
            refine r_if_eq E 83 (by decide) dX67_newLimit_76 (fun _ => ?_) (fun _ => ?_)
            · refine r_bipush E dX67_newLimit_83 (by decide) (zkI (by decide) (by decide)) ?_
              exact r_ireturn E rfl hT dX67_newLimit_85
            · refine r_iconst E dX67_newLimit_79 (zkI (by decide) (by decide)) ?_
              refine r_goto E 85 (by decide) dX67_newLimit_80 ?_
              exact r_ireturn E rfl hT dX67_newLimit_85
          · refine r_bipush E dX67_newLimit_61 (by decide) (zkI (by decide) (by decide)) ?_
            exact r_ireturn E rfl hT dX67_newLimit_63
        · refine r_bipush E dX67_newLimit_42 (by decide) (zkI (by decide) (by decide)) ?_
          exact r_ireturn E rfl hT dX67_newLimit_44
      · refine r_bipush E dX67_newLimit_30 (by decide) (zkI (by decide) (by decide)) ?_
        exact r_ireturn E rfl hT dX67_newLimit_32
    · refine r_bipush E dX67_newLimit_19 (by decide) (zkI (by decide) (by decide)) ?_
      exact r_ireturn E rfl hT dX67_newLimit_21
theorem k_fX67_newLimit (l : Launch) (G : zG) (x1 : Int) (x2 : Int) : zCt l G yX67_newLimit cX67_newLimit 3 (some .int) 3 [(69, 0), (0, x1), (0, x2)] (some 0) (fX67_newLimit x1 x2) := zCt.of (by decide) (Nat.le_of_ble_eq_true rfl) (fun K E _ _ hN hT => w_fX67_newLimit E hN hT x1 x2)
theorem dX67_modify_0 : decode cX67_modify 0 = .ok (.iconst 4, 1) := by decide +kernel
theorem dX67_modify_1 : decode cX67_modify 1 = .ok (.iload_n 1, 1) := by decide +kernel
theorem dX67_modify_2 : decode cX67_modify 2 = .ok (.imul, 1) := by decide +kernel
theorem dX67_modify_3 : decode cX67_modify 3 = .ok (.istore 4, 2) := by decide +kernel
theorem dX67_modify_5 : decode cX67_modify 5 = .ok (.iload_n 2, 1) := by decide +kernel
theorem dX67_modify_6 : decode cX67_modify 6 = .ok (.tableswitch 207 10 13 #[30, 71, 110, 200], 30) := by decide +kernel
theorem dX67_modify_36 : decode cX67_modify 36 = .ok (.aload_n 0, 1) := by decide +kernel
theorem dX67_modify_37 : decode cX67_modify 37 = .ok (.iload_n 3, 1) := by decide +kernel
theorem dX67_modify_38 : decode cX67_modify 38 = .ok (.invokevirtual 727, 3) := by decide +kernel
theorem dX67_modify_41 : decode cX67_modify 41 = .ok (.ifCond .eq 6, 3) := by decide +kernel
theorem dX67_modify_44 : decode cX67_modify 44 = .ok (.bipush (-3), 2) := by decide +kernel
theorem dX67_modify_46 : decode cX67_modify 46 = .ok (.ireturn, 1) := by decide +kernel
theorem dX67_modify_47 : decode cX67_modify 47 = .ok (.aload_n 0, 1) := by decide +kernel
theorem dX67_modify_48 : decode cX67_modify 48 = .ok (.iload_n 1, 1) := by decide +kernel
theorem dX67_modify_49 : decode cX67_modify 49 = .ok (.iload_n 3, 1) := by decide +kernel
theorem dX67_modify_50 : decode cX67_modify 50 = .ok (.invokevirtual 730, 3) := by decide +kernel
theorem dX67_modify_53 : decode cX67_modify 53 = .ok (.ifCond .eq 6, 3) := by decide +kernel
theorem dX67_modify_56 : decode cX67_modify 56 = .ok (.bipush (-4), 2) := by decide +kernel
theorem dX67_modify_58 : decode cX67_modify 58 = .ok (.ireturn, 1) := by decide +kernel
theorem dX67_modify_59 : decode cX67_modify 59 = .ok (.aload_n 0, 1) := by decide +kernel
theorem dX67_modify_60 : decode cX67_modify 60 = .ok (.iload_n 3, 1) := by decide +kernel
theorem dX67_modify_61 : decode cX67_modify 61 = .ok (.invokevirtual 491, 3) := by decide +kernel
theorem dX67_modify_64 : decode cX67_modify 64 = .ok (.ifCond .le 6, 3) := by decide +kernel
theorem dX67_modify_67 : decode cX67_modify 67 = .ok (.bipush (-7), 2) := by decide +kernel
theorem dX67_modify_69 : decode cX67_modify 69 = .ok (.ireturn, 1) := by decide +kernel
theorem dX67_modify_70 : decode cX67_modify 70 = .ok (.aload_n 0, 1) := by decide +kernel
theorem dX67_modify_71 : decode cX67_modify 71 = .ok (.iload_n 3, 1) := by decide +kernel
theorem dX67_modify_72 : decode cX67_modify 72 = .ok (.invokevirtual 431, 3) := by decide +kernel
theorem dX67_modify_75 : decode cX67_modify 75 = .ok (.iconst 0, 1) := by decide +kernel
theorem dX67_modify_76 : decode cX67_modify 76 = .ok (.ireturn, 1) := by decide +kernel
theorem dX67_modify_77 : decode cX67_modify 77 = .ok (.aload_n 0, 1) := by decide +kernel
theorem dX67_modify_78 : decode cX67_modify 78 = .ok (.getfield 89, 3) := by decide +kernel
theorem dX67_modify_81 : decode cX67_modify 81 = .ok (.iload_n 1, 1) := by decide +kernel
theorem dX67_modify_82 : decode cX67_modify 82 = .ok (.laload, 1) := by decide +kernel
theorem dX67_modify_83 : decode cX67_modify 83 = .ok (.invokestatic 442, 3) := by decide +kernel
theorem dX67_modify_86 : decode cX67_modify 86 = .ok (.ifCond .ne 6, 3) := by decide +kernel
theorem dX67_modify_89 : decode cX67_modify 89 = .ok (.bipush (-8), 2) := by decide +kernel
theorem dX67_modify_91 : decode cX67_modify 91 = .ok (.ireturn, 1) := by decide +kernel
theorem dX67_modify_92 : decode cX67_modify 92 = .ok (.aload_n 0, 1) := by decide +kernel
theorem dX67_modify_93 : decode cX67_modify 93 = .ok (.iload_n 1, 1) := by decide +kernel
theorem dX67_modify_94 : decode cX67_modify 94 = .ok (.iload_n 3, 1) := by decide +kernel
theorem dX67_modify_95 : decode cX67_modify 95 = .ok (.invokevirtual 730, 3) := by decide +kernel
theorem dX67_modify_98 : decode cX67_modify 98 = .ok (.ifCond .eq 6, 3) := by decide +kernel
theorem dX67_modify_101 : decode cX67_modify 101 = .ok (.bipush (-4), 2) := by decide +kernel
theorem dX67_modify_103 : decode cX67_modify 103 = .ok (.ireturn, 1) := by decide +kernel
theorem dX67_modify_104 : decode cX67_modify 104 = .ok (.aload_n 0, 1) := by decide +kernel
theorem dX67_modify_105 : decode cX67_modify 105 = .ok (.iload_n 3, 1) := by decide +kernel
theorem dX67_modify_106 : decode cX67_modify 106 = .ok (.aload_n 0, 1) := by decide +kernel
theorem dX67_modify_107 : decode cX67_modify 107 = .ok (.getfield 89, 3) := by decide +kernel
theorem dX67_modify_110 : decode cX67_modify 110 = .ok (.iload_n 1, 1) := by decide +kernel
theorem dX67_modify_111 : decode cX67_modify 111 = .ok (.laload, 1) := by decide +kernel
theorem dX67_modify_112 : decode cX67_modify 112 = .ok (.invokevirtual 733, 3) := by decide +kernel
theorem dX67_modify_115 : decode cX67_modify 115 = .ok (.ireturn, 1) := by decide +kernel
theorem dX67_modify_116 : decode cX67_modify 116 = .ok (.aload_n 0, 1) := by decide +kernel
theorem dX67_modify_117 : decode cX67_modify 117 = .ok (.getfield 92, 3) := by decide +kernel
theorem dX67_modify_120 : decode cX67_modify 120 = .ok (.iload 4, 2) := by decide +kernel
theorem dX67_modify_122 : decode cX67_modify 122 = .ok (.iaload, 1) := by decide +kernel
theorem dX67_modify_123 : decode cX67_modify 123 = .ok (.aload_n 0, 1) := by decide +kernel
theorem dX67_modify_124 : decode cX67_modify 124 = .ok (.getfield 92, 3) := by decide +kernel
theorem dX67_modify_127 : decode cX67_modify 127 = .ok (.iload 4, 2) := by decide +kernel
theorem dX67_modify_129 : decode cX67_modify 129 = .ok (.iconst 1, 1) := by decide +kernel
theorem dX67_modify_130 : decode cX67_modify 130 = .ok (.iadd, 1) := by decide +kernel
theorem dX67_modify_131 : decode cX67_modify 131 = .ok (.iaload, 1) := by decide +kernel
theorem dX67_modify_132 : decode cX67_modify 132 = .ok (.aload_n 0, 1) := by decide +kernel
theorem dX67_modify_133 : decode cX67_modify 133 = .ok (.getfield 92, 3) := by decide +kernel
theorem dX67_modify_136 : decode cX67_modify 136 = .ok (.iload 4, 2) := by decide +kernel
theorem dX67_modify_138 : decode cX67_modify 138 = .ok (.iconst 2, 1) := by decide +kernel
theorem dX67_modify_139 : decode cX67_modify 139 = .ok (.iadd, 1) := by decide +kernel
theorem dX67_modify_140 : decode cX67_modify 140 = .ok (.iaload, 1) := by decide +kernel
theorem dX67_modify_141 : decode cX67_modify 141 = .ok (.invokestatic 468, 3) := by decide +kernel
theorem dX67_modify_144 : decode cX67_modify 144 = .ok (.ifCond .ne 6, 3) := by decide +kernel
theorem dX67_modify_147 : decode cX67_modify 147 = .ok (.bipush (-8), 2) := by decide +kernel
theorem dX67_modify_149 : decode cX67_modify 149 = .ok (.ireturn, 1) := by decide +kernel
theorem dX67_modify_150 : decode cX67_modify 150 = .ok (.aload_n 0, 1) := by decide +kernel
theorem dX67_modify_151 : decode cX67_modify 151 = .ok (.iload_n 1, 1) := by decide +kernel
theorem dX67_modify_152 : decode cX67_modify 152 = .ok (.iload_n 3, 1) := by decide +kernel
theorem dX67_modify_153 : decode cX67_modify 153 = .ok (.invokevirtual 730, 3) := by decide +kernel
theorem dX67_modify_156 : decode cX67_modify 156 = .ok (.ifCond .eq 6, 3) := by decide +kernel
theorem dX67_modify_159 : decode cX67_modify 159 = .ok (.bipush (-4), 2) := by decide +kernel
theorem dX67_modify_161 : decode cX67_modify 161 = .ok (.ireturn, 1) := by decide +kernel
theorem dX67_modify_162 : decode cX67_modify 162 = .ok (.aload_n 0, 1) := by decide +kernel
theorem dX67_modify_163 : decode cX67_modify 163 = .ok (.iload_n 3, 1) := by decide +kernel
theorem dX67_modify_164 : decode cX67_modify 164 = .ok (.aload_n 0, 1) := by decide +kernel
theorem dX67_modify_165 : decode cX67_modify 165 = .ok (.getfield 92, 3) := by decide +kernel
theorem dX67_modify_168 : decode cX67_modify 168 = .ok (.iload 4, 2) := by decide +kernel
theorem dX67_modify_170 : decode cX67_modify 170 = .ok (.iaload, 1) := by decide +kernel
theorem dX67_modify_171 : decode cX67_modify 171 = .ok (.aload_n 0, 1) := by decide +kernel
theorem dX67_modify_172 : decode cX67_modify 172 = .ok (.getfield 92, 3) := by decide +kernel
theorem dX67_modify_175 : decode cX67_modify 175 = .ok (.iload 4, 2) := by decide +kernel
theorem dX67_modify_177 : decode cX67_modify 177 = .ok (.iconst 1, 1) := by decide +kernel
theorem dX67_modify_178 : decode cX67_modify 178 = .ok (.iadd, 1) := by decide +kernel
theorem dX67_modify_179 : decode cX67_modify 179 = .ok (.iaload, 1) := by decide +kernel
theorem dX67_modify_180 : decode cX67_modify 180 = .ok (.aload_n 0, 1) := by decide +kernel
theorem dX67_modify_181 : decode cX67_modify 181 = .ok (.getfield 92, 3) := by decide +kernel
theorem dX67_modify_184 : decode cX67_modify 184 = .ok (.iload 4, 2) := by decide +kernel
theorem dX67_modify_186 : decode cX67_modify 186 = .ok (.iconst 2, 1) := by decide +kernel
theorem dX67_modify_187 : decode cX67_modify 187 = .ok (.iadd, 1) := by decide +kernel
theorem dX67_modify_188 : decode cX67_modify 188 = .ok (.iaload, 1) := by decide +kernel
theorem dX67_modify_189 : decode cX67_modify 189 = .ok (.invokevirtual 736, 3) := by decide +kernel
theorem dX67_modify_192 : decode cX67_modify 192 = .ok (.istore 5, 2) := by decide +kernel
theorem dX67_modify_194 : decode cX67_modify 194 = .ok (.iload 5, 2) := by decide +kernel
theorem dX67_modify_196 : decode cX67_modify 196 = .ok (.ifCond .ge 8, 3) := by decide +kernel
theorem dX67_modify_199 : decode cX67_modify 199 = .ok (.iload 5, 2) := by decide +kernel
theorem dX67_modify_201 : decode cX67_modify 201 = .ok (.goto 4, 3) := by decide +kernel
theorem dX67_modify_204 : decode cX67_modify 204 = .ok (.iconst 0, 1) := by decide +kernel
theorem dX67_modify_205 : decode cX67_modify 205 = .ok (.ireturn, 1) := by decide +kernel
theorem dX67_modify_206 : decode cX67_modify 206 = .ok (.aload_n 0, 1) := by decide +kernel
theorem dX67_modify_207 : decode cX67_modify 207 = .ok (.iload_n 1, 1) := by decide +kernel
theorem dX67_modify_208 : decode cX67_modify 208 = .ok (.iload_n 3, 1) := by decide +kernel
theorem dX67_modify_209 : decode cX67_modify 209 = .ok (.invokevirtual 738, 3) := by decide +kernel
theorem dX67_modify_212 : decode cX67_modify 212 = .ok (.ireturn, 1) := by decide +kernel
theorem dX67_modify_213 : decode cX67_modify 213 = .ok (.aload_n 0, 1) := by decide +kernel
theorem dX67_modify_214 : decode cX67_modify 214 = .ok (.iload_n 1, 1) := by decide +kernel
theorem dX67_modify_215 : decode cX67_modify 215 = .ok (.iload_n 3, 1) := by decide +kernel
theorem dX67_modify_216 : decode cX67_modify 216 = .ok (.invokevirtual 741, 3) := by decide +kernel
theorem dX67_modify_219 : decode cX67_modify 219 = .ok (.ireturn, 1) := by decide +kernel
theorem zy_X67_modify : yX67_modify.cls ≠ "java/lang/invoke/MethodHandle" ∧ yX67_modify.cls ≠ "java/lang/invoke/VarHandle" ∧ (parseMethodDescriptor yX67_modify.desc).map (fun d => d.parameters.length) = some 3 := by decide +kernel
theorem w_fX67_modify {K : zK} (E : zE K cX67_modify "RingHouseModel" (some .int) 4) (hN : zNl K = 6) (hT : zTr K = (some 0)) (x1 : Int) (x2 : Int) (x3 : Int) : zR K 0 [(0, 69, 0), (1, 0, x1), (2, 0, x2), (3, 0, x3)] [] (fX67_modify x1 x2 x3) := by
  refine r_iconst E dX67_modify_0 (zkI (by decide) (by decide)) ?_
  refine r_iload_n E dX67_modify_1 rfl 1 rfl ?_
  refine r_imul E dX67_modify_2 ?_
  refine r_let E (fun v1 ev1 => ?_)
  refine r_istore (ls' := [(4, 0, v1), (0, 69, 0), (1, 0, x1), (2, 0, x2), (3, 0, x3)]) E dX67_modify_3 (by rw [hN]; decide) rfl ?_
  refine r_iload_n E dX67_modify_5 rfl 3 rfl ?_
  refine r_tabc E dX67_modify_6 0 36 (by decide) (by decide) rfl (by decide) (fun _ => ?_) (fun ht2 => ?_)
  · refine r_aload_n E dX67_modify_36 rfl 1 rfl ?_
    refine r_iload_n E dX67_modify_37 rfl 4 rfl ?_
    refine r_callV E [(0, x3)] [] rfl zc_69 zr_69 (fun o _ => ⟨_, zw_X67.1 o, rfl⟩) (lw_V q3959 q3961 qs147 q294 q3962) dX67_modify_38 zy_X67_isUpgraded rfl (by omega) (by decide) (Nat.le_of_ble_eq_true rfl) (by decide) (fun l G => k_fX67_isUpgraded l G x3) (fun v3 => ?_)
    refine r_if_eq E 47 (by decide) dX67_modify_41 (fun _ => ?_) (fun _ => ?_)
    · refine r_aload_n E dX67_modify_47 rfl 1 rfl ?_
      refine r_iload_n E dX67_modify_48 rfl 2 rfl ?_
      refine r_iload_n E dX67_modify_49 rfl 4 rfl ?_
      refine r_callV E [(0, x1), (0, x3)] [] rfl zc_69 zr_69 (fun o _ => ⟨_, zw_X67.1 o, rfl⟩) (lw_V q3963 q3965 qs148 q294 q3966) dX67_modify_50 zy_X67_isOutOfRing rfl (by omega) (by decide) (Nat.le_of_ble_eq_true rfl) (by decide) (fun l G => k_fX67_isOutOfRing l G x1 x3) (fun v4 => ?_)
      refine r_if_eq E 59 (by decide) dX67_modify_53 (fun _ => ?_) (fun _ => ?_)
      · refine r_aload_n E dX67_modify_59 rfl 1 rfl ?_
        refine r_iload_n E dX67_modify_60 rfl 4 rfl ?_
        refine r_callV E [(0, x3)] [] rfl zc_69 zr_69 (fun o _ => ⟨_, zw_X67.1 o, rfl⟩) (lw_V q3768 q3770 qs113 q294 q3771) dX67_modify_61 zy_X67_countEntries rfl (by omega) (by decide) (Nat.le_of_ble_eq_true rfl) (by decide) (fun l G => k_fX67_countEntries l G x3) (fun v5 => ?_)
        refine r_if_le E 70 (by decide) dX67_modify_64 (fun _ => ?_) (fun _ => ?_)
        · refine r_aload_n E dX67_modify_70 rfl 1 rfl ?_
          refine r_iload_n E dX67_modify_71 rfl 4 rfl ?_
          refine r_callV E [(0, x3)] [] rfl zc_69 zr_69 (fun o _ => ⟨_, zw_X67.1 o, rfl⟩) (lw_V q3750 q3752 qs111 q294 q3753) dX67_modify_72 zy_X67_drop rfl (by omega) (by decide) (Nat.le_of_ble_eq_true rfl) (by decide) (fun l G => k_fX67_drop l G x3) (fun _ => ?_)
          refine r_iconst E dX67_modify_75 (zkI (by decide) (by decide)) ?_
          exact r_ireturn E rfl hT dX67_modify_76
        · refine r_bipush E dX67_modify_67 (by decide) (zkI (by decide) (by decide)) ?_
          exact r_ireturn E rfl hT dX67_modify_69
      · refine r_bipush E dX67_modify_56 (by decide) (zkI (by decide) (by decide)) ?_
        exact r_ireturn E rfl hT dX67_modify_58
    · refine r_bipush E dX67_modify_44 (by decide) (zkI (by decide) (by decide)) ?_
      exact r_ireturn E rfl hT dX67_modify_46
  · refine r_tabc E dX67_modify_6 1 77 (by decide) (by decide) rfl (by decide) (fun _ => ?_) (fun ht7 => ?_)
    · refine r_aload_n E dX67_modify_77 rfl 1 rfl ?_
      refine r_gec (y := 0) E zc_69 dX67_modify_78 q3241 zr_69 (zh_6826 (by decide)) (by decide) ?_
      refine r_iload_n E dX67_modify_81 rfl 2 rfl ?_
      refine r_laload E zc_6826 za_6826 zt_6826 zx_6826 rfl rfl dX67_modify_82 (by decide) (fun v8 => ?_)
      refine r_callS E [(1, v8)] [] rfl q3622 q3623 q294 q3624 dX67_modify_83 zy_X67_isName rfl (by omega) (by decide) (Nat.le_of_ble_eq_true rfl) (fun l G => k_fX67_isName l G v8) (fun v9 => ?_)
      refine r_if_ne E 92 (by decide) dX67_modify_86 (fun _ => ?_) (fun _ => ?_)
      · refine r_aload_n E dX67_modify_92 rfl 1 rfl ?_
        refine r_iload_n E dX67_modify_93 rfl 2 rfl ?_
        refine r_iload_n E dX67_modify_94 rfl 4 rfl ?_
        refine r_callV E [(0, x1), (0, x3)] [] rfl zc_69 zr_69 (fun o _ => ⟨_, zw_X67.1 o, rfl⟩) (lw_V q3963 q3965 qs148 q294 q3966) dX67_modify_95 zy_X67_isOutOfRing rfl (by omega) (by decide) (Nat.le_of_ble_eq_true rfl) (by decide) (fun l G => k_fX67_isOutOfRing l G x1 x3) (fun v10 => ?_)
        refine r_if_eq E 104 (by decide) dX67_modify_98 (fun _ => ?_) (fun _ => ?_)
        · refine r_aload_n E dX67_modify_104 rfl 1 rfl ?_
          refine r_iload_n E dX67_modify_105 rfl 4 rfl ?_
          refine r_aload_n E dX67_modify_106 rfl 1 rfl ?_
          refine r_gec (y := 0) E zc_69 dX67_modify_107 q3241 zr_69 (zh_6826 (by decide)) (by decide) ?_
          refine r_iload_n E dX67_modify_110 rfl 2 rfl ?_
          refine r_laload E zc_6826 za_6826 zt_6826 zx_6826 rfl rfl dX67_modify_111 (by decide) (fun v11 => ?_)
          refine r_callV E [(0, x3), (1, v11)] [] rfl zc_69 zr_69 (fun o _ => ⟨_, zw_X67.1 o, rfl⟩) (lw_V q3967 q3731 q3732 q294 q3733) dX67_modify_112 zy_X67_rename rfl (by omega) (by decide) (Nat.le_of_ble_eq_true rfl) (by decide) (fun l G => k_fX67_rename l G x3 v11) (fun v12 => ?_)
          exact r_ireturn E rfl hT dX67_modify_115
        · refine r_bipush E dX67_modify_101 (by decide) (zkI (by decide) (by decide)) ?_
          exact r_ireturn E rfl hT dX67_modify_103
      · refine r_bipush E dX67_modify_89 (by decide) (zkI (by decide) (by decide)) ?_
        exact r_ireturn E rfl hT dX67_modify_91
    · refine r_tabc E dX67_modify_6 2 116 (by decide) (by decide) rfl (by decide) (fun _ => ?_) (fun ht13 => ?_)
      · refine r_aload_n E dX67_modify_116 rfl 1 rfl ?_
        refine r_gec (y := 0) E zc_69 dX67_modify_117 q3242 zr_69 (zh_6827 (by decide)) (by decide) ?_
        refine r_iload E dX67_modify_120 0 rfl ?_
        refine r_iaload E zc_6827 za_6827 zt_6827 zx_6827 rfl rfl dX67_modify_122 (by decide) (fun v14 => ?_)
        refine r_aload_n E dX67_modify_123 rfl 1 rfl ?_
        refine r_gec (y := 0) E zc_69 dX67_modify_124 q3242 zr_69 (zh_6827 (by decide)) (by decide) ?_
        refine r_iload E dX67_modify_127 0 rfl ?_
        refine r_iconst E dX67_modify_129 (zkI (by decide) (by decide)) ?_
        refine r_iadd E dX67_modify_130 ?_
        refine r_iaload E zc_6827 za_6827 zt_6827 zx_6827 rfl rfl dX67_modify_131 (by decide) (fun v15 => ?_)
        refine r_aload_n E dX67_modify_132 rfl 1 rfl ?_
        refine r_gec (y := 0) E zc_69 dX67_modify_133 q3242 zr_69 (zh_6827 (by decide)) (by decide) ?_
        refine r_iload E dX67_modify_136 0 rfl ?_
        refine r_iconst E dX67_modify_138 (zkI (by decide) (by decide)) ?_
        refine r_iadd E dX67_modify_139 ?_
        refine r_iaload E zc_6827 za_6827 zt_6827 zx_6827 rfl rfl dX67_modify_140 (by decide) (fun v16 => ?_)
        refine r_callS E [(0, v14), (0, v15), (0, v16)] [] rfl q3688 q3689 q294 q3690 dX67_modify_141 zy_X67_isItem rfl (by omega) (by decide) (Nat.le_of_ble_eq_true rfl) (fun l G => k_fX67_isItem l G v14 v15 v16) (fun v17 => ?_)
        refine r_if_ne E 150 (by decide) dX67_modify_144 (fun _ => ?_) (fun _ => ?_)
        · refine r_aload_n E dX67_modify_150 rfl 1 rfl ?_
          refine r_iload_n E dX67_modify_151 rfl 2 rfl ?_
          refine r_iload_n E dX67_modify_152 rfl 4 rfl ?_
          refine r_callV E [(0, x1), (0, x3)] [] rfl zc_69 zr_69 (fun o _ => ⟨_, zw_X67.1 o, rfl⟩) (lw_V q3963 q3965 qs148 q294 q3966) dX67_modify_153 zy_X67_isOutOfRing rfl (by omega) (by decide) (Nat.le_of_ble_eq_true rfl) (by decide) (fun l G => k_fX67_isOutOfRing l G x1 x3) (fun v18 => ?_)
          refine r_if_eq E 162 (by decide) dX67_modify_156 (fun _ => ?_) (fun _ => ?_)
          · refine r_aload_n E dX67_modify_162 rfl 1 rfl ?_
            refine r_iload_n E dX67_modify_163 rfl 4 rfl ?_
            refine r_aload_n E dX67_modify_164 rfl 1 rfl ?_
            refine r_gec (y := 0) E zc_69 dX67_modify_165 q3242 zr_69 (zh_6827 (by decide)) (by decide) ?_
            refine r_iload E dX67_modify_168 0 rfl ?_
            refine r_iaload E zc_6827 za_6827 zt_6827 zx_6827 rfl rfl dX67_modify_170 (by decide) (fun v19 => ?_)
            refine r_aload_n E dX67_modify_171 rfl 1 rfl ?_
            refine r_gec (y := 0) E zc_69 dX67_modify_172 q3242 zr_69 (zh_6827 (by decide)) (by decide) ?_
            refine r_iload E dX67_modify_175 0 rfl ?_
            refine r_iconst E dX67_modify_177 (zkI (by decide) (by decide)) ?_
            refine r_iadd E dX67_modify_178 ?_
            refine r_iaload E zc_6827 za_6827 zt_6827 zx_6827 rfl rfl dX67_modify_179 (by decide) (fun v20 => ?_)
            refine r_aload_n E dX67_modify_180 rfl 1 rfl ?_
            refine r_gec (y := 0) E zc_69 dX67_modify_181 q3242 zr_69 (zh_6827 (by decide)) (by decide) ?_
            refine r_iload E dX67_modify_184 0 rfl ?_
            refine r_iconst E dX67_modify_186 (zkI (by decide) (by decide)) ?_
            refine r_iadd E dX67_modify_187 ?_
            refine r_iaload E zc_6827 za_6827 zt_6827 zx_6827 rfl rfl dX67_modify_188 (by decide) (fun v21 => ?_)
            refine r_callV E [(0, x3), (0, v19), (0, v20), (0, v21)] [] rfl zc_69 zr_69 (fun o _ => ⟨_, zw_X67.1 o, rfl⟩) (lw_V q3968 q3698 q3699 q294 q3700) dX67_modify_189 zy_X67_item rfl (by omega) (by decide) (Nat.le_of_ble_eq_true rfl) (by decide) (fun l G => k_fX67_item l G x3 v19 v20 v21) (fun v22 => ?_)
            refine r_istore (ls' := [(5, 0, v22), (4, 0, v1), (0, 69, 0), (1, 0, x1), (2, 0, x2), (3, 0, x3)]) E dX67_modify_192 (by rw [hN]; decide) rfl ?_
            refine r_iload E dX67_modify_194 0 rfl ?_
            refine r_if_ge E 204 (by decide) dX67_modify_196 (fun _ => ?_) (fun _ => ?_)
            · refine r_iconst E dX67_modify_204 (zkI (by decide) (by decide)) ?_
              exact r_ireturn E rfl hT dX67_modify_205
            · refine r_iload E dX67_modify_199 0 rfl ?_
              refine r_goto E 205 (by decide) dX67_modify_201 ?_
              exact r_ireturn E rfl hT dX67_modify_205
          · refine r_bipush E dX67_modify_159 (by decide) (zkI (by decide) (by decide)) ?_
            exact r_ireturn E rfl hT dX67_modify_161
        · refine r_bipush E dX67_modify_147 (by decide) (zkI (by decide) (by decide)) ?_
          exact r_ireturn E rfl hT dX67_modify_149
      · refine r_tabc E dX67_modify_6 3 206 (by decide) (by decide) rfl (by decide) (fun _ => ?_) (fun ht23 => ?_)
        · refine r_aload_n E dX67_modify_206 rfl 1 rfl ?_
          refine r_iload_n E dX67_modify_207 rfl 2 rfl ?_
          refine r_iload_n E dX67_modify_208 rfl 4 rfl ?_
          refine r_callV E [(0, x1), (0, x3)] [] rfl zc_69 zr_69 (fun o _ => ⟨_, zw_X67.1 o, rfl⟩) (lw_V q3969 q3971 qs149 q294 q3972) dX67_modify_209 zy_X67_newBrackets rfl (by omega) (by decide) (Nat.le_of_ble_eq_true rfl) (by decide) (fun l G => k_fX67_newBrackets l G x1 x3) (fun v24 => ?_)
          exact r_ireturn E rfl hT dX67_modify_212
        · refine r_tabd E dX67_modify_6 213 [10, 11, 12, 13] (by decide) (by decide) (by decide) ⟨ht2, ht7, ht13, ht23, trivial⟩ ?_
          refine r_aload_n E dX67_modify_213 rfl 1 rfl ?_
          refine r_iload_n E dX67_modify_214 rfl 2 rfl ?_
          refine r_iload_n E dX67_modify_215 rfl 4 rfl ?_
          refine r_callV E [(0, x1), (0, x3)] [] rfl zc_69 zr_69 (fun o _ => ⟨_, zw_X67.1 o, rfl⟩) (lw_V q3975 q3977 qs150 q294 q3978) dX67_modify_216 zy_X67_newLimit rfl (by omega) (by decide) (Nat.le_of_ble_eq_true rfl) (by decide) (fun l G => k_fX67_newLimit l G x1 x3) (fun v25 => ?_)
          exact r_ireturn E rfl hT dX67_modify_219
theorem k_fX67_modify (l : Launch) (G : zG) (x1 : Int) (x2 : Int) (x3 : Int) : zCt l G yX67_modify cX67_modify 6 (some .int) 4 [(69, 0), (0, x1), (0, x2), (0, x3)] (some 0) (fX67_modify x1 x2 x3) := zCt.of (by decide) (Nat.le_of_ble_eq_true rfl) (fun K E _ _ hN hT => w_fX67_modify E hN hT x1 x2 x3)
theorem dX67_askMailbox_0 : decode cX67_askMailbox 0 = .ok (.aload_n 0, 1) := by decide +kernel
theorem dX67_askMailbox_1 : decode cX67_askMailbox 1 = .ok (.iload_n 2, 1) := by decide +kernel
theorem dX67_askMailbox_2 : decode cX67_askMailbox 2 = .ok (.aload_n 0, 1) := by decide +kernel
theorem dX67_askMailbox_3 : decode cX67_askMailbox 3 = .ok (.getfield 77, 3) := by decide +kernel
theorem dX67_askMailbox_6 : decode cX67_askMailbox 6 = .ok (.iload_n 1, 1) := by decide +kernel
theorem dX67_askMailbox_7 : decode cX67_askMailbox 7 = .ok (.iaload, 1) := by decide +kernel
theorem dX67_askMailbox_8 : decode cX67_askMailbox 8 = .ok (.aload_n 0, 1) := by decide +kernel
theorem dX67_askMailbox_9 : decode cX67_askMailbox 9 = .ok (.getfield 80, 3) := by decide +kernel
theorem dX67_askMailbox_12 : decode cX67_askMailbox 12 = .ok (.iload_n 1, 1) := by decide +kernel
theorem dX67_askMailbox_13 : decode cX67_askMailbox 13 = .ok (.iaload, 1) := by decide +kernel
theorem dX67_askMailbox_14 : decode cX67_askMailbox 14 = .ok (.invokevirtual 498, 3) := by decide +kernel
theorem dX67_askMailbox_17 : decode cX67_askMailbox 17 = .ok (.iload_n 3, 1) := by decide +kernel
theorem dX67_askMailbox_18 : decode cX67_askMailbox 18 = .ok (.iand, 1) := by decide +kernel
theorem dX67_askMailbox_19 : decode cX67_askMailbox 19 = .ok (.ifCond .ne 6, 3) := by decide +kernel
theorem dX67_askMailbox_22 : decode cX67_askMailbox 22 = .ok (.bipush (-2), 2) := by decide +kernel
theorem dX67_askMailbox_24 : decode cX67_askMailbox 24 = .ok (.ireturn, 1) := by decide +kernel
theorem dX67_askMailbox_25 : decode cX67_askMailbox 25 = .ok (.aload_n 0, 1) := by decide +kernel
theorem dX67_askMailbox_26 : decode cX67_askMailbox 26 = .ok (.getfield 83, 3) := by decide +kernel
theorem dX67_askMailbox_29 : decode cX67_askMailbox 29 = .ok (.iload_n 1, 1) := by decide +kernel
theorem dX67_askMailbox_30 : decode cX67_askMailbox 30 = .ok (.iaload, 1) := by decide +kernel
theorem dX67_askMailbox_31 : decode cX67_askMailbox 31 = .ok (.aload_n 0, 1) := by decide +kernel
theorem dX67_askMailbox_32 : decode cX67_askMailbox 32 = .ok (.getfield 20, 3) := by decide +kernel
theorem dX67_askMailbox_35 : decode cX67_askMailbox 35 = .ok (.iload_n 2, 1) := by decide +kernel
theorem dX67_askMailbox_36 : decode cX67_askMailbox 36 = .ok (.iaload, 1) := by decide +kernel
theorem dX67_askMailbox_37 : decode cX67_askMailbox 37 = .ok (.invokestatic 447, 3) := by decide +kernel
theorem dX67_askMailbox_40 : decode cX67_askMailbox 40 = .ok (.ifCond .ne 8, 3) := by decide +kernel
theorem dX67_askMailbox_43 : decode cX67_askMailbox 43 = .ok (.bipush (-3), 2) := by decide +kernel
theorem dX67_askMailbox_45 : decode cX67_askMailbox 45 = .ok (.goto 28, 3) := by decide +kernel
theorem dX67_askMailbox_48 : decode cX67_askMailbox 48 = .ok (.aload_n 0, 1) := by decide +kernel
theorem dX67_askMailbox_49 : decode cX67_askMailbox 49 = .ok (.getfield 110, 3) := by decide +kernel
theorem dX67_askMailbox_52 : decode cX67_askMailbox 52 = .ok (.iload_n 1, 1) := by decide +kernel
theorem dX67_askMailbox_53 : decode cX67_askMailbox 53 = .ok (.iaload, 1) := by decide +kernel
theorem dX67_askMailbox_54 : decode cX67_askMailbox 54 = .ok (.aload_n 0, 1) := by decide +kernel
theorem dX67_askMailbox_55 : decode cX67_askMailbox 55 = .ok (.getfield 23, 3) := by decide +kernel
theorem dX67_askMailbox_58 : decode cX67_askMailbox 58 = .ok (.iconst 3, 1) := by decide +kernel
theorem dX67_askMailbox_59 : decode cX67_askMailbox 59 = .ok (.iload_n 2, 1) := by decide +kernel
theorem dX67_askMailbox_60 : decode cX67_askMailbox 60 = .ok (.imul, 1) := by decide +kernel
theorem dX67_askMailbox_61 : decode cX67_askMailbox 61 = .ok (.iconst 1, 1) := by decide +kernel
theorem dX67_askMailbox_62 : decode cX67_askMailbox 62 = .ok (.iadd, 1) := by decide +kernel
theorem dX67_askMailbox_63 : decode cX67_askMailbox 63 = .ok (.iaload, 1) := by decide +kernel
theorem dX67_askMailbox_64 : decode cX67_askMailbox 64 = .ok (.if_icmp .le 8, 3) := by decide +kernel
theorem dX67_askMailbox_67 : decode cX67_askMailbox 67 = .ok (.bipush (-4), 2) := by decide +kernel
theorem dX67_askMailbox_69 : decode cX67_askMailbox 69 = .ok (.goto 4, 3) := by decide +kernel
theorem dX67_askMailbox_72 : decode cX67_askMailbox 72 = .ok (.iconst 0, 1) := by decide +kernel
theorem dX67_askMailbox_73 : decode cX67_askMailbox 73 = .ok (.ireturn, 1) := by decide +kernel
theorem zy_X67_askMailbox : yX67_askMailbox.cls ≠ "java/lang/invoke/MethodHandle" ∧ yX67_askMailbox.cls ≠ "java/lang/invoke/VarHandle" ∧ (parseMethodDescriptor yX67_askMailbox.desc).map (fun d => d.parameters.length) = some 3 := by decide +kernel
theorem w_fX67_askMailbox {K : zK} (E : zE K cX67_askMailbox "RingHouseModel" (some .int) 1) (hN : zNl K = 4) (hT : zTr K = (some 0)) (x1 : Int) (x2 : Int) (x3 : Int) : zR K 0 [(0, 69, 0), (1, 0, x1), (2, 0, x2), (3, 0, x3)] [] (fX67_askMailbox x1 x2 x3) := by
  refine r_aload_n E dX67_askMailbox_0 rfl 0 rfl ?_
  refine r_iload_n E dX67_askMailbox_1 rfl 2 rfl ?_
  refine r_aload_n E dX67_askMailbox_2 rfl 0 rfl ?_
  refine r_gec (y := 0) E zc_69 dX67_askMailbox_3 q3237 zr_69 (zh_6822 (by decide)) (by decide) ?_
  refine r_iload_n E dX67_askMailbox_6 rfl 1 rfl ?_
  refine r_iaload E zc_6822 za_6822 zt_6822 zx_6822 rfl rfl dX67_askMailbox_7 (by decide) (fun v1 => ?_)
  refine r_aload_n E dX67_askMailbox_8 rfl 0 rfl ?_
  refine r_gec (y := 0) E zc_69 dX67_askMailbox_9 q3238 zr_69 (zh_6823 (by decide)) (by decide) ?_
  refine r_iload_n E dX67_askMailbox_12 rfl 1 rfl ?_
  refine r_iaload E zc_6823 za_6823 zt_6823 zx_6823 rfl rfl dX67_askMailbox_13 (by decide) (fun v2 => ?_)
  refine r_callV E [(0, x2), (0, v1), (0, v2)] [] rfl zc_69 zr_69 (fun o _ => ⟨_, zw_X67.1 o, rfl⟩) (lw_V q3778 q3780 qs114 q294 q3781) dX67_askMailbox_14 zy_X67_modesFor rfl (by omega) (by decide) (Nat.le_of_ble_eq_true rfl) (by decide) (fun l G => k_fX67_modesFor l G x2 v1 v2) (fun v3 => ?_)
  refine r_iload_n E dX67_askMailbox_17 rfl 3 rfl ?_
  refine r_iand E dX67_askMailbox_18 ?_
  refine r_if_ne E 25 (by decide) dX67_askMailbox_19 (fun _ => ?_) (fun _ => ?_)
  · refine r_aload_n E dX67_askMailbox_25 rfl 0 rfl ?_
    refine r_gec (y := 0) E zc_69 dX67_askMailbox_26 q3239 zr_69 (zh_6824 (by decide)) (by decide) ?_
    refine r_iload_n E dX67_askMailbox_29 rfl 1 rfl ?_
    refine r_iaload E zc_6824 za_6824 zt_6824 zx_6824 rfl rfl dX67_askMailbox_30 (by decide) (fun v4 => ?_)
    refine r_aload_n E dX67_askMailbox_31 rfl 0 rfl ?_
    refine r_gec (y := 0) E zc_69 dX67_askMailbox_32 q3218 zr_69 (zh_6803 (by decide)) (by decide) ?_
    refine r_iload_n E dX67_askMailbox_35 rfl 2 rfl ?_
    refine r_iaload E zc_6803 za_6803 zt_6803 zx_6803 rfl rfl dX67_askMailbox_36 (by decide) (fun v5 => ?_)
    refine r_callS E [(0, v4), (0, v5)] [] rfl q3632 q3633 q294 q3634 dX67_askMailbox_37 zy_X67_dominates rfl (by omega) (by decide) (Nat.le_of_ble_eq_true rfl) (fun l G => k_fX67_dominates l G v4 v5) (fun v6 => ?_)
    refine r_if_ne E 48 (by decide) dX67_askMailbox_40 (fun _ => ?_) (fun _ => ?_)
    · refine r_aload_n E dX67_askMailbox_48 rfl 0 rfl ?_
      refine r_gec (y := 0) E zc_69 dX67_askMailbox_49 q3248 zr_69 (zh_6833 (by decide)) (by decide) ?_
      refine r_iload_n E dX67_askMailbox_52 rfl 1 rfl ?_
      refine r_iaload E zc_6833 za_6833 zt_6833 zx_6833 rfl rfl dX67_askMailbox_53 (by decide) (fun v7 => ?_)
      refine r_aload_n E dX67_askMailbox_54 rfl 0 rfl ?_
      refine r_gec (y := 0) E zc_69 dX67_askMailbox_55 q3219 zr_69 (zh_6804 (by decide)) (by decide) ?_
      refine r_iconst E dX67_askMailbox_58 (zkI (by decide) (by decide)) ?_
      refine r_iload_n E dX67_askMailbox_59 rfl 2 rfl ?_
      refine r_imul E dX67_askMailbox_60 ?_
      refine r_iconst E dX67_askMailbox_61 (zkI (by decide) (by decide)) ?_
      refine r_iadd E dX67_askMailbox_62 ?_
      refine r_iaload E zc_6804 za_6804 zt_6804 zx_6804 rfl rfl dX67_askMailbox_63 (by decide) (fun v8 => ?_)
      refine r_icmp_le E 72 (by decide) dX67_askMailbox_64 (fun _ => ?_) (fun _ => ?_)
      · refine r_iconst E dX67_askMailbox_72 (zkI (by decide) (by decide)) ?_
        exact r_ireturn E rfl hT dX67_askMailbox_73
      · refine r_bipush E dX67_askMailbox_67 (by decide) (zkI (by decide) (by decide)) ?_
        refine r_goto E 73 (by decide) dX67_askMailbox_69 ?_
        exact r_ireturn E rfl hT dX67_askMailbox_73
    · refine r_bipush E dX67_askMailbox_43 (by decide) (zkI (by decide) (by decide)) ?_
      refine r_goto E 73 (by decide) dX67_askMailbox_45 ?_
      exact r_ireturn E rfl hT dX67_askMailbox_73
  · refine r_bipush E dX67_askMailbox_22 (by decide) (zkI (by decide) (by decide)) ?_
    exact r_ireturn E rfl hT dX67_askMailbox_24
theorem k_fX67_askMailbox (l : Launch) (G : zG) (x1 : Int) (x2 : Int) (x3 : Int) : zCt l G yX67_askMailbox cX67_askMailbox 4 (some .int) 1 [(69, 0), (0, x1), (0, x2), (0, x3)] (some 0) (fX67_askMailbox x1 x2 x3) := zCt.of (by decide) (Nat.le_of_ble_eq_true rfl) (fun K E _ _ hN hT => w_fX67_askMailbox E hN hT x1 x2 x3)
theorem dX67_onMailbox_0 : decode cX67_onMailbox 0 = .ok (.aload_n 0, 1) := by decide +kernel
theorem dX67_onMailbox_1 : decode cX67_onMailbox 1 = .ok (.getfield 7, 3) := by decide +kernel
theorem dX67_onMailbox_4 : decode cX67_onMailbox 4 = .ok (.iload_n 3, 1) := by decide +kernel
theorem dX67_onMailbox_5 : decode cX67_onMailbox 5 = .ok (.iaload, 1) := by decide +kernel
theorem dX67_onMailbox_6 : decode cX67_onMailbox 6 = .ok (.iconst 3, 1) := by decide +kernel
theorem dX67_onMailbox_7 : decode cX67_onMailbox 7 = .ok (.if_icmp .eq 6, 3) := by decide +kernel
theorem dX67_onMailbox_10 : decode cX67_onMailbox 10 = .ok (.bipush (-7), 2) := by decide +kernel
theorem dX67_onMailbox_12 : decode cX67_onMailbox 12 = .ok (.ireturn, 1) := by decide +kernel
theorem dX67_onMailbox_13 : decode cX67_onMailbox 13 = .ok (.aload_n 0, 1) := by decide +kernel
theorem dX67_onMailbox_14 : decode cX67_onMailbox 14 = .ok (.iload_n 1, 1) := by decide +kernel
theorem dX67_onMailbox_15 : decode cX67_onMailbox 15 = .ok (.iload_n 3, 1) := by decide +kernel
theorem dX67_onMailbox_16 : decode cX67_onMailbox 16 = .ok (.iload_n 2, 1) := by decide +kernel
theorem dX67_onMailbox_17 : decode cX67_onMailbox 17 = .ok (.bipush 25, 2) := by decide +kernel
theorem dX67_onMailbox_19 : decode cX67_onMailbox 19 = .ok (.if_icmp .ne 7, 3) := by decide +kernel
theorem dX67_onMailbox_22 : decode cX67_onMailbox 22 = .ok (.iconst 1, 1) := by decide +kernel
theorem dX67_onMailbox_23 : decode cX67_onMailbox 23 = .ok (.goto 14, 3) := by decide +kernel
theorem dX67_onMailbox_26 : decode cX67_onMailbox 26 = .ok (.iload_n 2, 1) := by decide +kernel
theorem dX67_onMailbox_27 : decode cX67_onMailbox 27 = .ok (.bipush 26, 2) := by decide +kernel
theorem dX67_onMailbox_29 : decode cX67_onMailbox 29 = .ok (.if_icmp .ne 7, 3) := by decide +kernel
theorem dX67_onMailbox_32 : decode cX67_onMailbox 32 = .ok (.iconst 2, 1) := by decide +kernel
theorem dX67_onMailbox_33 : decode cX67_onMailbox 33 = .ok (.goto 4, 3) := by decide +kernel
theorem dX67_onMailbox_36 : decode cX67_onMailbox 36 = .ok (.iconst 4, 1) := by decide +kernel
theorem dX67_onMailbox_37 : decode cX67_onMailbox 37 = .ok (.invokevirtual 750, 3) := by decide +kernel
theorem dX67_onMailbox_40 : decode cX67_onMailbox 40 = .ok (.istore 4, 2) := by decide +kernel
theorem dX67_onMailbox_42 : decode cX67_onMailbox 42 = .ok (.iload 4, 2) := by decide +kernel
theorem dX67_onMailbox_44 : decode cX67_onMailbox 44 = .ok (.ifCond .ge 6, 3) := by decide +kernel
theorem dX67_onMailbox_47 : decode cX67_onMailbox 47 = .ok (.iload 4, 2) := by decide +kernel
theorem dX67_onMailbox_49 : decode cX67_onMailbox 49 = .ok (.ireturn, 1) := by decide +kernel
theorem dX67_onMailbox_50 : decode cX67_onMailbox 50 = .ok (.sipush 128, 3) := by decide +kernel
theorem dX67_onMailbox_53 : decode cX67_onMailbox 53 = .ok (.iload_n 3, 1) := by decide +kernel
theorem dX67_onMailbox_54 : decode cX67_onMailbox 54 = .ok (.imul, 1) := by decide +kernel
theorem dX67_onMailbox_55 : decode cX67_onMailbox 55 = .ok (.istore 5, 2) := by decide +kernel
theorem dX67_onMailbox_57 : decode cX67_onMailbox 57 = .ok (.iconst 0, 1) := by decide +kernel
theorem dX67_onMailbox_58 : decode cX67_onMailbox 58 = .ok (.istore 6, 2) := by decide +kernel
theorem dX67_onMailbox_60 : decode cX67_onMailbox 60 = .ok (.iconst (-1), 1) := by decide +kernel
theorem dX67_onMailbox_61 : decode cX67_onMailbox 61 = .ok (.istore 7, 2) := by decide +kernel
theorem dX67_onMailbox_63 : decode cX67_onMailbox 63 = .ok (.iconst 0, 1) := by decide +kernel
theorem dX67_onMailbox_64 : decode cX67_onMailbox 64 = .ok (.istore 8, 2) := by decide +kernel
theorem dX67_onMailbox_66 : decode cX67_onMailbox 66 = .ok (.iconst 0, 1) := by decide +kernel
theorem dX67_onMailbox_67 : decode cX67_onMailbox 67 = .ok (.istore 9, 2) := by decide +kernel
theorem dX67_onMailbox_69 : decode cX67_onMailbox 69 = .ok (.iload 9, 2) := by decide +kernel
theorem dX67_onMailbox_71 : decode cX67_onMailbox 71 = .ok (.aload_n 0, 1) := by decide +kernel
theorem dX67_onMailbox_72 : decode cX67_onMailbox 72 = .ok (.getfield 60, 3) := by decide +kernel
theorem dX67_onMailbox_75 : decode cX67_onMailbox 75 = .ok (.iload_n 3, 1) := by decide +kernel
theorem dX67_onMailbox_76 : decode cX67_onMailbox 76 = .ok (.iaload, 1) := by decide +kernel
theorem dX67_onMailbox_77 : decode cX67_onMailbox 77 = .ok (.if_icmp .ge 137, 3) := by decide +kernel
theorem dX67_onMailbox_80 : decode cX67_onMailbox 80 = .ok (.aload_n 0, 1) := by decide +kernel
theorem dX67_onMailbox_81 : decode cX67_onMailbox 81 = .ok (.getfield 67, 3) := by decide +kernel
theorem dX67_onMailbox_84 : decode cX67_onMailbox 84 = .ok (.iload 5, 2) := by decide +kernel
theorem dX67_onMailbox_86 : decode cX67_onMailbox 86 = .ok (.iload 9, 2) := by decide +kernel
theorem dX67_onMailbox_88 : decode cX67_onMailbox 88 = .ok (.iadd, 1) := by decide +kernel
theorem dX67_onMailbox_89 : decode cX67_onMailbox 89 = .ok (.iaload, 1) := by decide +kernel
theorem dX67_onMailbox_90 : decode cX67_onMailbox 90 = .ok (.aload_n 0, 1) := by decide +kernel
theorem dX67_onMailbox_91 : decode cX67_onMailbox 91 = .ok (.getfield 83, 3) := by decide +kernel
theorem dX67_onMailbox_94 : decode cX67_onMailbox 94 = .ok (.iload_n 1, 1) := by decide +kernel
theorem dX67_onMailbox_95 : decode cX67_onMailbox 95 = .ok (.iaload, 1) := by decide +kernel
theorem dX67_onMailbox_96 : decode cX67_onMailbox 96 = .ok (.if_icmp .ne 7, 3) := by decide +kernel
theorem dX67_onMailbox_99 : decode cX67_onMailbox 99 = .ok (.iconst 1, 1) := by decide +kernel
theorem dX67_onMailbox_100 : decode cX67_onMailbox 100 = .ok (.goto 4, 3) := by decide +kernel
theorem dX67_onMailbox_103 : decode cX67_onMailbox 103 = .ok (.iconst 0, 1) := by decide +kernel
theorem dX67_onMailbox_104 : decode cX67_onMailbox 104 = .ok (.istore 10, 2) := by decide +kernel
theorem dX67_onMailbox_106 : decode cX67_onMailbox 106 = .ok (.iload 10, 2) := by decide +kernel
theorem dX67_onMailbox_108 : decode cX67_onMailbox 108 = .ok (.ifCond .eq 10, 3) := by decide +kernel
theorem dX67_onMailbox_111 : decode cX67_onMailbox 111 = .ok (.iload 6, 2) := by decide +kernel
theorem dX67_onMailbox_113 : decode cX67_onMailbox 113 = .ok (.iconst 1, 1) := by decide +kernel
theorem dX67_onMailbox_114 : decode cX67_onMailbox 114 = .ok (.iadd, 1) := by decide +kernel
theorem dX67_onMailbox_115 : decode cX67_onMailbox 115 = .ok (.goto 5, 3) := by decide +kernel
theorem dX67_onMailbox_118 : decode cX67_onMailbox 118 = .ok (.iload 6, 2) := by decide +kernel
theorem dX67_onMailbox_120 : decode cX67_onMailbox 120 = .ok (.istore 6, 2) := by decide +kernel
theorem dX67_onMailbox_122 : decode cX67_onMailbox 122 = .ok (.iload_n 2, 1) := by decide +kernel
theorem dX67_onMailbox_123 : decode cX67_onMailbox 123 = .ok (.bipush 26, 2) := by decide +kernel
theorem dX67_onMailbox_125 : decode cX67_onMailbox 125 = .ok (.if_icmp .ne 8, 3) := by decide +kernel
theorem dX67_onMailbox_128 : decode cX67_onMailbox 128 = .ok (.iload 10, 2) := by decide +kernel
theorem dX67_onMailbox_130 : decode cX67_onMailbox 130 = .ok (.goto 22, 3) := by decide +kernel
theorem dX67_onMailbox_133 : decode cX67_onMailbox 133 = .ok (.aload_n 0, 1) := by decide +kernel
theorem dX67_onMailbox_134 : decode cX67_onMailbox 134 = .ok (.getfield 83, 3) := by decide +kernel
theorem dX67_onMailbox_137 : decode cX67_onMailbox 137 = .ok (.iload_n 1, 1) := by decide +kernel
theorem dX67_onMailbox_138 : decode cX67_onMailbox 138 = .ok (.iaload, 1) := by decide +kernel
theorem dX67_onMailbox_139 : decode cX67_onMailbox 139 = .ok (.aload_n 0, 1) := by decide +kernel
theorem dX67_onMailbox_140 : decode cX67_onMailbox 140 = .ok (.getfield 67, 3) := by decide +kernel
theorem dX67_onMailbox_143 : decode cX67_onMailbox 143 = .ok (.iload 5, 2) := by decide +kernel
theorem dX67_onMailbox_145 : decode cX67_onMailbox 145 = .ok (.iload 9, 2) := by decide +kernel
theorem dX67_onMailbox_147 : decode cX67_onMailbox 147 = .ok (.iadd, 1) := by decide +kernel
theorem dX67_onMailbox_148 : decode cX67_onMailbox 148 = .ok (.iaload, 1) := by decide +kernel
theorem dX67_onMailbox_149 : decode cX67_onMailbox 149 = .ok (.invokestatic 447, 3) := by decide +kernel
theorem dX67_onMailbox_152 : decode cX67_onMailbox 152 = .ok (.istore 11, 2) := by decide +kernel
theorem dX67_onMailbox_154 : decode cX67_onMailbox 154 = .ok (.iload 11, 2) := by decide +kernel
theorem dX67_onMailbox_156 : decode cX67_onMailbox 156 = .ok (.ifCond .eq 32, 3) := by decide +kernel
theorem dX67_onMailbox_159 : decode cX67_onMailbox 159 = .ok (.iload 7, 2) := by decide +kernel
theorem dX67_onMailbox_161 : decode cX67_onMailbox 161 = .ok (.ifCond .ge 27, 3) := by decide +kernel
theorem dX67_onMailbox_164 : decode cX67_onMailbox 164 = .ok (.iload_n 2, 1) := by decide +kernel
theorem dX67_onMailbox_165 : decode cX67_onMailbox 165 = .ok (.bipush 26, 2) := by decide +kernel
theorem dX67_onMailbox_167 : decode cX67_onMailbox 167 = .ok (.if_icmp .eq 16, 3) := by decide +kernel
theorem dX67_onMailbox_170 : decode cX67_onMailbox 170 = .ok (.iload 8, 2) := by decide +kernel
theorem dX67_onMailbox_172 : decode cX67_onMailbox 172 = .ok (.aload_n 0, 1) := by decide +kernel
theorem dX67_onMailbox_173 : decode cX67_onMailbox 173 = .ok (.getfield 92, 3) := by decide +kernel
theorem dX67_onMailbox_176 : decode cX67_onMailbox 176 = .ok (.iconst 4, 1) := by decide +kernel
theorem dX67_onMailbox_177 : decode cX67_onMailbox 177 = .ok (.iload_n 1, 1) := by decide +kernel
theorem dX67_onMailbox_178 : decode cX67_onMailbox 178 = .ok (.imul, 1) := by decide +kernel
theorem dX67_onMailbox_179 : decode cX67_onMailbox 179 = .ok (.iaload, 1) := by decide +kernel
theorem dX67_onMailbox_180 : decode cX67_onMailbox 180 = .ok (.if_icmp .ne 8, 3) := by decide +kernel
theorem dX67_onMailbox_183 : decode cX67_onMailbox 183 = .ok (.iload 9, 2) := by decide +kernel
theorem dX67_onMailbox_185 : decode cX67_onMailbox 185 = .ok (.goto 5, 3) := by decide +kernel
theorem dX67_onMailbox_188 : decode cX67_onMailbox 188 = .ok (.iload 7, 2) := by decide +kernel
theorem dX67_onMailbox_190 : decode cX67_onMailbox 190 = .ok (.istore 7, 2) := by decide +kernel
theorem dX67_onMailbox_192 : decode cX67_onMailbox 192 = .ok (.iload 11, 2) := by decide +kernel
theorem dX67_onMailbox_194 : decode cX67_onMailbox 194 = .ok (.ifCond .eq 10, 3) := by decide +kernel
theorem dX67_onMailbox_197 : decode cX67_onMailbox 197 = .ok (.iload 8, 2) := by decide +kernel
theorem dX67_onMailbox_199 : decode cX67_onMailbox 199 = .ok (.iconst 1, 1) := by decide +kernel
theorem dX67_onMailbox_200 : decode cX67_onMailbox 200 = .ok (.iadd, 1) := by decide +kernel
theorem dX67_onMailbox_201 : decode cX67_onMailbox 201 = .ok (.goto 5, 3) := by decide +kernel
theorem dX67_onMailbox_204 : decode cX67_onMailbox 204 = .ok (.iload 8, 2) := by decide +kernel
theorem dX67_onMailbox_206 : decode cX67_onMailbox 206 = .ok (.istore 8, 2) := by decide +kernel
theorem dX67_onMailbox_208 : decode cX67_onMailbox 208 = .ok (.iinc 9 1, 3) := by decide +kernel
theorem dX67_onMailbox_211 : decode cX67_onMailbox 211 = .ok (.goto (-142), 3) := by decide +kernel
theorem dX67_onMailbox_214 : decode cX67_onMailbox 214 = .ok (.iload_n 2, 1) := by decide +kernel
theorem dX67_onMailbox_215 : decode cX67_onMailbox 215 = .ok (.bipush 25, 2) := by decide +kernel
theorem dX67_onMailbox_217 : decode cX67_onMailbox 217 = .ok (.if_icmp .ne 64, 3) := by decide +kernel
theorem dX67_onMailbox_220 : decode cX67_onMailbox 220 = .ok (.iload 6, 2) := by decide +kernel
theorem dX67_onMailbox_222 : decode cX67_onMailbox 222 = .ok (.iconst 4, 1) := by decide +kernel
theorem dX67_onMailbox_223 : decode cX67_onMailbox 223 = .ok (.if_icmp .ne 6, 3) := by decide +kernel
theorem dX67_onMailbox_226 : decode cX67_onMailbox 226 = .ok (.bipush (-5), 2) := by decide +kernel
theorem dX67_onMailbox_228 : decode cX67_onMailbox 228 = .ok (.ireturn, 1) := by decide +kernel
theorem dX67_onMailbox_229 : decode cX67_onMailbox 229 = .ok (.aload_n 0, 1) := by decide +kernel
theorem dX67_onMailbox_230 : decode cX67_onMailbox 230 = .ok (.getfield 64, 3) := by decide +kernel
theorem dX67_onMailbox_233 : decode cX67_onMailbox 233 = .ok (.iload 5, 2) := by decide +kernel
theorem dX67_onMailbox_235 : decode cX67_onMailbox 235 = .ok (.aload_n 0, 1) := by decide +kernel
theorem dX67_onMailbox_236 : decode cX67_onMailbox 236 = .ok (.getfield 60, 3) := by decide +kernel
theorem dX67_onMailbox_239 : decode cX67_onMailbox 239 = .ok (.iload_n 3, 1) := by decide +kernel
theorem dX67_onMailbox_240 : decode cX67_onMailbox 240 = .ok (.iaload, 1) := by decide +kernel
theorem dX67_onMailbox_241 : decode cX67_onMailbox 241 = .ok (.iadd, 1) := by decide +kernel
theorem dX67_onMailbox_242 : decode cX67_onMailbox 242 = .ok (.aload_n 0, 1) := by decide +kernel
theorem dX67_onMailbox_243 : decode cX67_onMailbox 243 = .ok (.getfield 89, 3) := by decide +kernel
theorem dX67_onMailbox_246 : decode cX67_onMailbox 246 = .ok (.iload_n 1, 1) := by decide +kernel
theorem dX67_onMailbox_247 : decode cX67_onMailbox 247 = .ok (.laload, 1) := by decide +kernel
theorem dX67_onMailbox_248 : decode cX67_onMailbox 248 = .ok (.lastore, 1) := by decide +kernel
theorem dX67_onMailbox_249 : decode cX67_onMailbox 249 = .ok (.aload_n 0, 1) := by decide +kernel
theorem dX67_onMailbox_250 : decode cX67_onMailbox 250 = .ok (.getfield 67, 3) := by decide +kernel
theorem dX67_onMailbox_253 : decode cX67_onMailbox 253 = .ok (.iload 5, 2) := by decide +kernel
theorem dX67_onMailbox_255 : decode cX67_onMailbox 255 = .ok (.aload_n 0, 1) := by decide +kernel
theorem dX67_onMailbox_256 : decode cX67_onMailbox 256 = .ok (.getfield 60, 3) := by decide +kernel
theorem dX67_onMailbox_259 : decode cX67_onMailbox 259 = .ok (.iload_n 3, 1) := by decide +kernel
theorem dX67_onMailbox_260 : decode cX67_onMailbox 260 = .ok (.iaload, 1) := by decide +kernel
theorem dX67_onMailbox_261 : decode cX67_onMailbox 261 = .ok (.iadd, 1) := by decide +kernel
theorem dX67_onMailbox_262 : decode cX67_onMailbox 262 = .ok (.aload_n 0, 1) := by decide +kernel
theorem dX67_onMailbox_263 : decode cX67_onMailbox 263 = .ok (.getfield 83, 3) := by decide +kernel
theorem dX67_onMailbox_266 : decode cX67_onMailbox 266 = .ok (.iload_n 1, 1) := by decide +kernel
theorem dX67_onMailbox_267 : decode cX67_onMailbox 267 = .ok (.iaload, 1) := by decide +kernel
theorem dX67_onMailbox_268 : decode cX67_onMailbox 268 = .ok (.iastore, 1) := by decide +kernel
theorem dX67_onMailbox_269 : decode cX67_onMailbox 269 = .ok (.aload_n 0, 1) := by decide +kernel
theorem dX67_onMailbox_270 : decode cX67_onMailbox 270 = .ok (.getfield 60, 3) := by decide +kernel
theorem dX67_onMailbox_273 : decode cX67_onMailbox 273 = .ok (.iload_n 3, 1) := by decide +kernel
theorem dX67_onMailbox_274 : decode cX67_onMailbox 274 = .ok (.dup2, 1) := by decide +kernel
theorem dX67_onMailbox_275 : decode cX67_onMailbox 275 = .ok (.iaload, 1) := by decide +kernel
theorem dX67_onMailbox_276 : decode cX67_onMailbox 276 = .ok (.iconst 1, 1) := by decide +kernel
theorem dX67_onMailbox_277 : decode cX67_onMailbox 277 = .ok (.iadd, 1) := by decide +kernel
theorem dX67_onMailbox_278 : decode cX67_onMailbox 278 = .ok (.iastore, 1) := by decide +kernel
theorem dX67_onMailbox_279 : decode cX67_onMailbox 279 = .ok (.iconst 0, 1) := by decide +kernel
theorem dX67_onMailbox_280 : decode cX67_onMailbox 280 = .ok (.ireturn, 1) := by decide +kernel
theorem dX67_onMailbox_281 : decode cX67_onMailbox 281 = .ok (.iload 7, 2) := by decide +kernel
theorem dX67_onMailbox_283 : decode cX67_onMailbox 283 = .ok (.ifCond .ge 5, 3) := by decide +kernel
theorem dX67_onMailbox_286 : decode cX67_onMailbox 286 = .ok (.iconst (-1), 1) := by decide +kernel
theorem dX67_onMailbox_287 : decode cX67_onMailbox 287 = .ok (.ireturn, 1) := by decide +kernel
theorem dX67_onMailbox_288 : decode cX67_onMailbox 288 = .ok (.aload_n 0, 1) := by decide +kernel
theorem dX67_onMailbox_289 : decode cX67_onMailbox 289 = .ok (.getfield 89, 3) := by decide +kernel
theorem dX67_onMailbox_292 : decode cX67_onMailbox 292 = .ok (.iload_n 1, 1) := by decide +kernel
theorem dX67_onMailbox_293 : decode cX67_onMailbox 293 = .ok (.aload_n 0, 1) := by decide +kernel
theorem dX67_onMailbox_294 : decode cX67_onMailbox 294 = .ok (.getfield 64, 3) := by decide +kernel
theorem dX67_onMailbox_297 : decode cX67_onMailbox 297 = .ok (.iload 5, 2) := by decide +kernel
theorem dX67_onMailbox_299 : decode cX67_onMailbox 299 = .ok (.iload 7, 2) := by decide +kernel
theorem dX67_onMailbox_301 : decode cX67_onMailbox 301 = .ok (.iadd, 1) := by decide +kernel
theorem dX67_onMailbox_302 : decode cX67_onMailbox 302 = .ok (.laload, 1) := by decide +kernel
theorem dX67_onMailbox_303 : decode cX67_onMailbox 303 = .ok (.lastore, 1) := by decide +kernel
theorem dX67_onMailbox_304 : decode cX67_onMailbox 304 = .ok (.iload_n 2, 1) := by decide +kernel
theorem dX67_onMailbox_305 : decode cX67_onMailbox 305 = .ok (.bipush 27, 2) := by decide +kernel
theorem dX67_onMailbox_307 : decode cX67_onMailbox 307 = .ok (.if_icmp .ne 25, 3) := by decide +kernel
theorem dX67_onMailbox_310 : decode cX67_onMailbox 310 = .ok (.aload_n 0, 1) := by decide +kernel
theorem dX67_onMailbox_311 : decode cX67_onMailbox 311 = .ok (.getfield 92, 3) := by decide +kernel
theorem dX67_onMailbox_314 : decode cX67_onMailbox 314 = .ok (.iconst 4, 1) := by decide +kernel
theorem dX67_onMailbox_315 : decode cX67_onMailbox 315 = .ok (.iload_n 1, 1) := by decide +kernel
theorem dX67_onMailbox_316 : decode cX67_onMailbox 316 = .ok (.imul, 1) := by decide +kernel
theorem dX67_onMailbox_317 : decode cX67_onMailbox 317 = .ok (.iconst 1, 1) := by decide +kernel
theorem dX67_onMailbox_318 : decode cX67_onMailbox 318 = .ok (.iadd, 1) := by decide +kernel
theorem dX67_onMailbox_319 : decode cX67_onMailbox 319 = .ok (.aload_n 0, 1) := by decide +kernel
theorem dX67_onMailbox_320 : decode cX67_onMailbox 320 = .ok (.getfield 67, 3) := by decide +kernel
theorem dX67_onMailbox_323 : decode cX67_onMailbox 323 = .ok (.iload 5, 2) := by decide +kernel
theorem dX67_onMailbox_325 : decode cX67_onMailbox 325 = .ok (.iload 7, 2) := by decide +kernel
theorem dX67_onMailbox_327 : decode cX67_onMailbox 327 = .ok (.iadd, 1) := by decide +kernel
theorem dX67_onMailbox_328 : decode cX67_onMailbox 328 = .ok (.iaload, 1) := by decide +kernel
theorem dX67_onMailbox_329 : decode cX67_onMailbox 329 = .ok (.iastore, 1) := by decide +kernel
theorem dX67_onMailbox_330 : decode cX67_onMailbox 330 = .ok (.iconst 0, 1) := by decide +kernel
theorem dX67_onMailbox_331 : decode cX67_onMailbox 331 = .ok (.ireturn, 1) := by decide +kernel
theorem dX67_onMailbox_332 : decode cX67_onMailbox 332 = .ok (.aload_n 0, 1) := by decide +kernel
theorem dX67_onMailbox_333 : decode cX67_onMailbox 333 = .ok (.getfield 60, 3) := by decide +kernel
theorem dX67_onMailbox_336 : decode cX67_onMailbox 336 = .ok (.iload_n 3, 1) := by decide +kernel
theorem dX67_onMailbox_337 : decode cX67_onMailbox 337 = .ok (.dup2, 1) := by decide +kernel
theorem dX67_onMailbox_338 : decode cX67_onMailbox 338 = .ok (.iaload, 1) := by decide +kernel
theorem dX67_onMailbox_339 : decode cX67_onMailbox 339 = .ok (.iconst 1, 1) := by decide +kernel
theorem dX67_onMailbox_340 : decode cX67_onMailbox 340 = .ok (.isub, 1) := by decide +kernel
theorem dX67_onMailbox_341 : decode cX67_onMailbox 341 = .ok (.iastore, 1) := by decide +kernel
theorem dX67_onMailbox_342 : decode cX67_onMailbox 342 = .ok (.iload 7, 2) := by decide +kernel
theorem dX67_onMailbox_344 : decode cX67_onMailbox 344 = .ok (.istore 9, 2) := by decide +kernel
theorem dX67_onMailbox_346 : decode cX67_onMailbox 346 = .ok (.iload 9, 2) := by decide +kernel
theorem dX67_onMailbox_348 : decode cX67_onMailbox 348 = .ok (.aload_n 0, 1) := by decide +kernel
theorem dX67_onMailbox_349 : decode cX67_onMailbox 349 = .ok (.getfield 60, 3) := by decide +kernel
theorem dX67_onMailbox_352 : decode cX67_onMailbox 352 = .ok (.iload_n 3, 1) := by decide +kernel
theorem dX67_onMailbox_353 : decode cX67_onMailbox 353 = .ok (.iaload, 1) := by decide +kernel
theorem dX67_onMailbox_354 : decode cX67_onMailbox 354 = .ok (.if_icmp .ge 53, 3) := by decide +kernel
theorem dX67_onMailbox_357 : decode cX67_onMailbox 357 = .ok (.aload_n 0, 1) := by decide +kernel
theorem dX67_onMailbox_358 : decode cX67_onMailbox 358 = .ok (.getfield 64, 3) := by decide +kernel
theorem dX67_onMailbox_361 : decode cX67_onMailbox 361 = .ok (.iload 5, 2) := by decide +kernel
theorem dX67_onMailbox_363 : decode cX67_onMailbox 363 = .ok (.iload 9, 2) := by decide +kernel
theorem dX67_onMailbox_365 : decode cX67_onMailbox 365 = .ok (.iadd, 1) := by decide +kernel
theorem dX67_onMailbox_366 : decode cX67_onMailbox 366 = .ok (.aload_n 0, 1) := by decide +kernel
theorem dX67_onMailbox_367 : decode cX67_onMailbox 367 = .ok (.getfield 64, 3) := by decide +kernel
theorem dX67_onMailbox_370 : decode cX67_onMailbox 370 = .ok (.iload 5, 2) := by decide +kernel
theorem dX67_onMailbox_372 : decode cX67_onMailbox 372 = .ok (.iload 9, 2) := by decide +kernel
theorem dX67_onMailbox_374 : decode cX67_onMailbox 374 = .ok (.iadd, 1) := by decide +kernel
theorem dX67_onMailbox_375 : decode cX67_onMailbox 375 = .ok (.iconst 1, 1) := by decide +kernel
theorem dX67_onMailbox_376 : decode cX67_onMailbox 376 = .ok (.iadd, 1) := by decide +kernel
theorem dX67_onMailbox_377 : decode cX67_onMailbox 377 = .ok (.laload, 1) := by decide +kernel
theorem dX67_onMailbox_378 : decode cX67_onMailbox 378 = .ok (.lastore, 1) := by decide +kernel
theorem dX67_onMailbox_379 : decode cX67_onMailbox 379 = .ok (.aload_n 0, 1) := by decide +kernel
theorem dX67_onMailbox_380 : decode cX67_onMailbox 380 = .ok (.getfield 67, 3) := by decide +kernel
theorem dX67_onMailbox_383 : decode cX67_onMailbox 383 = .ok (.iload 5, 2) := by decide +kernel
theorem dX67_onMailbox_385 : decode cX67_onMailbox 385 = .ok (.iload 9, 2) := by decide +kernel
theorem dX67_onMailbox_387 : decode cX67_onMailbox 387 = .ok (.iadd, 1) := by decide +kernel
theorem dX67_onMailbox_388 : decode cX67_onMailbox 388 = .ok (.aload_n 0, 1) := by decide +kernel
theorem dX67_onMailbox_389 : decode cX67_onMailbox 389 = .ok (.getfield 67, 3) := by decide +kernel
theorem dX67_onMailbox_392 : decode cX67_onMailbox 392 = .ok (.iload 5, 2) := by decide +kernel
theorem dX67_onMailbox_394 : decode cX67_onMailbox 394 = .ok (.iload 9, 2) := by decide +kernel
theorem dX67_onMailbox_396 : decode cX67_onMailbox 396 = .ok (.iadd, 1) := by decide +kernel
theorem dX67_onMailbox_397 : decode cX67_onMailbox 397 = .ok (.iconst 1, 1) := by decide +kernel
theorem dX67_onMailbox_398 : decode cX67_onMailbox 398 = .ok (.iadd, 1) := by decide +kernel
theorem dX67_onMailbox_399 : decode cX67_onMailbox 399 = .ok (.iaload, 1) := by decide +kernel
theorem dX67_onMailbox_400 : decode cX67_onMailbox 400 = .ok (.iastore, 1) := by decide +kernel
theorem dX67_onMailbox_401 : decode cX67_onMailbox 401 = .ok (.iinc 9 1, 3) := by decide +kernel
theorem dX67_onMailbox_404 : decode cX67_onMailbox 404 = .ok (.goto (-58), 3) := by decide +kernel
theorem dX67_onMailbox_407 : decode cX67_onMailbox 407 = .ok (.iconst 0, 1) := by decide +kernel
theorem dX67_onMailbox_408 : decode cX67_onMailbox 408 = .ok (.ireturn, 1) := by decide +kernel
theorem zy_X67_onMailbox : yX67_onMailbox.cls ≠ "java/lang/invoke/MethodHandle" ∧ yX67_onMailbox.cls ≠ "java/lang/invoke/VarHandle" ∧ (parseMethodDescriptor yX67_onMailbox.desc).map (fun d => d.parameters.length) = some 3 := by decide +kernel
theorem w_fX67_onMailbox_B346 {K : zK} (E : zE K cX67_onMailbox "RingHouseModel" (some .int) 2) (hN : zNl K = 12) (hT : zTr K = (some 0)) (x3 : Int) (x5 : Int) : ∀ r346 : Int → zX, (∀ s : Int, zR K 346 [(0, 69, 0), (3, 0, x3), (5, 0, x5), (9, 0, s)] [] (r346 s)) → ∀ s : Int, zR K 346 [(0, 69, 0), (3, 0, x3), (5, 0, x5), (9, 0, s)] [] (fX67_onMailbox_B346 x3 x5 r346 s) := by
  intro r346 hr346 x9
  refine r_iload E dX67_onMailbox_346 3 rfl ?_
  refine r_aload_n E dX67_onMailbox_348 rfl 0 rfl ?_
  refine r_gec (y := 0) E zc_69 dX67_onMailbox_349 q3232 zr_69 (zh_6817 (by decide)) (by decide) ?_
  refine r_iload_n E dX67_onMailbox_352 rfl 1 rfl ?_
  refine r_iaload E zc_6817 za_6817 zt_6817 zx_6817 rfl rfl dX67_onMailbox_353 (by decide) (fun v7 => ?_)
  refine r_icmp_ge E 407 (by decide) dX67_onMailbox_354 (fun _ => ?_) (fun _ => ?_)
  · refine r_iconst E dX67_onMailbox_407 (zkI (by decide) (by decide)) ?_
    exact r_ireturn E rfl hT dX67_onMailbox_408
  · refine r_aload_n E dX67_onMailbox_357 rfl 0 rfl ?_
    refine r_gec (y := 0) E zc_69 dX67_onMailbox_358 q3233 zr_69 (zh_6818 (by decide)) (by decide) ?_
    refine r_iload E dX67_onMailbox_361 2 rfl ?_
    refine r_iload E dX67_onMailbox_363 3 rfl ?_
    refine r_iadd E dX67_onMailbox_365 ?_
    refine r_aload_n E dX67_onMailbox_366 rfl 0 rfl ?_
    refine r_gec (y := 0) E zc_69 dX67_onMailbox_367 q3233 zr_69 (zh_6818 (by decide)) (by decide) ?_
    refine r_iload E dX67_onMailbox_370 2 rfl ?_
    refine r_iload E dX67_onMailbox_372 3 rfl ?_
    refine r_iadd E dX67_onMailbox_374 ?_
    refine r_iconst E dX67_onMailbox_375 (zkI (by decide) (by decide)) ?_
    refine r_iadd E dX67_onMailbox_376 ?_
    refine r_laload E zc_6818 za_6818 zt_6818 zx_6818 rfl rfl dX67_onMailbox_377 (by decide) (fun v8 => ?_)
    refine r_lastore E zc_6818 za_6818 zt_6818 zo_6818 zx_6818 rfl rfl dX67_onMailbox_378 (by decide) ?_
    refine r_aload_n E dX67_onMailbox_379 rfl 0 rfl ?_
    refine r_gec (y := 0) E zc_69 dX67_onMailbox_380 q3234 zr_69 (zh_6819 (by decide)) (by decide) ?_
    refine r_iload E dX67_onMailbox_383 2 rfl ?_
    refine r_iload E dX67_onMailbox_385 3 rfl ?_
    refine r_iadd E dX67_onMailbox_387 ?_
    refine r_aload_n E dX67_onMailbox_388 rfl 0 rfl ?_
    refine r_gec (y := 0) E zc_69 dX67_onMailbox_389 q3234 zr_69 (zh_6819 (by decide)) (by decide) ?_
    refine r_iload E dX67_onMailbox_392 2 rfl ?_
    refine r_iload E dX67_onMailbox_394 3 rfl ?_
    refine r_iadd E dX67_onMailbox_396 ?_
    refine r_iconst E dX67_onMailbox_397 (zkI (by decide) (by decide)) ?_
    refine r_iadd E dX67_onMailbox_398 ?_
    refine r_iaload E zc_6819 za_6819 zt_6819 zx_6819 rfl rfl dX67_onMailbox_399 (by decide) (fun v9 => ?_)
    refine r_iastore E zc_6819 za_6819 zt_6819 zo_6819 zx_6819 rfl rfl dX67_onMailbox_400 (by decide) ?_
    refine r_iinc (ls' := fun v10 => [(9, 0, v10), (0, 69, 0), (3, 0, x3), (5, 0, x5)]) E 3 rfl (by rw [hN]; decide) (fun _ => rfl) dX67_onMailbox_401 (fun v10 _ => ?_)
    refine r_goto E 346 (by decide) dX67_onMailbox_404 ?_
    refine r_pick E [1, 2, 3, 0] rfl ?_
    exact hr346 v10
theorem w_fX67_onMailbox_J214 {K : zK} (E : zE K cX67_onMailbox "RingHouseModel" (some .int) 2) (hN : zNl K = 12) (hT : zTr K = (some 0)) (x1 : Int) (x2 : Int) (x3 : Int) (x5 : Int) (x6 : Int) (x7 : Int) : zR K 214 [(0, 69, 0), (1, 0, x1), (2, 0, x2), (3, 0, x3), (5, 0, x5), (6, 0, x6), (7, 0, x7)] [] (fX67_onMailbox_J214 x1 x2 x3 x5 x6 x7) := by
  refine r_iload_n E dX67_onMailbox_214 rfl 2 rfl ?_
  refine r_bipush E dX67_onMailbox_215 (by decide) (zkI (by decide) (by decide)) ?_
  refine r_icmp_ne E 281 (by decide) dX67_onMailbox_217 (fun _ => ?_) (fun _ => ?_)
  · refine r_iload E dX67_onMailbox_281 6 rfl ?_
    refine r_if_ge E 288 (by decide) dX67_onMailbox_283 (fun _ => ?_) (fun _ => ?_)
    · refine r_aload_n E dX67_onMailbox_288 rfl 0 rfl ?_
      refine r_gec (y := 0) E zc_69 dX67_onMailbox_289 q3241 zr_69 (zh_6826 (by decide)) (by decide) ?_
      refine r_iload_n E dX67_onMailbox_292 rfl 1 rfl ?_
      refine r_aload_n E dX67_onMailbox_293 rfl 0 rfl ?_
      refine r_gec (y := 0) E zc_69 dX67_onMailbox_294 q3233 zr_69 (zh_6818 (by decide)) (by decide) ?_
      refine r_iload E dX67_onMailbox_297 4 rfl ?_
      refine r_iload E dX67_onMailbox_299 6 rfl ?_
      refine r_iadd E dX67_onMailbox_301 ?_
      refine r_laload E zc_6818 za_6818 zt_6818 zx_6818 rfl rfl dX67_onMailbox_302 (by decide) (fun v5 => ?_)
      refine r_lastore E zc_6826 za_6826 zt_6826 zo_6826 zx_6826 rfl rfl dX67_onMailbox_303 (by decide) ?_
      refine r_iload_n E dX67_onMailbox_304 rfl 2 rfl ?_
      refine r_bipush E dX67_onMailbox_305 (by decide) (zkI (by decide) (by decide)) ?_
      refine r_icmp_ne E 332 (by decide) dX67_onMailbox_307 (fun _ => ?_) (fun _ => ?_)
      · refine r_aload_n E dX67_onMailbox_332 rfl 0 rfl ?_
        refine r_gec (y := 0) E zc_69 dX67_onMailbox_333 q3232 zr_69 (zh_6817 (by decide)) (by decide) ?_
        refine r_iload_n E dX67_onMailbox_336 rfl 3 rfl ?_
        refine r_dup22 E (zn1 rfl) (zn1 rfl) dX67_onMailbox_337 ?_
        refine r_iaload E zc_6817 za_6817 zt_6817 zx_6817 rfl rfl dX67_onMailbox_338 (by decide) (fun v6 => ?_)
        refine r_iconst E dX67_onMailbox_339 (zkI (by decide) (by decide)) ?_
        refine r_isub E dX67_onMailbox_340 ?_
        refine r_iastore E zc_6817 za_6817 zt_6817 zo_6817 zx_6817 rfl rfl dX67_onMailbox_341 (by decide) ?_
        refine r_iload E dX67_onMailbox_342 6 rfl ?_
        refine r_istore (ls' := [(9, 0, x7), (0, 69, 0), (1, 0, x1), (2, 0, x2), (3, 0, x3), (5, 0, x5), (6, 0, x6), (7, 0, x7)]) E dX67_onMailbox_344 (by rw [hN]; decide) rfl ?_
        refine r_pick E [1, 4, 5, 0] rfl ?_
        exact r_loop (L := fun s => [(0, 69, 0), (3, 0, x3), (5, 0, x5), (9, 0, s)]) (w_fX67_onMailbox_B346 E hN hT x3 x5) zBIG x7
      · refine r_aload_n E dX67_onMailbox_310 rfl 0 rfl ?_
        refine r_gec (y := 0) E zc_69 dX67_onMailbox_311 q3242 zr_69 (zh_6827 (by decide)) (by decide) ?_
        refine r_iconst E dX67_onMailbox_314 (zkI (by decide) (by decide)) ?_
        refine r_iload_n E dX67_onMailbox_315 rfl 1 rfl ?_
        refine r_imul E dX67_onMailbox_316 ?_
        refine r_iconst E dX67_onMailbox_317 (zkI (by decide) (by decide)) ?_
        refine r_iadd E dX67_onMailbox_318 ?_
        refine r_aload_n E dX67_onMailbox_319 rfl 0 rfl ?_
        refine r_gec (y := 0) E zc_69 dX67_onMailbox_320 q3234 zr_69 (zh_6819 (by decide)) (by decide) ?_
        refine r_iload E dX67_onMailbox_323 4 rfl ?_
        refine r_iload E dX67_onMailbox_325 6 rfl ?_
        refine r_iadd E dX67_onMailbox_327 ?_
        refine r_iaload E zc_6819 za_6819 zt_6819 zx_6819 rfl rfl dX67_onMailbox_328 (by decide) (fun v11 => ?_)
        refine r_iastore E zc_6827 za_6827 zt_6827 zo_6827 zx_6827 rfl rfl dX67_onMailbox_329 (by decide) ?_
        refine r_iconst E dX67_onMailbox_330 (zkI (by decide) (by decide)) ?_
        exact r_ireturn E rfl hT dX67_onMailbox_331
    · refine r_iconst E dX67_onMailbox_286 (zkI (by decide) (by decide)) ?_
      exact r_ireturn E rfl hT dX67_onMailbox_287
  · refine r_iload E dX67_onMailbox_220 5 rfl ?_
    refine r_iconst E dX67_onMailbox_222 (zkI (by decide) (by decide)) ?_
    refine r_icmp_ne E 229 (by decide) dX67_onMailbox_223 (fun _ => ?_) (fun _ => ?_)
    · refine r_aload_n E dX67_onMailbox_229 rfl 0 rfl ?_
      refine r_gec (y := 0) E zc_69 dX67_onMailbox_230 q3233 zr_69 (zh_6818 (by decide)) (by decide) ?_
      refine r_iload E dX67_onMailbox_233 4 rfl ?_
      refine r_aload_n E dX67_onMailbox_235 rfl 0 rfl ?_
      refine r_gec (y := 0) E zc_69 dX67_onMailbox_236 q3232 zr_69 (zh_6817 (by decide)) (by decide) ?_
      refine r_iload_n E dX67_onMailbox_239 rfl 3 rfl ?_
      refine r_iaload E zc_6817 za_6817 zt_6817 zx_6817 rfl rfl dX67_onMailbox_240 (by decide) (fun v12 => ?_)
      refine r_iadd E dX67_onMailbox_241 ?_
      refine r_aload_n E dX67_onMailbox_242 rfl 0 rfl ?_
      refine r_gec (y := 0) E zc_69 dX67_onMailbox_243 q3241 zr_69 (zh_6826 (by decide)) (by decide) ?_
      refine r_iload_n E dX67_onMailbox_246 rfl 1 rfl ?_
      refine r_laload E zc_6826 za_6826 zt_6826 zx_6826 rfl rfl dX67_onMailbox_247 (by decide) (fun v13 => ?_)
      refine r_lastore E zc_6818 za_6818 zt_6818 zo_6818 zx_6818 rfl rfl dX67_onMailbox_248 (by decide) ?_
      refine r_aload_n E dX67_onMailbox_249 rfl 0 rfl ?_
      refine r_gec (y := 0) E zc_69 dX67_onMailbox_250 q3234 zr_69 (zh_6819 (by decide)) (by decide) ?_
      refine r_iload E dX67_onMailbox_253 4 rfl ?_
      refine r_aload_n E dX67_onMailbox_255 rfl 0 rfl ?_
      refine r_gec (y := 0) E zc_69 dX67_onMailbox_256 q3232 zr_69 (zh_6817 (by decide)) (by decide) ?_
      refine r_iload_n E dX67_onMailbox_259 rfl 3 rfl ?_
      refine r_iaload E zc_6817 za_6817 zt_6817 zx_6817 rfl rfl dX67_onMailbox_260 (by decide) (fun v14 => ?_)
      refine r_iadd E dX67_onMailbox_261 ?_
      refine r_aload_n E dX67_onMailbox_262 rfl 0 rfl ?_
      refine r_gec (y := 0) E zc_69 dX67_onMailbox_263 q3239 zr_69 (zh_6824 (by decide)) (by decide) ?_
      refine r_iload_n E dX67_onMailbox_266 rfl 1 rfl ?_
      refine r_iaload E zc_6824 za_6824 zt_6824 zx_6824 rfl rfl dX67_onMailbox_267 (by decide) (fun v15 => ?_)
      refine r_iastore E zc_6819 za_6819 zt_6819 zo_6819 zx_6819 rfl rfl dX67_onMailbox_268 (by decide) ?_
      refine r_aload_n E dX67_onMailbox_269 rfl 0 rfl ?_
      refine r_gec (y := 0) E zc_69 dX67_onMailbox_270 q3232 zr_69 (zh_6817 (by decide)) (by decide) ?_
      refine r_iload_n E dX67_onMailbox_273 rfl 3 rfl ?_
      refine r_dup22 E (zn1 rfl) (zn1 rfl) dX67_onMailbox_274 ?_
      refine r_iaload E zc_6817 za_6817 zt_6817 zx_6817 rfl rfl dX67_onMailbox_275 (by decide) (fun v16 => ?_)
      refine r_iconst E dX67_onMailbox_276 (zkI (by decide) (by decide)) ?_
      refine r_iadd E dX67_onMailbox_277 ?_
      refine r_iastore E zc_6817 za_6817 zt_6817 zo_6817 zx_6817 rfl rfl dX67_onMailbox_278 (by decide) ?_
      refine r_iconst E dX67_onMailbox_279 (zkI (by decide) (by decide)) ?_
      exact r_ireturn E rfl hT dX67_onMailbox_280
    · refine r_bipush E dX67_onMailbox_226 (by decide) (zkI (by decide) (by decide)) ?_
      exact r_ireturn E rfl hT dX67_onMailbox_228
theorem w_fX67_onMailbox_J206 {K : zK} (E : zE K cX67_onMailbox "RingHouseModel" (some .int) 2) (hN : zNl K = 12) (hT : zTr K = (some 0)) (x1 : Int) (x2 : Int) (x3 : Int) (x5 : Int) (x6 : Int) (x7 : Int) (x9 : Int) (s0 : Int) {r69 : Int × Int × Int × Int → zX} (hr69 : ∀ s : Int × Int × Int × Int, zR K 69 [(0, 69, 0), (1, 0, x1), (2, 0, x2), (3, 0, x3), (5, 0, x5), (6, 0, s.1), (7, 0, s.2.1), (8, 0, s.2.2.1), (9, 0, s.2.2.2)] [] (r69 s)) : zR K 206 [(0, 69, 0), (1, 0, x1), (2, 0, x2), (3, 0, x3), (5, 0, x5), (6, 0, x6), (7, 0, x7), (9, 0, x9)] [(0, s0)] (fX67_onMailbox_J206 r69 x1 x2 x3 x5 x6 x7 x9 s0) := by
  refine r_istore (ls' := [(8, 0, s0), (0, 69, 0), (1, 0, x1), (2, 0, x2), (3, 0, x3), (5, 0, x5), (6, 0, x6), (7, 0, x7), (9, 0, x9)]) E dX67_onMailbox_206 (by rw [hN]; decide) rfl ?_
  refine r_iinc (ls' := fun v22 => [(9, 0, v22), (8, 0, s0), (0, 69, 0), (1, 0, x1), (2, 0, x2), (3, 0, x3), (5, 0, x5), (6, 0, x6), (7, 0, x7)]) E 8 rfl (by rw [hN]; decide) (fun _ => rfl) dX67_onMailbox_208 (fun v22 _ => ?_)
  refine r_goto E 69 (by decide) dX67_onMailbox_211 ?_
  refine r_pick E [2, 3, 4, 5, 6, 7, 8, 1, 0] rfl ?_
  exact hr69 (x6, x7, s0, v22)
theorem w_fX67_onMailbox_J190 {K : zK} (E : zE K cX67_onMailbox "RingHouseModel" (some .int) 2) (hN : zNl K = 12) (hT : zTr K = (some 0)) (x1 : Int) (x2 : Int) (x3 : Int) (x5 : Int) (x6 : Int) (x8 : Int) (x9 : Int) (x11 : Int) (s0 : Int) {r69 : Int × Int × Int × Int → zX} (hr69 : ∀ s : Int × Int × Int × Int, zR K 69 [(0, 69, 0), (1, 0, x1), (2, 0, x2), (3, 0, x3), (5, 0, x5), (6, 0, s.1), (7, 0, s.2.1), (8, 0, s.2.2.1), (9, 0, s.2.2.2)] [] (r69 s)) : zR K 190 [(0, 69, 0), (1, 0, x1), (2, 0, x2), (3, 0, x3), (5, 0, x5), (6, 0, x6), (8, 0, x8), (9, 0, x9), (11, 0, x11)] [(0, s0)] (fX67_onMailbox_J190 r69 x1 x2 x3 x5 x6 x8 x9 x11 s0) := by
  refine r_istore (ls' := [(7, 0, s0), (0, 69, 0), (1, 0, x1), (2, 0, x2), (3, 0, x3), (5, 0, x5), (6, 0, x6), (8, 0, x8), (9, 0, x9), (11, 0, x11)]) E dX67_onMailbox_190 (by rw [hN]; decide) rfl ?_
  refine r_iload E dX67_onMailbox_192 9 rfl ?_
  refine r_if_eq E 204 (by decide) dX67_onMailbox_194 (fun _ => ?_) (fun _ => ?_)
  · refine r_iload E dX67_onMailbox_204 7 rfl ?_
    refine r_pick E [1, 2, 3, 4, 5, 6, 0, 8] rfl ?_
    exact w_fX67_onMailbox_J206 E hN hT x1 x2 x3 x5 x6 s0 x9 x8 hr69
  · refine r_iload E dX67_onMailbox_197 7 rfl ?_
    refine r_iconst E dX67_onMailbox_199 (zkI (by decide) (by decide)) ?_
    refine r_iadd E dX67_onMailbox_200 ?_
    refine r_goto E 206 (by decide) dX67_onMailbox_201 ?_
    refine r_pick E [1, 2, 3, 4, 5, 6, 0, 8] rfl ?_
    exact w_fX67_onMailbox_J206 E hN hT x1 x2 x3 x5 x6 s0 x9 (zi (x8 + 1)) hr69
theorem w_fX67_onMailbox_J188 {K : zK} (E : zE K cX67_onMailbox "RingHouseModel" (some .int) 2) (hN : zNl K = 12) (hT : zTr K = (some 0)) (x1 : Int) (x2 : Int) (x3 : Int) (x5 : Int) (x6 : Int) (x7 : Int) (x8 : Int) (x9 : Int) (x11 : Int) {r69 : Int × Int × Int × Int → zX} (hr69 : ∀ s : Int × Int × Int × Int, zR K 69 [(0, 69, 0), (1, 0, x1), (2, 0, x2), (3, 0, x3), (5, 0, x5), (6, 0, s.1), (7, 0, s.2.1), (8, 0, s.2.2.1), (9, 0, s.2.2.2)] [] (r69 s)) : zR K 188 [(0, 69, 0), (1, 0, x1), (2, 0, x2), (3, 0, x3), (5, 0, x5), (6, 0, x6), (7, 0, x7), (8, 0, x8), (9, 0, x9), (11, 0, x11)] [] (fX67_onMailbox_J188 r69 x1 x2 x3 x5 x6 x7 x8 x9 x11) := by
  refine r_iload E dX67_onMailbox_188 6 rfl ?_
  refine r_pick E [0, 1, 2, 3, 4, 5, 7, 8, 9] rfl ?_
  exact w_fX67_onMailbox_J190 E hN hT x1 x2 x3 x5 x6 x8 x9 x11 x7 hr69
theorem w_fX67_onMailbox_J183 {K : zK} (E : zE K cX67_onMailbox "RingHouseModel" (some .int) 2) (hN : zNl K = 12) (hT : zTr K = (some 0)) (x1 : Int) (x2 : Int) (x3 : Int) (x5 : Int) (x6 : Int) (x8 : Int) (x9 : Int) (x11 : Int) {r69 : Int × Int × Int × Int → zX} (hr69 : ∀ s : Int × Int × Int × Int, zR K 69 [(0, 69, 0), (1, 0, x1), (2, 0, x2), (3, 0, x3), (5, 0, x5), (6, 0, s.1), (7, 0, s.2.1), (8, 0, s.2.2.1), (9, 0, s.2.2.2)] [] (r69 s)) : zR K 183 [(0, 69, 0), (1, 0, x1), (2, 0, x2), (3, 0, x3), (5, 0, x5), (6, 0, x6), (8, 0, x8), (9, 0, x9), (11, 0, x11)] [] (fX67_onMailbox_J183 r69 x1 x2 x3 x5 x6 x8 x9 x11) := by
  refine r_iload E dX67_onMailbox_183 7 rfl ?_
  refine r_goto E 190 (by decide) dX67_onMailbox_185 ?_
  exact w_fX67_onMailbox_J190 E hN hT x1 x2 x3 x5 x6 x8 x9 x11 x9 hr69
theorem w_fX67_onMailbox_J152 {K : zK} (E : zE K cX67_onMailbox "RingHouseModel" (some .int) 2) (hN : zNl K = 12) (hT : zTr K = (some 0)) (x1 : Int) (x2 : Int) (x3 : Int) (x5 : Int) (x6 : Int) (x7 : Int) (x8 : Int) (x9 : Int) (s0 : Int) {r69 : Int × Int × Int × Int → zX} (hr69 : ∀ s : Int × Int × Int × Int, zR K 69 [(0, 69, 0), (1, 0, x1), (2, 0, x2), (3, 0, x3), (5, 0, x5), (6, 0, s.1), (7, 0, s.2.1), (8, 0, s.2.2.1), (9, 0, s.2.2.2)] [] (r69 s)) : zR K 152 [(0, 69, 0), (1, 0, x1), (2, 0, x2), (3, 0, x3), (5, 0, x5), (6, 0, x6), (7, 0, x7), (8, 0, x8), (9, 0, x9)] [(0, s0)] (fX67_onMailbox_J152 r69 x1 x2 x3 x5 x6 x7 x8 x9 s0) := by
  refine r_istore (ls' := [(11, 0, s0), (0, 69, 0), (1, 0, x1), (2, 0, x2), (3, 0, x3), (5, 0, x5), (6, 0, x6), (7, 0, x7), (8, 0, x8), (9, 0, x9)]) E dX67_onMailbox_152 (by rw [hN]; decide) rfl ?_
  refine r_iload E dX67_onMailbox_154 0 rfl ?_
  refine r_if_eq E 188 (by decide) dX67_onMailbox_156 (fun _ => ?_) (fun _ => ?_)
  · refine r_pick E [1, 2, 3, 4, 5, 6, 7, 8, 9, 0] rfl ?_
    exact w_fX67_onMailbox_J188 E hN hT x1 x2 x3 x5 x6 x7 x8 x9 s0 hr69
  · refine r_iload E dX67_onMailbox_159 7 rfl ?_
    refine r_if_ge E 188 (by decide) dX67_onMailbox_161 (fun _ => ?_) (fun _ => ?_)
    · refine r_pick E [1, 2, 3, 4, 5, 6, 7, 8, 9, 0] rfl ?_
      exact w_fX67_onMailbox_J188 E hN hT x1 x2 x3 x5 x6 x7 x8 x9 s0 hr69
    · refine r_iload_n E dX67_onMailbox_164 rfl 3 rfl ?_
      refine r_bipush E dX67_onMailbox_165 (by decide) (zkI (by decide) (by decide)) ?_
      refine r_icmp_eq E 183 (by decide) dX67_onMailbox_167 (fun _ => ?_) (fun _ => ?_)
      · refine r_pick E [1, 2, 3, 4, 5, 6, 8, 9, 0] rfl ?_
        exact w_fX67_onMailbox_J183 E hN hT x1 x2 x3 x5 x6 x8 x9 s0 hr69
      · refine r_iload E dX67_onMailbox_170 8 rfl ?_
        refine r_aload_n E dX67_onMailbox_172 rfl 1 rfl ?_
        refine r_gec (y := 0) E zc_69 dX67_onMailbox_173 q3242 zr_69 (zh_6827 (by decide)) (by decide) ?_
        refine r_iconst E dX67_onMailbox_176 (zkI (by decide) (by decide)) ?_
        refine r_iload_n E dX67_onMailbox_177 rfl 2 rfl ?_
        refine r_imul E dX67_onMailbox_178 ?_
        refine r_iaload E zc_6827 za_6827 zt_6827 zx_6827 rfl rfl dX67_onMailbox_179 (by decide) (fun v23 => ?_)
        refine r_icmp_ne E 188 (by decide) dX67_onMailbox_180 (fun _ => ?_) (fun _ => ?_)
        · refine r_pick E [1, 2, 3, 4, 5, 6, 7, 8, 9, 0] rfl ?_
          exact w_fX67_onMailbox_J188 E hN hT x1 x2 x3 x5 x6 x7 x8 x9 s0 hr69
        · refine r_pick E [1, 2, 3, 4, 5, 6, 8, 9, 0] rfl ?_
          exact w_fX67_onMailbox_J183 E hN hT x1 x2 x3 x5 x6 x8 x9 s0 hr69
theorem w_fX67_onMailbox_J120 {K : zK} (E : zE K cX67_onMailbox "RingHouseModel" (some .int) 2) (hN : zNl K = 12) (hT : zTr K = (some 0)) (x1 : Int) (x2 : Int) (x3 : Int) (x5 : Int) (x7 : Int) (x8 : Int) (x9 : Int) (x10 : Int) (s0 : Int) {r69 : Int × Int × Int × Int → zX} (hr69 : ∀ s : Int × Int × Int × Int, zR K 69 [(0, 69, 0), (1, 0, x1), (2, 0, x2), (3, 0, x3), (5, 0, x5), (6, 0, s.1), (7, 0, s.2.1), (8, 0, s.2.2.1), (9, 0, s.2.2.2)] [] (r69 s)) : zR K 120 [(0, 69, 0), (1, 0, x1), (2, 0, x2), (3, 0, x3), (5, 0, x5), (7, 0, x7), (8, 0, x8), (9, 0, x9), (10, 0, x10)] [(0, s0)] (fX67_onMailbox_J120 r69 x1 x2 x3 x5 x7 x8 x9 x10 s0) := by
  refine r_istore (ls' := [(6, 0, s0), (0, 69, 0), (1, 0, x1), (2, 0, x2), (3, 0, x3), (5, 0, x5), (7, 0, x7), (8, 0, x8), (9, 0, x9), (10, 0, x10)]) E dX67_onMailbox_120 (by rw [hN]; decide) rfl ?_
  refine r_iload_n E dX67_onMailbox_122 rfl 3 rfl ?_
  refine r_bipush E dX67_onMailbox_123 (by decide) (zkI (by decide) (by decide)) ?_
  refine r_icmp_ne E 133 (by decide) dX67_onMailbox_125 (fun _ => ?_) (fun _ => ?_)
  · refine r_aload_n E dX67_onMailbox_133 rfl 1 rfl ?_
    refine r_gec (y := 0) E zc_69 dX67_onMailbox_134 q3239 zr_69 (zh_6824 (by decide)) (by decide) ?_
    refine r_iload_n E dX67_onMailbox_137 rfl 2 rfl ?_
    refine r_iaload E zc_6824 za_6824 zt_6824 zx_6824 rfl rfl dX67_onMailbox_138 (by decide) (fun v19 => ?_)
    refine r_aload_n E dX67_onMailbox_139 rfl 1 rfl ?_
    refine r_gec (y := 0) E zc_69 dX67_onMailbox_140 q3234 zr_69 (zh_6819 (by decide)) (by decide) ?_
    refine r_iload E dX67_onMailbox_143 5 rfl ?_
    refine r_iload E dX67_onMailbox_145 8 rfl ?_
    refine r_iadd E dX67_onMailbox_147 ?_
    refine r_iaload E zc_6819 za_6819 zt_6819 zx_6819 rfl rfl dX67_onMailbox_148 (by decide) (fun v20 => ?_)
    refine r_callS E [(0, v19), (0, v20)] [] rfl q3632 q3633 q294 q3634 dX67_onMailbox_149 zy_X67_dominates rfl (by omega) (by decide) (Nat.le_of_ble_eq_true rfl) (fun l G => k_fX67_dominates l G v19 v20) (fun v21 => ?_)
    refine r_pick E [1, 2, 3, 4, 5, 0, 6, 7, 8] rfl ?_
    exact w_fX67_onMailbox_J152 E hN hT x1 x2 x3 x5 s0 x7 x8 x9 v21 hr69
  · refine r_iload E dX67_onMailbox_128 9 rfl ?_
    refine r_goto E 152 (by decide) dX67_onMailbox_130 ?_
    refine r_pick E [1, 2, 3, 4, 5, 0, 6, 7, 8] rfl ?_
    exact w_fX67_onMailbox_J152 E hN hT x1 x2 x3 x5 s0 x7 x8 x9 x10 hr69
theorem w_fX67_onMailbox_J104 {K : zK} (E : zE K cX67_onMailbox "RingHouseModel" (some .int) 2) (hN : zNl K = 12) (hT : zTr K = (some 0)) (x1 : Int) (x2 : Int) (x3 : Int) (x5 : Int) (x6 : Int) (x7 : Int) (x8 : Int) (x9 : Int) (s0 : Int) {r69 : Int × Int × Int × Int → zX} (hr69 : ∀ s : Int × Int × Int × Int, zR K 69 [(0, 69, 0), (1, 0, x1), (2, 0, x2), (3, 0, x3), (5, 0, x5), (6, 0, s.1), (7, 0, s.2.1), (8, 0, s.2.2.1), (9, 0, s.2.2.2)] [] (r69 s)) : zR K 104 [(0, 69, 0), (1, 0, x1), (2, 0, x2), (3, 0, x3), (5, 0, x5), (6, 0, x6), (7, 0, x7), (8, 0, x8), (9, 0, x9)] [(0, s0)] (fX67_onMailbox_J104 r69 x1 x2 x3 x5 x6 x7 x8 x9 s0) := by
  refine r_istore (ls' := [(10, 0, s0), (0, 69, 0), (1, 0, x1), (2, 0, x2), (3, 0, x3), (5, 0, x5), (6, 0, x6), (7, 0, x7), (8, 0, x8), (9, 0, x9)]) E dX67_onMailbox_104 (by rw [hN]; decide) rfl ?_
  refine r_iload E dX67_onMailbox_106 0 rfl ?_
  refine r_if_eq E 118 (by decide) dX67_onMailbox_108 (fun _ => ?_) (fun _ => ?_)
  · refine r_iload E dX67_onMailbox_118 6 rfl ?_
    refine r_pick E [1, 2, 3, 4, 5, 7, 8, 9, 0] rfl ?_
    exact w_fX67_onMailbox_J120 E hN hT x1 x2 x3 x5 x7 x8 x9 s0 x6 hr69
  · refine r_iload E dX67_onMailbox_111 6 rfl ?_
    refine r_iconst E dX67_onMailbox_113 (zkI (by decide) (by decide)) ?_
    refine r_iadd E dX67_onMailbox_114 ?_
    refine r_goto E 120 (by decide) dX67_onMailbox_115 ?_
    refine r_pick E [1, 2, 3, 4, 5, 7, 8, 9, 0] rfl ?_
    exact w_fX67_onMailbox_J120 E hN hT x1 x2 x3 x5 x7 x8 x9 s0 (zi (x6 + 1)) hr69
theorem w_fX67_onMailbox_B69 {K : zK} (E : zE K cX67_onMailbox "RingHouseModel" (some .int) 2) (hN : zNl K = 12) (hT : zTr K = (some 0)) (x1 : Int) (x2 : Int) (x3 : Int) (x5 : Int) : ∀ r69 : Int × Int × Int × Int → zX, (∀ s : Int × Int × Int × Int, zR K 69 [(0, 69, 0), (1, 0, x1), (2, 0, x2), (3, 0, x3), (5, 0, x5), (6, 0, s.1), (7, 0, s.2.1), (8, 0, s.2.2.1), (9, 0, s.2.2.2)] [] (r69 s)) → ∀ s : Int × Int × Int × Int, zR K 69 [(0, 69, 0), (1, 0, x1), (2, 0, x2), (3, 0, x3), (5, 0, x5), (6, 0, s.1), (7, 0, s.2.1), (8, 0, s.2.2.1), (9, 0, s.2.2.2)] [] (fX67_onMailbox_B69 x1 x2 x3 x5 r69 s) := by
  intro r69 hr69 s
  obtain ⟨x6, x7, x8, x9⟩ := s
  unfold fX67_onMailbox_B69
  refine r_iload E dX67_onMailbox_69 8 rfl ?_
  refine r_aload_n E dX67_onMailbox_71 rfl 0 rfl ?_
  refine r_gec (y := 0) E zc_69 dX67_onMailbox_72 q3232 zr_69 (zh_6817 (by decide)) (by decide) ?_
  refine r_iload_n E dX67_onMailbox_75 rfl 3 rfl ?_
  refine r_iaload E zc_6817 za_6817 zt_6817 zx_6817 rfl rfl dX67_onMailbox_76 (by decide) (fun v4 => ?_)
  refine r_icmp_ge E 214 (by decide) dX67_onMailbox_77 (fun _ => ?_) (fun _ => ?_)
  · refine r_pick E [0, 1, 2, 3, 4, 5, 6] rfl ?_
    exact w_fX67_onMailbox_J214 E hN hT x1 x2 x3 x5 x6 x7
  · refine r_aload_n E dX67_onMailbox_80 rfl 0 rfl ?_
    refine r_gec (y := 0) E zc_69 dX67_onMailbox_81 q3234 zr_69 (zh_6819 (by decide)) (by decide) ?_
    refine r_iload E dX67_onMailbox_84 4 rfl ?_
    refine r_iload E dX67_onMailbox_86 8 rfl ?_
    refine r_iadd E dX67_onMailbox_88 ?_
    refine r_iaload E zc_6819 za_6819 zt_6819 zx_6819 rfl rfl dX67_onMailbox_89 (by decide) (fun v17 => ?_)
    refine r_aload_n E dX67_onMailbox_90 rfl 0 rfl ?_
    refine r_gec (y := 0) E zc_69 dX67_onMailbox_91 q3239 zr_69 (zh_6824 (by decide)) (by decide) ?_
    refine r_iload_n E dX67_onMailbox_94 rfl 1 rfl ?_
    refine r_iaload E zc_6824 za_6824 zt_6824 zx_6824 rfl rfl dX67_onMailbox_95 (by decide) (fun v18 => ?_)
    refine r_icmp_ne E 103 (by decide) dX67_onMailbox_96 (fun _ => ?_) (fun _ => ?_)
    · refine r_iconst E dX67_onMailbox_103 (zkI (by decide) (by decide)) ?_
      exact w_fX67_onMailbox_J104 E hN hT x1 x2 x3 x5 x6 x7 x8 x9 0 hr69
    · refine r_iconst E dX67_onMailbox_99 (zkI (by decide) (by decide)) ?_
      refine r_goto E 104 (by decide) dX67_onMailbox_100 ?_
      exact w_fX67_onMailbox_J104 E hN hT x1 x2 x3 x5 x6 x7 x8 x9 1 hr69
theorem w_fX67_onMailbox_J37 {K : zK} (E : zE K cX67_onMailbox "RingHouseModel" (some .int) 2) (hN : zNl K = 12) (hT : zTr K = (some 0)) (x1 : Int) (x2 : Int) (x3 : Int) (s1 : Int) (s2 : Int) (s3 : Int) : zR K 37 [(0, 69, 0), (1, 0, x1), (2, 0, x2), (3, 0, x3)] [(0, s3), (0, s2), (0, s1), (69, 0)] (fX67_onMailbox_J37 x1 x2 x3 s1 s2 s3) := by
  refine r_callV E [(0, s1), (0, s2), (0, s3)] [] rfl zc_69 zr_69 (fun o _ => ⟨_, zw_X67.1 o, rfl⟩) (lw_V q3951 q3953 qs145 q294 q3954) dX67_onMailbox_37 zy_X67_askMailbox rfl (by omega) (by decide) (Nat.le_of_ble_eq_true rfl) (by decide) (fun l G => k_fX67_askMailbox l G s1 s2 s3) (fun v2 => ?_)
  refine r_istore (ls' := [(4, 0, v2), (0, 69, 0), (1, 0, x1), (2, 0, x2), (3, 0, x3)]) E dX67_onMailbox_40 (by rw [hN]; decide) rfl ?_
  refine r_iload E dX67_onMailbox_42 0 rfl ?_
  refine r_if_ge E 50 (by decide) dX67_onMailbox_44 (fun _ => ?_) (fun _ => ?_)
  · refine r_sipush E dX67_onMailbox_50 (by decide) (zkI (by decide) (by decide)) ?_
    refine r_iload_n E dX67_onMailbox_53 rfl 4 rfl ?_
    refine r_imul E dX67_onMailbox_54 ?_
    refine r_let E (fun v3 ev3 => ?_)
    refine r_istore (ls' := [(5, 0, v3), (4, 0, v2), (0, 69, 0), (1, 0, x1), (2, 0, x2), (3, 0, x3)]) E dX67_onMailbox_55 (by rw [hN]; decide) rfl ?_
    refine r_iconst E dX67_onMailbox_57 (zkI (by decide) (by decide)) ?_
    refine r_istore (ls' := [(6, 0, 0), (5, 0, v3), (4, 0, v2), (0, 69, 0), (1, 0, x1), (2, 0, x2), (3, 0, x3)]) E dX67_onMailbox_58 (by rw [hN]; decide) rfl ?_
    refine r_iconst E dX67_onMailbox_60 (zkI (by decide) (by decide)) ?_
    refine r_istore (ls' := [(7, 0, (-1)), (6, 0, 0), (5, 0, v3), (4, 0, v2), (0, 69, 0), (1, 0, x1), (2, 0, x2), (3, 0, x3)]) E dX67_onMailbox_61 (by rw [hN]; decide) rfl ?_
    refine r_iconst E dX67_onMailbox_63 (zkI (by decide) (by decide)) ?_
    refine r_istore (ls' := [(8, 0, 0), (7, 0, (-1)), (6, 0, 0), (5, 0, v3), (4, 0, v2), (0, 69, 0), (1, 0, x1), (2, 0, x2), (3, 0, x3)]) E dX67_onMailbox_64 (by rw [hN]; decide) rfl ?_
    refine r_iconst E dX67_onMailbox_66 (zkI (by decide) (by decide)) ?_
    refine r_istore (ls' := [(9, 0, 0), (8, 0, 0), (7, 0, (-1)), (6, 0, 0), (5, 0, v3), (4, 0, v2), (0, 69, 0), (1, 0, x1), (2, 0, x2), (3, 0, x3)]) E dX67_onMailbox_67 (by rw [hN]; decide) rfl ?_
    refine r_pick E [6, 7, 8, 9, 4, 3, 2, 1, 0] rfl ?_
    exact r_loop (L := fun s => [(0, 69, 0), (1, 0, x1), (2, 0, x2), (3, 0, x3), (5, 0, v3), (6, 0, s.1), (7, 0, s.2.1), (8, 0, s.2.2.1), (9, 0, s.2.2.2)]) (w_fX67_onMailbox_B69 E hN hT x1 x2 x3 v3) zBIG (0, (-1), 0, 0)
  · refine r_iload E dX67_onMailbox_47 0 rfl ?_
    exact r_ireturn E rfl hT dX67_onMailbox_49
theorem w_fX67_onMailbox {K : zK} (E : zE K cX67_onMailbox "RingHouseModel" (some .int) 2) (hN : zNl K = 12) (hT : zTr K = (some 0)) (x1 : Int) (x2 : Int) (x3 : Int) : zR K 0 [(0, 69, 0), (1, 0, x1), (2, 0, x2), (3, 0, x3)] [] (fX67_onMailbox x1 x2 x3) := by
  refine r_aload_n E dX67_onMailbox_0 rfl 0 rfl ?_
  refine r_gec (y := 0) E zc_69 dX67_onMailbox_1 q3215 zr_69 (zh_6800 (by decide)) (by decide) ?_
  refine r_iload_n E dX67_onMailbox_4 rfl 3 rfl ?_
  refine r_iaload E zc_6800 za_6800 zt_6800 zx_6800 rfl rfl dX67_onMailbox_5 (by decide) (fun v1 => ?_)
  refine r_iconst E dX67_onMailbox_6 (zkI (by decide) (by decide)) ?_
  refine r_icmp_eq E 13 (by decide) dX67_onMailbox_7 (fun _ => ?_) (fun _ => ?_)
  · refine r_aload_n E dX67_onMailbox_13 rfl 0 rfl ?_
    refine r_iload_n E dX67_onMailbox_14 rfl 1 rfl ?_
    refine r_iload_n E dX67_onMailbox_15 rfl 3 rfl ?_
    refine r_iload_n E dX67_onMailbox_16 rfl 2 rfl ?_
    refine r_bipush E dX67_onMailbox_17 (by decide) (zkI (by decide) (by decide)) ?_
    refine r_icmp_ne E 26 (by decide) dX67_onMailbox_19 (fun _ => ?_) (fun _ => ?_)
    · refine r_iload_n E dX67_onMailbox_26 rfl 2 rfl ?_
      refine r_bipush E dX67_onMailbox_27 (by decide) (zkI (by decide) (by decide)) ?_
      refine r_icmp_ne E 36 (by decide) dX67_onMailbox_29 (fun _ => ?_) (fun _ => ?_)
      · refine r_iconst E dX67_onMailbox_36 (zkI (by decide) (by decide)) ?_
        exact w_fX67_onMailbox_J37 E hN hT x1 x2 x3 x1 x3 4
      · refine r_iconst E dX67_onMailbox_32 (zkI (by decide) (by decide)) ?_
        refine r_goto E 37 (by decide) dX67_onMailbox_33 ?_
        exact w_fX67_onMailbox_J37 E hN hT x1 x2 x3 x1 x3 2
    · refine r_iconst E dX67_onMailbox_22 (zkI (by decide) (by decide)) ?_
      refine r_goto E 37 (by decide) dX67_onMailbox_23 ?_
      exact w_fX67_onMailbox_J37 E hN hT x1 x2 x3 x1 x3 1
  · refine r_bipush E dX67_onMailbox_10 (by decide) (zkI (by decide) (by decide)) ?_
    exact r_ireturn E rfl hT dX67_onMailbox_12
theorem k_fX67_onMailbox (l : Launch) (G : zG) (x1 : Int) (x2 : Int) (x3 : Int) : zCt l G yX67_onMailbox cX67_onMailbox 12 (some .int) 2 [(69, 0), (0, x1), (0, x2), (0, x3)] (some 0) (fX67_onMailbox x1 x2 x3) := zCt.of (by decide) (Nat.le_of_ble_eq_true rfl) (fun K E _ _ hN hT => w_fX67_onMailbox E hN hT x1 x2 x3)
theorem dX67_onEntry_0 : decode cX67_onEntry 0 = .ok (.iload_n 2, 1) := by decide +kernel
theorem dX67_onEntry_1 : decode cX67_onEntry 1 = .ok (.i2l, 1) := by decide +kernel
theorem dX67_onEntry_2 : decode cX67_onEntry 2 = .ok (.ldc2_w 704, 3) := by decide +kernel
theorem dX67_onEntry_5 : decode cX67_onEntry 5 = .ok (.ldc2_w 496, 3) := by decide +kernel
theorem dX67_onEntry_8 : decode cX67_onEntry 8 = .ok (.invokestatic 363, 3) := by decide +kernel
theorem dX67_onEntry_11 : decode cX67_onEntry 11 = .ok (.istore_n 3, 1) := by decide +kernel
theorem dX67_onEntry_12 : decode cX67_onEntry 12 = .ok (.aload_n 0, 1) := by decide +kernel
theorem dX67_onEntry_13 : decode cX67_onEntry 13 = .ok (.aload_n 0, 1) := by decide +kernel
theorem dX67_onEntry_14 : decode cX67_onEntry 14 = .ok (.getfield 131, 3) := by decide +kernel
theorem dX67_onEntry_17 : decode cX67_onEntry 17 = .ok (.iload_n 1, 1) := by decide +kernel
theorem dX67_onEntry_18 : decode cX67_onEntry 18 = .ok (.iaload, 1) := by decide +kernel
theorem dX67_onEntry_19 : decode cX67_onEntry 19 = .ok (.putfield 689, 3) := by decide +kernel
theorem dX67_onEntry_22 : decode cX67_onEntry 22 = .ok (.aload_n 0, 1) := by decide +kernel
theorem dX67_onEntry_23 : decode cX67_onEntry 23 = .ok (.iload_n 1, 1) := by decide +kernel
theorem dX67_onEntry_24 : decode cX67_onEntry 24 = .ok (.aload_n 0, 1) := by decide +kernel
theorem dX67_onEntry_25 : decode cX67_onEntry 25 = .ok (.getfield 131, 3) := by decide +kernel
theorem dX67_onEntry_28 : decode cX67_onEntry 28 = .ok (.iload_n 1, 1) := by decide +kernel
theorem dX67_onEntry_29 : decode cX67_onEntry 29 = .ok (.iaload, 1) := by decide +kernel
theorem dX67_onEntry_30 : decode cX67_onEntry 30 = .ok (.iload_n 3, 1) := by decide +kernel
theorem dX67_onEntry_31 : decode cX67_onEntry 31 = .ok (.ifCond .eq 7, 3) := by decide +kernel
theorem dX67_onEntry_34 : decode cX67_onEntry 34 = .ok (.iconst 2, 1) := by decide +kernel
theorem dX67_onEntry_35 : decode cX67_onEntry 35 = .ok (.goto 4, 3) := by decide +kernel
theorem dX67_onEntry_38 : decode cX67_onEntry 38 = .ok (.iconst 1, 1) := by decide +kernel
theorem dX67_onEntry_39 : decode cX67_onEntry 39 = .ok (.invokevirtual 665, 3) := by decide +kernel
theorem dX67_onEntry_42 : decode cX67_onEntry 42 = .ok (.istore 4, 2) := by decide +kernel
theorem dX67_onEntry_44 : decode cX67_onEntry 44 = .ok (.iload 4, 2) := by decide +kernel
theorem dX67_onEntry_46 : decode cX67_onEntry 46 = .ok (.ifCond .ge 6, 3) := by decide +kernel
theorem dX67_onEntry_49 : decode cX67_onEntry 49 = .ok (.iload 4, 2) := by decide +kernel
theorem dX67_onEntry_51 : decode cX67_onEntry 51 = .ok (.ireturn, 1) := by decide +kernel
theorem dX67_onEntry_52 : decode cX67_onEntry 52 = .ok (.aload_n 0, 1) := by decide +kernel
theorem dX67_onEntry_53 : decode cX67_onEntry 53 = .ok (.getfield 86, 3) := by decide +kernel
theorem dX67_onEntry_56 : decode cX67_onEntry 56 = .ok (.iload_n 1, 1) := by decide +kernel
theorem dX67_onEntry_57 : decode cX67_onEntry 57 = .ok (.laload, 1) := by decide +kernel
theorem dX67_onEntry_58 : decode cX67_onEntry 58 = .ok (.invokestatic 442, 3) := by decide +kernel
theorem dX67_onEntry_61 : decode cX67_onEntry 61 = .ok (.ifCond .ne 6, 3) := by decide +kernel
theorem dX67_onEntry_64 : decode cX67_onEntry 64 = .ok (.bipush (-8), 2) := by decide +kernel
theorem dX67_onEntry_66 : decode cX67_onEntry 66 = .ok (.ireturn, 1) := by decide +kernel
theorem dX67_onEntry_67 : decode cX67_onEntry 67 = .ok (.aload_n 0, 1) := by decide +kernel
theorem dX67_onEntry_68 : decode cX67_onEntry 68 = .ok (.aload_n 0, 1) := by decide +kernel
theorem dX67_onEntry_69 : decode cX67_onEntry 69 = .ok (.getfield 131, 3) := by decide +kernel
theorem dX67_onEntry_72 : decode cX67_onEntry 72 = .ok (.iload_n 1, 1) := by decide +kernel
theorem dX67_onEntry_73 : decode cX67_onEntry 73 = .ok (.iaload, 1) := by decide +kernel
theorem dX67_onEntry_74 : decode cX67_onEntry 74 = .ok (.aload_n 0, 1) := by decide +kernel
theorem dX67_onEntry_75 : decode cX67_onEntry 75 = .ok (.getfield 86, 3) := by decide +kernel
theorem dX67_onEntry_78 : decode cX67_onEntry 78 = .ok (.iload_n 1, 1) := by decide +kernel
theorem dX67_onEntry_79 : decode cX67_onEntry 79 = .ok (.laload, 1) := by decide +kernel
theorem dX67_onEntry_80 : decode cX67_onEntry 80 = .ok (.invokevirtual 450, 3) := by decide +kernel
theorem dX67_onEntry_83 : decode cX67_onEntry 83 = .ok (.istore 5, 2) := by decide +kernel
theorem dX67_onEntry_85 : decode cX67_onEntry 85 = .ok (.iload 5, 2) := by decide +kernel
theorem dX67_onEntry_87 : decode cX67_onEntry 87 = .ok (.ifCond .ge 5, 3) := by decide +kernel
theorem dX67_onEntry_90 : decode cX67_onEntry 90 = .ok (.iconst (-1), 1) := by decide +kernel
theorem dX67_onEntry_91 : decode cX67_onEntry 91 = .ok (.ireturn, 1) := by decide +kernel
theorem dX67_onEntry_92 : decode cX67_onEntry 92 = .ok (.aload_n 0, 1) := by decide +kernel
theorem dX67_onEntry_93 : decode cX67_onEntry 93 = .ok (.iload 5, 2) := by decide +kernel
theorem dX67_onEntry_95 : decode cX67_onEntry 95 = .ok (.putfield 689, 3) := by decide +kernel
theorem dX67_onEntry_98 : decode cX67_onEntry 98 = .ok (.iload_n 2, 1) := by decide +kernel
theorem dX67_onEntry_99 : decode cX67_onEntry 99 = .ok (.bipush 24, 2) := by decide +kernel
theorem dX67_onEntry_101 : decode cX67_onEntry 101 = .ok (.if_icmp .le 12, 3) := by decide +kernel
theorem dX67_onEntry_104 : decode cX67_onEntry 104 = .ok (.aload_n 0, 1) := by decide +kernel
theorem dX67_onEntry_105 : decode cX67_onEntry 105 = .ok (.iload_n 1, 1) := by decide +kernel
theorem dX67_onEntry_106 : decode cX67_onEntry 106 = .ok (.iload_n 2, 1) := by decide +kernel
theorem dX67_onEntry_107 : decode cX67_onEntry 107 = .ok (.iload 5, 2) := by decide +kernel
theorem dX67_onEntry_109 : decode cX67_onEntry 109 = .ok (.invokevirtual 710, 3) := by decide +kernel
theorem dX67_onEntry_112 : decode cX67_onEntry 112 = .ok (.ireturn, 1) := by decide +kernel
theorem dX67_onEntry_113 : decode cX67_onEntry 113 = .ok (.iload_n 3, 1) := by decide +kernel
theorem dX67_onEntry_114 : decode cX67_onEntry 114 = .ok (.ifCond .eq 14, 3) := by decide +kernel
theorem dX67_onEntry_117 : decode cX67_onEntry 117 = .ok (.aload_n 0, 1) := by decide +kernel
theorem dX67_onEntry_118 : decode cX67_onEntry 118 = .ok (.iload_n 1, 1) := by decide +kernel
theorem dX67_onEntry_119 : decode cX67_onEntry 119 = .ok (.iload_n 2, 1) := by decide +kernel
theorem dX67_onEntry_120 : decode cX67_onEntry 120 = .ok (.iload 5, 2) := by decide +kernel
theorem dX67_onEntry_122 : decode cX67_onEntry 122 = .ok (.invokevirtual 713, 3) := by decide +kernel
theorem dX67_onEntry_125 : decode cX67_onEntry 125 = .ok (.goto 11, 3) := by decide +kernel
theorem dX67_onEntry_128 : decode cX67_onEntry 128 = .ok (.aload_n 0, 1) := by decide +kernel
theorem dX67_onEntry_129 : decode cX67_onEntry 129 = .ok (.iload_n 1, 1) := by decide +kernel
theorem dX67_onEntry_130 : decode cX67_onEntry 130 = .ok (.iload_n 2, 1) := by decide +kernel
theorem dX67_onEntry_131 : decode cX67_onEntry 131 = .ok (.iload 5, 2) := by decide +kernel
theorem dX67_onEntry_133 : decode cX67_onEntry 133 = .ok (.invokevirtual 716, 3) := by decide +kernel
theorem dX67_onEntry_136 : decode cX67_onEntry 136 = .ok (.ireturn, 1) := by decide +kernel
theorem zy_X67_onEntry : yX67_onEntry.cls ≠ "java/lang/invoke/MethodHandle" ∧ yX67_onEntry.cls ≠ "java/lang/invoke/VarHandle" ∧ (parseMethodDescriptor yX67_onEntry.desc).map (fun d => d.parameters.length) = some 2 := by decide +kernel
theorem w_fX67_onEntry_J39 {K : zK} (E : zE K cX67_onEntry "RingHouseModel" (some .int) 5) (hN : zNl K = 6) (hT : zTr K = (some 0)) (x1 : Int) (x2 : Int) (x3 : Int) (s1 : Int) (s2 : Int) (s3 : Int) : zR K 39 [(0, 69, 0), (1, 0, x1), (2, 0, x2), (3, 0, x3)] [(0, s3), (0, s2), (0, s1), (69, 0)] (fX67_onEntry_J39 x1 x2 x3 s1 s2 s3) := by
  refine r_callV E [(0, s1), (0, s2), (0, s3)] [] rfl zc_69 zr_69 (fun o _ => ⟨_, zw_X67.1 o, rfl⟩) (lw_V q3892 q3894 qs132 q294 q3895) dX67_onEntry_39 zy_X67_askDirectory rfl (by omega) (by decide) (Nat.le_of_ble_eq_true rfl) (by decide) (fun l G => k_fX67_askDirectory l G s1 s2 s3) (fun v4 => ?_)
  refine r_istore (ls' := [(4, 0, v4), (0, 69, 0), (1, 0, x1), (2, 0, x2), (3, 0, x3)]) E dX67_onEntry_42 (by rw [hN]; decide) rfl ?_
  refine r_iload E dX67_onEntry_44 0 rfl ?_
  refine r_if_ge E 52 (by decide) dX67_onEntry_46 (fun _ => ?_) (fun _ => ?_)
  · refine r_aload_n E dX67_onEntry_52 rfl 1 rfl ?_
    refine r_gec (y := 0) E zc_69 dX67_onEntry_53 q3240 zr_69 (zh_6825 (by decide)) (by decide) ?_
    refine r_iload_n E dX67_onEntry_56 rfl 2 rfl ?_
    refine r_laload E zc_6825 za_6825 zt_6825 zx_6825 rfl rfl dX67_onEntry_57 (by decide) (fun v5 => ?_)
    refine r_callS E [(1, v5)] [] rfl q3622 q3623 q294 q3624 dX67_onEntry_58 zy_X67_isName rfl (by omega) (by decide) (Nat.le_of_ble_eq_true rfl) (fun l G => k_fX67_isName l G v5) (fun v6 => ?_)
    refine r_if_ne E 67 (by decide) dX67_onEntry_61 (fun _ => ?_) (fun _ => ?_)
    · refine r_aload_n E dX67_onEntry_67 rfl 1 rfl ?_
      refine r_aload_n E dX67_onEntry_68 rfl 1 rfl ?_
      refine r_gec (y := 0) E zc_69 dX67_onEntry_69 q3255 zr_69 (zh_6840 (by decide)) (by decide) ?_
      refine r_iload_n E dX67_onEntry_72 rfl 2 rfl ?_
      refine r_iaload E zc_6840 za_6840 zt_6840 zx_6840 rfl rfl dX67_onEntry_73 (by decide) (fun v7 => ?_)
      refine r_aload_n E dX67_onEntry_74 rfl 1 rfl ?_
      refine r_gec (y := 0) E zc_69 dX67_onEntry_75 q3240 zr_69 (zh_6825 (by decide)) (by decide) ?_
      refine r_iload_n E dX67_onEntry_78 rfl 2 rfl ?_
      refine r_laload E zc_6825 za_6825 zt_6825 zx_6825 rfl rfl dX67_onEntry_79 (by decide) (fun v8 => ?_)
      refine r_callV E [(0, v7), (1, v8)] [] rfl zc_69 zr_69 (fun o _ => ⟨_, zw_X67.1 o, rfl⟩) (lw_V q3635 q3637 qs94 q294 q3638) dX67_onEntry_80 zy_X67_entryNamed rfl (by omega) (by decide) (Nat.le_of_ble_eq_true rfl) (by decide) (fun l G => k_fX67_entryNamed l G v7 v8) (fun v9 => ?_)
      refine r_istore (ls' := [(5, 0, v9), (4, 0, v4), (0, 69, 0), (1, 0, x1), (2, 0, x2), (3, 0, x3)]) E dX67_onEntry_83 (by rw [hN]; decide) rfl ?_
      refine r_iload E dX67_onEntry_85 0 rfl ?_
      refine r_if_ge E 92 (by decide) dX67_onEntry_87 (fun _ => ?_) (fun _ => ?_)
      · refine r_aload_n E dX67_onEntry_92 rfl 2 rfl ?_
        refine r_iload E dX67_onEntry_93 0 rfl ?_
        refine r_put E zc_69 zt_6886 zo_6886 dX67_onEntry_95 q3301 zr_69 zw_X67 zp_6886 (fun _ => rfl) (fun _ => rfl) (by decide) ?_
        refine r_iload_n E dX67_onEntry_98 rfl 4 rfl ?_
        refine r_bipush E dX67_onEntry_99 (by decide) (zkI (by decide) (by decide)) ?_
        refine r_icmp_le E 113 (by decide) dX67_onEntry_101 (fun _ => ?_) (fun _ => ?_)
        · refine r_iload_n E dX67_onEntry_113 rfl 5 rfl ?_
          refine r_if_eq E 128 (by decide) dX67_onEntry_114 (fun _ => ?_) (fun _ => ?_)
          · refine r_aload_n E dX67_onEntry_128 rfl 2 rfl ?_
            refine r_iload_n E dX67_onEntry_129 rfl 3 rfl ?_
            refine r_iload_n E dX67_onEntry_130 rfl 4 rfl ?_
            refine r_iload E dX67_onEntry_131 0 rfl ?_
            refine r_callV E [(0, x1), (0, x2), (0, v9)] [] rfl zc_69 zr_69 (fun o _ => ⟨_, zw_X67.1 o, rfl⟩) (lw_V q3979 q3981 qs151 q294 q3982) dX67_onEntry_133 zy_X67_look rfl (by omega) (by decide) (Nat.le_of_ble_eq_true rfl) (by decide) (fun l G => k_fX67_look l G x1 x2 v9) (fun v10 => ?_)
            exact r_ireturn E rfl hT dX67_onEntry_136
          · refine r_aload_n E dX67_onEntry_117 rfl 2 rfl ?_
            refine r_iload_n E dX67_onEntry_118 rfl 3 rfl ?_
            refine r_iload_n E dX67_onEntry_119 rfl 4 rfl ?_
            refine r_iload E dX67_onEntry_120 0 rfl ?_
            refine r_callV E [(0, x1), (0, x2), (0, v9)] [] rfl zc_69 zr_69 (fun o _ => ⟨_, zw_X67.1 o, rfl⟩) (lw_V q3955 q3957 qs146 q294 q3958) dX67_onEntry_122 zy_X67_modify rfl (by omega) (by decide) (Nat.le_of_ble_eq_true rfl) (by decide) (fun l G => k_fX67_modify l G x1 x2 v9) (fun v11 => ?_)
            refine r_goto E 136 (by decide) dX67_onEntry_125 ?_
            exact r_ireturn E rfl hT dX67_onEntry_136
        · refine r_aload_n E dX67_onEntry_104 rfl 2 rfl ?_
          refine r_iload_n E dX67_onEntry_105 rfl 3 rfl ?_
          refine r_iload_n E dX67_onEntry_106 rfl 4 rfl ?_
          refine r_iload E dX67_onEntry_107 0 rfl ?_
          refine r_callV E [(0, x1), (0, x2), (0, v9)] [] rfl zc_69 zr_69 (fun o _ => ⟨_, zw_X67.1 o, rfl⟩) (lw_V q3947 q3949 qs144 q294 q3950) dX67_onEntry_109 zy_X67_onMailbox rfl (by omega) (by decide) (Nat.le_of_ble_eq_true rfl) (by decide) (fun l G => k_fX67_onMailbox l G x1 x2 v9) (fun v12 => ?_)
          exact r_ireturn E rfl hT dX67_onEntry_112
      · refine r_iconst E dX67_onEntry_90 (zkI (by decide) (by decide)) ?_
        exact r_ireturn E rfl hT dX67_onEntry_91
    · refine r_bipush E dX67_onEntry_64 (by decide) (zkI (by decide) (by decide)) ?_
      exact r_ireturn E rfl hT dX67_onEntry_66
  · refine r_iload E dX67_onEntry_49 0 rfl ?_
    exact r_ireturn E rfl hT dX67_onEntry_51
theorem w_fX67_onEntry {K : zK} (E : zE K cX67_onEntry "RingHouseModel" (some .int) 5) (hN : zNl K = 6) (hT : zTr K = (some 0)) (x1 : Int) (x2 : Int) : zR K 0 [(0, 69, 0), (1, 0, x1), (2, 0, x2)] [] (fX67_onEntry x1 x2) := by
  refine r_iload_n E dX67_onEntry_0 rfl 2 rfl ?_
  refine r_i2l E dX67_onEntry_1 ?_
  refine r_ldc2 (v := 10) E dX67_onEntry_2 q3940 (by decide) (zkJ (by decide) (by decide)) ?_
  refine r_ldc2 (v := 15) E dX67_onEntry_5 q3777 (by decide) (zkJ (by decide) (by decide)) ?_
  refine r_callS E [(1, x2), (1, 10), (1, 15)] [] rfl q3619 q3620 q294 q3621 dX67_onEntry_8 zy_X67_in rfl (by omega) (by decide) (Nat.le_of_ble_eq_true rfl) (fun l G => k_fX67_in l G x2 10 15) (fun v1 => ?_)
  refine r_istore_n (ls' := [(3, 0, v1), (0, 69, 0), (1, 0, x1), (2, 0, x2)]) E dX67_onEntry_11 rfl (by rw [hN]; decide) rfl ?_
  refine r_aload_n E dX67_onEntry_12 rfl 1 rfl ?_
  refine r_aload_n E dX67_onEntry_13 rfl 1 rfl ?_
  refine r_gec (y := 0) E zc_69 dX67_onEntry_14 q3255 zr_69 (zh_6840 (by decide)) (by decide) ?_
  refine r_iload_n E dX67_onEntry_17 rfl 2 rfl ?_
  refine r_iaload E zc_6840 za_6840 zt_6840 zx_6840 rfl rfl dX67_onEntry_18 (by decide) (fun v2 => ?_)
  refine r_put E zc_69 zt_6886 zo_6886 dX67_onEntry_19 q3301 zr_69 zw_X67 zp_6886 (fun _ => rfl) (fun _ => rfl) (by decide) ?_
  refine r_aload_n E dX67_onEntry_22 rfl 1 rfl ?_
  refine r_iload_n E dX67_onEntry_23 rfl 2 rfl ?_
  refine r_aload_n E dX67_onEntry_24 rfl 1 rfl ?_
  refine r_gec (y := 0) E zc_69 dX67_onEntry_25 q3255 zr_69 (zh_6840 (by decide)) (by decide) ?_
  refine r_iload_n E dX67_onEntry_28 rfl 2 rfl ?_
  refine r_iaload E zc_6840 za_6840 zt_6840 zx_6840 rfl rfl dX67_onEntry_29 (by decide) (fun v3 => ?_)
  refine r_iload_n E dX67_onEntry_30 rfl 0 rfl ?_
  refine r_if_eq E 38 (by decide) dX67_onEntry_31 (fun _ => ?_) (fun _ => ?_)
  · refine r_iconst E dX67_onEntry_38 (zkI (by decide) (by decide)) ?_
    refine r_pick E [1, 2, 3, 0] rfl ?_
    exact w_fX67_onEntry_J39 E hN hT x1 x2 v1 x1 v3 1
  · refine r_iconst E dX67_onEntry_34 (zkI (by decide) (by decide)) ?_
    refine r_goto E 39 (by decide) dX67_onEntry_35 ?_
    refine r_pick E [1, 2, 3, 0] rfl ?_
    exact w_fX67_onEntry_J39 E hN hT x1 x2 v1 x1 v3 2
theorem k_fX67_onEntry (l : Launch) (G : zG) (x1 : Int) (x2 : Int) : zCt l G yX67_onEntry cX67_onEntry 6 (some .int) 5 [(69, 0), (0, x1), (0, x2)] (some 0) (fX67_onEntry x1 x2) := zCt.of (by decide) (Nat.le_of_ble_eq_true rfl) (fun K E _ _ hN hT => w_fX67_onEntry E hN hT x1 x2)
theorem dX67_comeBack_0 : decode cX67_comeBack 0 = .ok (.iconst 4, 1) := by decide +kernel
theorem dX67_comeBack_1 : decode cX67_comeBack 1 = .ok (.iload_n 1, 1) := by decide +kernel
theorem dX67_comeBack_2 : decode cX67_comeBack 2 = .ok (.imul, 1) := by decide +kernel
theorem dX67_comeBack_3 : decode cX67_comeBack 3 = .ok (.aload_n 0, 1) := by decide +kernel
theorem dX67_comeBack_4 : decode cX67_comeBack 4 = .ok (.getfield 155, 3) := by decide +kernel
theorem dX67_comeBack_7 : decode cX67_comeBack 7 = .ok (.iload_n 1, 1) := by decide +kernel
theorem dX67_comeBack_8 : decode cX67_comeBack 8 = .ok (.iaload, 1) := by decide +kernel
theorem dX67_comeBack_9 : decode cX67_comeBack 9 = .ok (.iadd, 1) := by decide +kernel
theorem dX67_comeBack_10 : decode cX67_comeBack 10 = .ok (.iconst 1, 1) := by decide +kernel
theorem dX67_comeBack_11 : decode cX67_comeBack 11 = .ok (.isub, 1) := by decide +kernel
theorem dX67_comeBack_12 : decode cX67_comeBack 12 = .ok (.istore_n 3, 1) := by decide +kernel
theorem dX67_comeBack_13 : decode cX67_comeBack 13 = .ok (.aload_n 0, 1) := by decide +kernel
theorem dX67_comeBack_14 : decode cX67_comeBack 14 = .ok (.getfield 155, 3) := by decide +kernel
theorem dX67_comeBack_17 : decode cX67_comeBack 17 = .ok (.iload_n 1, 1) := by decide +kernel
theorem dX67_comeBack_18 : decode cX67_comeBack 18 = .ok (.iaload, 1) := by decide +kernel
theorem dX67_comeBack_19 : decode cX67_comeBack 19 = .ok (.ifCond .ne 7, 3) := by decide +kernel
theorem dX67_comeBack_22 : decode cX67_comeBack 22 = .ok (.iconst (-1), 1) := by decide +kernel
theorem dX67_comeBack_23 : decode cX67_comeBack 23 = .ok (.goto 24, 3) := by decide +kernel
theorem dX67_comeBack_26 : decode cX67_comeBack 26 = .ok (.aload_n 0, 1) := by decide +kernel
theorem dX67_comeBack_27 : decode cX67_comeBack 27 = .ok (.getfield 110, 3) := by decide +kernel
theorem dX67_comeBack_30 : decode cX67_comeBack 30 = .ok (.iload_n 1, 1) := by decide +kernel
theorem dX67_comeBack_31 : decode cX67_comeBack 31 = .ok (.iaload, 1) := by decide +kernel
theorem dX67_comeBack_32 : decode cX67_comeBack 32 = .ok (.aload_n 0, 1) := by decide +kernel
theorem dX67_comeBack_33 : decode cX67_comeBack 33 = .ok (.getfield 182, 3) := by decide +kernel
theorem dX67_comeBack_36 : decode cX67_comeBack 36 = .ok (.iload_n 3, 1) := by decide +kernel
theorem dX67_comeBack_37 : decode cX67_comeBack 37 = .ok (.iaload, 1) := by decide +kernel
theorem dX67_comeBack_38 : decode cX67_comeBack 38 = .ok (.if_icmp .le 8, 3) := by decide +kernel
theorem dX67_comeBack_41 : decode cX67_comeBack 41 = .ok (.bipush (-4), 2) := by decide +kernel
theorem dX67_comeBack_43 : decode cX67_comeBack 43 = .ok (.goto 4, 3) := by decide +kernel
theorem dX67_comeBack_46 : decode cX67_comeBack 46 = .ok (.iconst 0, 1) := by decide +kernel
theorem dX67_comeBack_47 : decode cX67_comeBack 47 = .ok (.istore 4, 2) := by decide +kernel
theorem dX67_comeBack_49 : decode cX67_comeBack 49 = .ok (.iload 4, 2) := by decide +kernel
theorem dX67_comeBack_51 : decode cX67_comeBack 51 = .ok (.ifCond .ge 39, 3) := by decide +kernel
theorem dX67_comeBack_54 : decode cX67_comeBack 54 = .ok (.iload 4, 2) := by decide +kernel
theorem dX67_comeBack_56 : decode cX67_comeBack 56 = .ok (.bipush (-4), 2) := by decide +kernel
theorem dX67_comeBack_58 : decode cX67_comeBack 58 = .ok (.if_icmp .ne 11, 3) := by decide +kernel
theorem dX67_comeBack_61 : decode cX67_comeBack 61 = .ok (.aload_n 0, 1) := by decide +kernel
theorem dX67_comeBack_62 : decode cX67_comeBack 62 = .ok (.iload_n 1, 1) := by decide +kernel
theorem dX67_comeBack_63 : decode cX67_comeBack 63 = .ok (.iconst 2, 1) := by decide +kernel
theorem dX67_comeBack_64 : decode cX67_comeBack 64 = .ok (.iconst (-1), 1) := by decide +kernel
theorem dX67_comeBack_65 : decode cX67_comeBack 65 = .ok (.iconst 5, 1) := by decide +kernel
theorem dX67_comeBack_66 : decode cX67_comeBack 66 = .ok (.invokevirtual 649, 3) := by decide +kernel
theorem dX67_comeBack_69 : decode cX67_comeBack 69 = .ok (.aload_n 0, 1) := by decide +kernel
theorem dX67_comeBack_70 : decode cX67_comeBack 70 = .ok (.getfield 86, 3) := by decide +kernel
theorem dX67_comeBack_73 : decode cX67_comeBack 73 = .ok (.iload_n 1, 1) := by decide +kernel
theorem dX67_comeBack_74 : decode cX67_comeBack 74 = .ok (.iload 4, 2) := by decide +kernel
theorem dX67_comeBack_76 : decode cX67_comeBack 76 = .ok (.i2l, 1) := by decide +kernel
theorem dX67_comeBack_77 : decode cX67_comeBack 77 = .ok (.ldc2_w 361, 3) := by decide +kernel
theorem dX67_comeBack_80 : decode cX67_comeBack 80 = .ok (.land, 1) := by decide +kernel
theorem dX67_comeBack_81 : decode cX67_comeBack 81 = .ok (.lastore, 1) := by decide +kernel
theorem dX67_comeBack_82 : decode cX67_comeBack 82 = .ok (.aload_n 0, 1) := by decide +kernel
theorem dX67_comeBack_83 : decode cX67_comeBack 83 = .ok (.getfield 107, 3) := by decide +kernel
theorem dX67_comeBack_86 : decode cX67_comeBack 86 = .ok (.iload_n 1, 1) := by decide +kernel
theorem dX67_comeBack_87 : decode cX67_comeBack 87 = .ok (.iload_n 2, 1) := by decide +kernel
theorem dX67_comeBack_88 : decode cX67_comeBack 88 = .ok (.iastore, 1) := by decide +kernel
theorem dX67_comeBack_89 : decode cX67_comeBack 89 = .ok (.return_, 1) := by decide +kernel
theorem dX67_comeBack_90 : decode cX67_comeBack 90 = .ok (.aload_n 0, 1) := by decide +kernel
theorem dX67_comeBack_91 : decode cX67_comeBack 91 = .ok (.getfield 92, 3) := by decide +kernel
theorem dX67_comeBack_94 : decode cX67_comeBack 94 = .ok (.iconst 4, 1) := by decide +kernel
theorem dX67_comeBack_95 : decode cX67_comeBack 95 = .ok (.iload_n 1, 1) := by decide +kernel
theorem dX67_comeBack_96 : decode cX67_comeBack 96 = .ok (.imul, 1) := by decide +kernel
theorem dX67_comeBack_97 : decode cX67_comeBack 97 = .ok (.iaload, 1) := by decide +kernel
theorem dX67_comeBack_98 : decode cX67_comeBack 98 = .ok (.ifCond .ne 7, 3) := by decide +kernel
theorem dX67_comeBack_101 : decode cX67_comeBack 101 = .ok (.iconst 0, 1) := by decide +kernel
theorem dX67_comeBack_102 : decode cX67_comeBack 102 = .ok (.goto 4, 3) := by decide +kernel
theorem dX67_comeBack_105 : decode cX67_comeBack 105 = .ok (.iconst 1, 1) := by decide +kernel
theorem dX67_comeBack_106 : decode cX67_comeBack 106 = .ok (.istore 5, 2) := by decide +kernel
theorem dX67_comeBack_108 : decode cX67_comeBack 108 = .ok (.aload_n 0, 1) := by decide +kernel
theorem dX67_comeBack_109 : decode cX67_comeBack 109 = .ok (.getfield 86, 3) := by decide +kernel
theorem dX67_comeBack_112 : decode cX67_comeBack 112 = .ok (.iload_n 1, 1) := by decide +kernel
theorem dX67_comeBack_113 : decode cX67_comeBack 113 = .ok (.aload_n 0, 1) := by decide +kernel
theorem dX67_comeBack_114 : decode cX67_comeBack 114 = .ok (.getfield 158, 3) := by decide +kernel
theorem dX67_comeBack_117 : decode cX67_comeBack 117 = .ok (.iload_n 3, 1) := by decide +kernel
theorem dX67_comeBack_118 : decode cX67_comeBack 118 = .ok (.laload, 1) := by decide +kernel
theorem dX67_comeBack_119 : decode cX67_comeBack 119 = .ok (.lastore, 1) := by decide +kernel
theorem dX67_comeBack_120 : decode cX67_comeBack 120 = .ok (.aload_n 0, 1) := by decide +kernel
theorem dX67_comeBack_121 : decode cX67_comeBack 121 = .ok (.getfield 89, 3) := by decide +kernel
theorem dX67_comeBack_124 : decode cX67_comeBack 124 = .ok (.iload_n 1, 1) := by decide +kernel
theorem dX67_comeBack_125 : decode cX67_comeBack 125 = .ok (.aload_n 0, 1) := by decide +kernel
theorem dX67_comeBack_126 : decode cX67_comeBack 126 = .ok (.getfield 161, 3) := by decide +kernel
theorem dX67_comeBack_129 : decode cX67_comeBack 129 = .ok (.iload_n 3, 1) := by decide +kernel
theorem dX67_comeBack_130 : decode cX67_comeBack 130 = .ok (.laload, 1) := by decide +kernel
theorem dX67_comeBack_131 : decode cX67_comeBack 131 = .ok (.lastore, 1) := by decide +kernel
theorem dX67_comeBack_132 : decode cX67_comeBack 132 = .ok (.iconst 0, 1) := by decide +kernel
theorem dX67_comeBack_133 : decode cX67_comeBack 133 = .ok (.istore 6, 2) := by decide +kernel
theorem dX67_comeBack_135 : decode cX67_comeBack 135 = .ok (.iload 6, 2) := by decide +kernel
theorem dX67_comeBack_137 : decode cX67_comeBack 137 = .ok (.iconst 4, 1) := by decide +kernel
theorem dX67_comeBack_138 : decode cX67_comeBack 138 = .ok (.if_icmp .ge 31, 3) := by decide +kernel
theorem dX67_comeBack_141 : decode cX67_comeBack 141 = .ok (.aload_n 0, 1) := by decide +kernel
theorem dX67_comeBack_142 : decode cX67_comeBack 142 = .ok (.getfield 92, 3) := by decide +kernel
theorem dX67_comeBack_145 : decode cX67_comeBack 145 = .ok (.iconst 4, 1) := by decide +kernel
theorem dX67_comeBack_146 : decode cX67_comeBack 146 = .ok (.iload_n 1, 1) := by decide +kernel
theorem dX67_comeBack_147 : decode cX67_comeBack 147 = .ok (.imul, 1) := by decide +kernel
theorem dX67_comeBack_148 : decode cX67_comeBack 148 = .ok (.iload 6, 2) := by decide +kernel
theorem dX67_comeBack_150 : decode cX67_comeBack 150 = .ok (.iadd, 1) := by decide +kernel
theorem dX67_comeBack_151 : decode cX67_comeBack 151 = .ok (.aload_n 0, 1) := by decide +kernel
theorem dX67_comeBack_152 : decode cX67_comeBack 152 = .ok (.getfield 164, 3) := by decide +kernel
theorem dX67_comeBack_155 : decode cX67_comeBack 155 = .ok (.iconst 4, 1) := by decide +kernel
theorem dX67_comeBack_156 : decode cX67_comeBack 156 = .ok (.iload_n 3, 1) := by decide +kernel
theorem dX67_comeBack_157 : decode cX67_comeBack 157 = .ok (.imul, 1) := by decide +kernel
theorem dX67_comeBack_158 : decode cX67_comeBack 158 = .ok (.iload 6, 2) := by decide +kernel
theorem dX67_comeBack_160 : decode cX67_comeBack 160 = .ok (.iadd, 1) := by decide +kernel
theorem dX67_comeBack_161 : decode cX67_comeBack 161 = .ok (.iaload, 1) := by decide +kernel
theorem dX67_comeBack_162 : decode cX67_comeBack 162 = .ok (.iastore, 1) := by decide +kernel
theorem dX67_comeBack_163 : decode cX67_comeBack 163 = .ok (.iinc 6 1, 3) := by decide +kernel
theorem dX67_comeBack_166 : decode cX67_comeBack 166 = .ok (.goto (-31), 3) := by decide +kernel
theorem dX67_comeBack_169 : decode cX67_comeBack 169 = .ok (.iconst 0, 1) := by decide +kernel
theorem dX67_comeBack_170 : decode cX67_comeBack 170 = .ok (.istore 6, 2) := by decide +kernel
theorem dX67_comeBack_172 : decode cX67_comeBack 172 = .ok (.iload 6, 2) := by decide +kernel
theorem dX67_comeBack_174 : decode cX67_comeBack 174 = .ok (.bipush 8, 2) := by decide +kernel
theorem dX67_comeBack_176 : decode cX67_comeBack 176 = .ok (.if_icmp .ge 81, 3) := by decide +kernel
theorem dX67_comeBack_179 : decode cX67_comeBack 179 = .ok (.aload_n 0, 1) := by decide +kernel
theorem dX67_comeBack_180 : decode cX67_comeBack 180 = .ok (.getfield 95, 3) := by decide +kernel
theorem dX67_comeBack_183 : decode cX67_comeBack 183 = .ok (.bipush 8, 2) := by decide +kernel
theorem dX67_comeBack_185 : decode cX67_comeBack 185 = .ok (.iload_n 1, 1) := by decide +kernel
theorem dX67_comeBack_186 : decode cX67_comeBack 186 = .ok (.imul, 1) := by decide +kernel
theorem dX67_comeBack_187 : decode cX67_comeBack 187 = .ok (.iload 6, 2) := by decide +kernel
theorem dX67_comeBack_189 : decode cX67_comeBack 189 = .ok (.iadd, 1) := by decide +kernel
theorem dX67_comeBack_190 : decode cX67_comeBack 190 = .ok (.aload_n 0, 1) := by decide +kernel
theorem dX67_comeBack_191 : decode cX67_comeBack 191 = .ok (.getfield 167, 3) := by decide +kernel
theorem dX67_comeBack_194 : decode cX67_comeBack 194 = .ok (.bipush 8, 2) := by decide +kernel
theorem dX67_comeBack_196 : decode cX67_comeBack 196 = .ok (.iload_n 3, 1) := by decide +kernel
theorem dX67_comeBack_197 : decode cX67_comeBack 197 = .ok (.imul, 1) := by decide +kernel
theorem dX67_comeBack_198 : decode cX67_comeBack 198 = .ok (.iload 6, 2) := by decide +kernel
theorem dX67_comeBack_200 : decode cX67_comeBack 200 = .ok (.iadd, 1) := by decide +kernel
theorem dX67_comeBack_201 : decode cX67_comeBack 201 = .ok (.iaload, 1) := by decide +kernel
theorem dX67_comeBack_202 : decode cX67_comeBack 202 = .ok (.iastore, 1) := by decide +kernel
theorem dX67_comeBack_203 : decode cX67_comeBack 203 = .ok (.aload_n 0, 1) := by decide +kernel
theorem dX67_comeBack_204 : decode cX67_comeBack 204 = .ok (.getfield 98, 3) := by decide +kernel
theorem dX67_comeBack_207 : decode cX67_comeBack 207 = .ok (.bipush 8, 2) := by decide +kernel
theorem dX67_comeBack_209 : decode cX67_comeBack 209 = .ok (.iload_n 1, 1) := by decide +kernel
theorem dX67_comeBack_210 : decode cX67_comeBack 210 = .ok (.imul, 1) := by decide +kernel
theorem dX67_comeBack_211 : decode cX67_comeBack 211 = .ok (.iload 6, 2) := by decide +kernel
theorem dX67_comeBack_213 : decode cX67_comeBack 213 = .ok (.iadd, 1) := by decide +kernel
theorem dX67_comeBack_214 : decode cX67_comeBack 214 = .ok (.aload_n 0, 1) := by decide +kernel
theorem dX67_comeBack_215 : decode cX67_comeBack 215 = .ok (.getfield 170, 3) := by decide +kernel
theorem dX67_comeBack_218 : decode cX67_comeBack 218 = .ok (.bipush 8, 2) := by decide +kernel
theorem dX67_comeBack_220 : decode cX67_comeBack 220 = .ok (.iload_n 3, 1) := by decide +kernel
theorem dX67_comeBack_221 : decode cX67_comeBack 221 = .ok (.imul, 1) := by decide +kernel
theorem dX67_comeBack_222 : decode cX67_comeBack 222 = .ok (.iload 6, 2) := by decide +kernel
theorem dX67_comeBack_224 : decode cX67_comeBack 224 = .ok (.iadd, 1) := by decide +kernel
theorem dX67_comeBack_225 : decode cX67_comeBack 225 = .ok (.iaload, 1) := by decide +kernel
theorem dX67_comeBack_226 : decode cX67_comeBack 226 = .ok (.iastore, 1) := by decide +kernel
theorem dX67_comeBack_227 : decode cX67_comeBack 227 = .ok (.aload_n 0, 1) := by decide +kernel
theorem dX67_comeBack_228 : decode cX67_comeBack 228 = .ok (.getfield 101, 3) := by decide +kernel
theorem dX67_comeBack_231 : decode cX67_comeBack 231 = .ok (.bipush 8, 2) := by decide +kernel
theorem dX67_comeBack_233 : decode cX67_comeBack 233 = .ok (.iload_n 1, 1) := by decide +kernel
theorem dX67_comeBack_234 : decode cX67_comeBack 234 = .ok (.imul, 1) := by decide +kernel
theorem dX67_comeBack_235 : decode cX67_comeBack 235 = .ok (.iload 6, 2) := by decide +kernel
theorem dX67_comeBack_237 : decode cX67_comeBack 237 = .ok (.iadd, 1) := by decide +kernel
theorem dX67_comeBack_238 : decode cX67_comeBack 238 = .ok (.aload_n 0, 1) := by decide +kernel
theorem dX67_comeBack_239 : decode cX67_comeBack 239 = .ok (.getfield 173, 3) := by decide +kernel
theorem dX67_comeBack_242 : decode cX67_comeBack 242 = .ok (.bipush 8, 2) := by decide +kernel
theorem dX67_comeBack_244 : decode cX67_comeBack 244 = .ok (.iload_n 3, 1) := by decide +kernel
theorem dX67_comeBack_245 : decode cX67_comeBack 245 = .ok (.imul, 1) := by decide +kernel
theorem dX67_comeBack_246 : decode cX67_comeBack 246 = .ok (.iload 6, 2) := by decide +kernel
theorem dX67_comeBack_248 : decode cX67_comeBack 248 = .ok (.iadd, 1) := by decide +kernel
theorem dX67_comeBack_249 : decode cX67_comeBack 249 = .ok (.iaload, 1) := by decide +kernel
theorem dX67_comeBack_250 : decode cX67_comeBack 250 = .ok (.iastore, 1) := by decide +kernel
theorem dX67_comeBack_251 : decode cX67_comeBack 251 = .ok (.iinc 6 1, 3) := by decide +kernel
theorem dX67_comeBack_254 : decode cX67_comeBack 254 = .ok (.goto (-82), 3) := by decide +kernel
theorem dX67_comeBack_257 : decode cX67_comeBack 257 = .ok (.aload_n 0, 1) := by decide +kernel
theorem dX67_comeBack_258 : decode cX67_comeBack 258 = .ok (.getfield 104, 3) := by decide +kernel
theorem dX67_comeBack_261 : decode cX67_comeBack 261 = .ok (.iload_n 1, 1) := by decide +kernel
theorem dX67_comeBack_262 : decode cX67_comeBack 262 = .ok (.aload_n 0, 1) := by decide +kernel
theorem dX67_comeBack_263 : decode cX67_comeBack 263 = .ok (.getfield 176, 3) := by decide +kernel
theorem dX67_comeBack_266 : decode cX67_comeBack 266 = .ok (.iload_n 3, 1) := by decide +kernel
theorem dX67_comeBack_267 : decode cX67_comeBack 267 = .ok (.iaload, 1) := by decide +kernel
theorem dX67_comeBack_268 : decode cX67_comeBack 268 = .ok (.iastore, 1) := by decide +kernel
theorem dX67_comeBack_269 : decode cX67_comeBack 269 = .ok (.aload_n 0, 1) := by decide +kernel
theorem dX67_comeBack_270 : decode cX67_comeBack 270 = .ok (.getfield 107, 3) := by decide +kernel
theorem dX67_comeBack_273 : decode cX67_comeBack 273 = .ok (.iload_n 1, 1) := by decide +kernel
theorem dX67_comeBack_274 : decode cX67_comeBack 274 = .ok (.aload_n 0, 1) := by decide +kernel
theorem dX67_comeBack_275 : decode cX67_comeBack 275 = .ok (.getfield 179, 3) := by decide +kernel
theorem dX67_comeBack_278 : decode cX67_comeBack 278 = .ok (.iload_n 3, 1) := by decide +kernel
theorem dX67_comeBack_279 : decode cX67_comeBack 279 = .ok (.iaload, 1) := by decide +kernel
theorem dX67_comeBack_280 : decode cX67_comeBack 280 = .ok (.iload 5, 2) := by decide +kernel
theorem dX67_comeBack_282 : decode cX67_comeBack 282 = .ok (.iadd, 1) := by decide +kernel
theorem dX67_comeBack_283 : decode cX67_comeBack 283 = .ok (.ldc 56, 2) := by decide +kernel
theorem dX67_comeBack_285 : decode cX67_comeBack 285 = .ok (.irem, 1) := by decide +kernel
theorem dX67_comeBack_286 : decode cX67_comeBack 286 = .ok (.iastore, 1) := by decide +kernel
theorem dX67_comeBack_287 : decode cX67_comeBack 287 = .ok (.aload_n 0, 1) := by decide +kernel
theorem dX67_comeBack_288 : decode cX67_comeBack 288 = .ok (.getfield 110, 3) := by decide +kernel
theorem dX67_comeBack_291 : decode cX67_comeBack 291 = .ok (.iload_n 1, 1) := by decide +kernel
theorem dX67_comeBack_292 : decode cX67_comeBack 292 = .ok (.aload_n 0, 1) := by decide +kernel
theorem dX67_comeBack_293 : decode cX67_comeBack 293 = .ok (.getfield 182, 3) := by decide +kernel
theorem dX67_comeBack_296 : decode cX67_comeBack 296 = .ok (.iload_n 3, 1) := by decide +kernel
theorem dX67_comeBack_297 : decode cX67_comeBack 297 = .ok (.iaload, 1) := by decide +kernel
theorem dX67_comeBack_298 : decode cX67_comeBack 298 = .ok (.iastore, 1) := by decide +kernel
theorem dX67_comeBack_299 : decode cX67_comeBack 299 = .ok (.aload_n 0, 1) := by decide +kernel
theorem dX67_comeBack_300 : decode cX67_comeBack 300 = .ok (.getfield 113, 3) := by decide +kernel
theorem dX67_comeBack_303 : decode cX67_comeBack 303 = .ok (.iload_n 1, 1) := by decide +kernel
theorem dX67_comeBack_304 : decode cX67_comeBack 304 = .ok (.aload_n 0, 1) := by decide +kernel
theorem dX67_comeBack_305 : decode cX67_comeBack 305 = .ok (.getfield 185, 3) := by decide +kernel
theorem dX67_comeBack_308 : decode cX67_comeBack 308 = .ok (.iload_n 3, 1) := by decide +kernel
theorem dX67_comeBack_309 : decode cX67_comeBack 309 = .ok (.baload, 1) := by decide +kernel
theorem dX67_comeBack_310 : decode cX67_comeBack 310 = .ok (.bastore, 1) := by decide +kernel
theorem dX67_comeBack_311 : decode cX67_comeBack 311 = .ok (.aload_n 0, 1) := by decide +kernel
theorem dX67_comeBack_312 : decode cX67_comeBack 312 = .ok (.getfield 116, 3) := by decide +kernel
theorem dX67_comeBack_315 : decode cX67_comeBack 315 = .ok (.iload_n 1, 1) := by decide +kernel
theorem dX67_comeBack_316 : decode cX67_comeBack 316 = .ok (.aload_n 0, 1) := by decide +kernel
theorem dX67_comeBack_317 : decode cX67_comeBack 317 = .ok (.getfield 188, 3) := by decide +kernel
theorem dX67_comeBack_320 : decode cX67_comeBack 320 = .ok (.iload_n 3, 1) := by decide +kernel
theorem dX67_comeBack_321 : decode cX67_comeBack 321 = .ok (.baload, 1) := by decide +kernel
theorem dX67_comeBack_322 : decode cX67_comeBack 322 = .ok (.bastore, 1) := by decide +kernel
theorem dX67_comeBack_323 : decode cX67_comeBack 323 = .ok (.aload_n 0, 1) := by decide +kernel
theorem dX67_comeBack_324 : decode cX67_comeBack 324 = .ok (.getfield 155, 3) := by decide +kernel
theorem dX67_comeBack_327 : decode cX67_comeBack 327 = .ok (.iload_n 1, 1) := by decide +kernel
theorem dX67_comeBack_328 : decode cX67_comeBack 328 = .ok (.dup2, 1) := by decide +kernel
theorem dX67_comeBack_329 : decode cX67_comeBack 329 = .ok (.iaload, 1) := by decide +kernel
theorem dX67_comeBack_330 : decode cX67_comeBack 330 = .ok (.iconst 1, 1) := by decide +kernel
theorem dX67_comeBack_331 : decode cX67_comeBack 331 = .ok (.isub, 1) := by decide +kernel
theorem dX67_comeBack_332 : decode cX67_comeBack 332 = .ok (.iastore, 1) := by decide +kernel
theorem dX67_comeBack_333 : decode cX67_comeBack 333 = .ok (.return_, 1) := by decide +kernel
theorem zy_X67_comeBack : yX67_comeBack.cls ≠ "java/lang/invoke/MethodHandle" ∧ yX67_comeBack.cls ≠ "java/lang/invoke/VarHandle" ∧ (parseMethodDescriptor yX67_comeBack.desc).map (fun d => d.parameters.length) = some 2 := by decide +kernel
theorem w_fX67_comeBack_J257 {K : zK} (E : zE K cX67_comeBack "RingHouseModel" none 1) (hN : zNl K = 7) (hT : zTr K = none) (x1 : Int) (x3 : Int) (x5 : Int) : zR K 257 [(0, 69, 0), (1, 0, x1), (3, 0, x3), (5, 0, x5)] [] (fX67_comeBack_J257 x1 x3 x5) := by
  refine r_aload_n E dX67_comeBack_257 rfl 0 rfl ?_
  refine r_gec (y := 0) E zc_69 dX67_comeBack_258 q3246 zr_69 (zh_6831 (by decide)) (by decide) ?_
  refine r_iload_n E dX67_comeBack_261 rfl 1 rfl ?_
  refine r_aload_n E dX67_comeBack_262 rfl 0 rfl ?_
  refine r_gec (y := 0) E zc_69 dX67_comeBack_263 q3270 zr_69 (zh_6855 (by decide)) (by decide) ?_
  refine r_iload_n E dX67_comeBack_266 rfl 2 rfl ?_
  refine r_iaload E zc_6855 za_6855 zt_6855 zx_6855 rfl rfl dX67_comeBack_267 (by decide) (fun v9 => ?_)
  refine r_iastore E zc_6831 za_6831 zt_6831 zo_6831 zx_6831 rfl rfl dX67_comeBack_268 (by decide) ?_
  refine r_aload_n E dX67_comeBack_269 rfl 0 rfl ?_
  refine r_gec (y := 0) E zc_69 dX67_comeBack_270 q3247 zr_69 (zh_6832 (by decide)) (by decide) ?_
  refine r_iload_n E dX67_comeBack_273 rfl 1 rfl ?_
  refine r_aload_n E dX67_comeBack_274 rfl 0 rfl ?_
  refine r_gec (y := 0) E zc_69 dX67_comeBack_275 q3271 zr_69 (zh_6856 (by decide)) (by decide) ?_
  refine r_iload_n E dX67_comeBack_278 rfl 2 rfl ?_
  refine r_iaload E zc_6856 za_6856 zt_6856 zx_6856 rfl rfl dX67_comeBack_279 (by decide) (fun v10 => ?_)
  refine r_iload E dX67_comeBack_280 3 rfl ?_
  refine r_iadd E dX67_comeBack_282 ?_
  refine r_ldc (v := 262144) E dX67_comeBack_283 q3170 (by decide) (zkI (by decide) (by decide)) ?_
  refine r_irem E (by decide) dX67_comeBack_285 ?_
  refine r_iastore E zc_6832 za_6832 zt_6832 zo_6832 zx_6832 rfl rfl dX67_comeBack_286 (by decide) ?_
  refine r_aload_n E dX67_comeBack_287 rfl 0 rfl ?_
  refine r_gec (y := 0) E zc_69 dX67_comeBack_288 q3248 zr_69 (zh_6833 (by decide)) (by decide) ?_
  refine r_iload_n E dX67_comeBack_291 rfl 1 rfl ?_
  refine r_aload_n E dX67_comeBack_292 rfl 0 rfl ?_
  refine r_gec (y := 0) E zc_69 dX67_comeBack_293 q3272 zr_69 (zh_6857 (by decide)) (by decide) ?_
  refine r_iload_n E dX67_comeBack_296 rfl 2 rfl ?_
  refine r_iaload E zc_6857 za_6857 zt_6857 zx_6857 rfl rfl dX67_comeBack_297 (by decide) (fun v11 => ?_)
  refine r_iastore E zc_6833 za_6833 zt_6833 zo_6833 zx_6833 rfl rfl dX67_comeBack_298 (by decide) ?_
  refine r_aload_n E dX67_comeBack_299 rfl 0 rfl ?_
  refine r_gec (y := 0) E zc_69 dX67_comeBack_300 q3249 zr_69 (zh_6834 (by decide)) (by decide) ?_
  refine r_iload_n E dX67_comeBack_303 rfl 1 rfl ?_
  refine r_aload_n E dX67_comeBack_304 rfl 0 rfl ?_
  refine r_gec (y := 0) E zc_69 dX67_comeBack_305 q3273 zr_69 (zh_6858 (by decide)) (by decide) ?_
  refine r_iload_n E dX67_comeBack_308 rfl 2 rfl ?_
  refine r_baloadz E zc_6858 za_6858 zt_6858 zx_6858 rfl rfl dX67_comeBack_309 (by decide) (fun v12 => ?_)
  refine r_zastore E zc_6834 za_6834 zt_6834 zo_6834 zx_6834 rfl rfl dX67_comeBack_310 (by decide) ?_
  refine r_aload_n E dX67_comeBack_311 rfl 0 rfl ?_
  refine r_gec (y := 0) E zc_69 dX67_comeBack_312 q3250 zr_69 (zh_6835 (by decide)) (by decide) ?_
  refine r_iload_n E dX67_comeBack_315 rfl 1 rfl ?_
  refine r_aload_n E dX67_comeBack_316 rfl 0 rfl ?_
  refine r_gec (y := 0) E zc_69 dX67_comeBack_317 q3274 zr_69 (zh_6859 (by decide)) (by decide) ?_
  refine r_iload_n E dX67_comeBack_320 rfl 2 rfl ?_
  refine r_baloadz E zc_6859 za_6859 zt_6859 zx_6859 rfl rfl dX67_comeBack_321 (by decide) (fun v13 => ?_)
  refine r_zastore E zc_6835 za_6835 zt_6835 zo_6835 zx_6835 rfl rfl dX67_comeBack_322 (by decide) ?_
  refine r_aload_n E dX67_comeBack_323 rfl 0 rfl ?_
  refine r_gec (y := 0) E zc_69 dX67_comeBack_324 q3263 zr_69 (zh_6848 (by decide)) (by decide) ?_
  refine r_iload_n E dX67_comeBack_327 rfl 1 rfl ?_
  refine r_dup22 E (zn1 rfl) (zn1 rfl) dX67_comeBack_328 ?_
  refine r_iaload E zc_6848 za_6848 zt_6848 zx_6848 rfl rfl dX67_comeBack_329 (by decide) (fun v14 => ?_)
  refine r_iconst E dX67_comeBack_330 (zkI (by decide) (by decide)) ?_
  refine r_isub E dX67_comeBack_331 ?_
  refine r_iastore E zc_6848 za_6848 zt_6848 zo_6848 zx_6848 rfl rfl dX67_comeBack_332 (by decide) ?_
  exact r_return E rfl hT dX67_comeBack_333
theorem w_fX67_comeBack_B172 {K : zK} (E : zE K cX67_comeBack "RingHouseModel" none 1) (hN : zNl K = 7) (hT : zTr K = none) (x1 : Int) (x3 : Int) (x5 : Int) : ∀ r172 : Int → zX, (∀ s : Int, zR K 172 [(0, 69, 0), (1, 0, x1), (3, 0, x3), (5, 0, x5), (6, 0, s)] [] (r172 s)) → ∀ s : Int, zR K 172 [(0, 69, 0), (1, 0, x1), (3, 0, x3), (5, 0, x5), (6, 0, s)] [] (fX67_comeBack_B172 x1 x3 x5 r172 s) := by
  intro r172 hr172 x6
  refine r_iload E dX67_comeBack_172 4 rfl ?_
  refine r_bipush E dX67_comeBack_174 (by decide) (zkI (by decide) (by decide)) ?_
  refine r_icmp_ge E 257 (by decide) dX67_comeBack_176 (fun _ => ?_) (fun _ => ?_)
  · refine r_pick E [0, 1, 2, 3] rfl ?_
    exact w_fX67_comeBack_J257 E hN hT x1 x3 x5
  · refine r_aload_n E dX67_comeBack_179 rfl 0 rfl ?_
    refine r_gec (y := 0) E zc_69 dX67_comeBack_180 q3243 zr_69 (zh_6828 (by decide)) (by decide) ?_
    refine r_bipush E dX67_comeBack_183 (by decide) (zkI (by decide) (by decide)) ?_
    refine r_iload_n E dX67_comeBack_185 rfl 1 rfl ?_
    refine r_imul E dX67_comeBack_186 ?_
    refine r_iload E dX67_comeBack_187 4 rfl ?_
    refine r_iadd E dX67_comeBack_189 ?_
    refine r_aload_n E dX67_comeBack_190 rfl 0 rfl ?_
    refine r_gec (y := 0) E zc_69 dX67_comeBack_191 q3267 zr_69 (zh_6852 (by decide)) (by decide) ?_
    refine r_bipush E dX67_comeBack_194 (by decide) (zkI (by decide) (by decide)) ?_
    refine r_iload_n E dX67_comeBack_196 rfl 2 rfl ?_
    refine r_imul E dX67_comeBack_197 ?_
    refine r_iload E dX67_comeBack_198 4 rfl ?_
    refine r_iadd E dX67_comeBack_200 ?_
    refine r_iaload E zc_6852 za_6852 zt_6852 zx_6852 rfl rfl dX67_comeBack_201 (by decide) (fun v15 => ?_)
    refine r_iastore E zc_6828 za_6828 zt_6828 zo_6828 zx_6828 rfl rfl dX67_comeBack_202 (by decide) ?_
    refine r_aload_n E dX67_comeBack_203 rfl 0 rfl ?_
    refine r_gec (y := 0) E zc_69 dX67_comeBack_204 q3244 zr_69 (zh_6829 (by decide)) (by decide) ?_
    refine r_bipush E dX67_comeBack_207 (by decide) (zkI (by decide) (by decide)) ?_
    refine r_iload_n E dX67_comeBack_209 rfl 1 rfl ?_
    refine r_imul E dX67_comeBack_210 ?_
    refine r_iload E dX67_comeBack_211 4 rfl ?_
    refine r_iadd E dX67_comeBack_213 ?_
    refine r_aload_n E dX67_comeBack_214 rfl 0 rfl ?_
    refine r_gec (y := 0) E zc_69 dX67_comeBack_215 q3268 zr_69 (zh_6853 (by decide)) (by decide) ?_
    refine r_bipush E dX67_comeBack_218 (by decide) (zkI (by decide) (by decide)) ?_
    refine r_iload_n E dX67_comeBack_220 rfl 2 rfl ?_
    refine r_imul E dX67_comeBack_221 ?_
    refine r_iload E dX67_comeBack_222 4 rfl ?_
    refine r_iadd E dX67_comeBack_224 ?_
    refine r_iaload E zc_6853 za_6853 zt_6853 zx_6853 rfl rfl dX67_comeBack_225 (by decide) (fun v16 => ?_)
    refine r_iastore E zc_6829 za_6829 zt_6829 zo_6829 zx_6829 rfl rfl dX67_comeBack_226 (by decide) ?_
    refine r_aload_n E dX67_comeBack_227 rfl 0 rfl ?_
    refine r_gec (y := 0) E zc_69 dX67_comeBack_228 q3245 zr_69 (zh_6830 (by decide)) (by decide) ?_
    refine r_bipush E dX67_comeBack_231 (by decide) (zkI (by decide) (by decide)) ?_
    refine r_iload_n E dX67_comeBack_233 rfl 1 rfl ?_
    refine r_imul E dX67_comeBack_234 ?_
    refine r_iload E dX67_comeBack_235 4 rfl ?_
    refine r_iadd E dX67_comeBack_237 ?_
    refine r_aload_n E dX67_comeBack_238 rfl 0 rfl ?_
    refine r_gec (y := 0) E zc_69 dX67_comeBack_239 q3269 zr_69 (zh_6854 (by decide)) (by decide) ?_
    refine r_bipush E dX67_comeBack_242 (by decide) (zkI (by decide) (by decide)) ?_
    refine r_iload_n E dX67_comeBack_244 rfl 2 rfl ?_
    refine r_imul E dX67_comeBack_245 ?_
    refine r_iload E dX67_comeBack_246 4 rfl ?_
    refine r_iadd E dX67_comeBack_248 ?_
    refine r_iaload E zc_6854 za_6854 zt_6854 zx_6854 rfl rfl dX67_comeBack_249 (by decide) (fun v17 => ?_)
    refine r_iastore E zc_6830 za_6830 zt_6830 zo_6830 zx_6830 rfl rfl dX67_comeBack_250 (by decide) ?_
    refine r_iinc (ls' := fun v18 => [(6, 0, v18), (0, 69, 0), (1, 0, x1), (3, 0, x3), (5, 0, x5)]) E 4 rfl (by rw [hN]; decide) (fun _ => rfl) dX67_comeBack_251 (fun v18 _ => ?_)
    refine r_goto E 172 (by decide) dX67_comeBack_254 ?_
    refine r_pick E [1, 2, 3, 4, 0] rfl ?_
    exact hr172 v18
theorem w_fX67_comeBack_J169 {K : zK} (E : zE K cX67_comeBack "RingHouseModel" none 1) (hN : zNl K = 7) (hT : zTr K = none) (x1 : Int) (x3 : Int) (x5 : Int) : zR K 169 [(0, 69, 0), (1, 0, x1), (3, 0, x3), (5, 0, x5)] [] (fX67_comeBack_J169 x1 x3 x5) := by
  refine r_iconst E dX67_comeBack_169 (zkI (by decide) (by decide)) ?_
  refine r_istore (ls' := [(6, 0, 0), (0, 69, 0), (1, 0, x1), (3, 0, x3), (5, 0, x5)]) E dX67_comeBack_170 (by rw [hN]; decide) rfl ?_
  refine r_pick E [1, 2, 3, 4, 0] rfl ?_
  exact r_loop (L := fun s => [(0, 69, 0), (1, 0, x1), (3, 0, x3), (5, 0, x5), (6, 0, s)]) (w_fX67_comeBack_B172 E hN hT x1 x3 x5) zBIG 0
theorem w_fX67_comeBack_B135 {K : zK} (E : zE K cX67_comeBack "RingHouseModel" none 1) (hN : zNl K = 7) (hT : zTr K = none) (x1 : Int) (x3 : Int) (x5 : Int) : ∀ r135 : Int → zX, (∀ s : Int, zR K 135 [(0, 69, 0), (1, 0, x1), (3, 0, x3), (5, 0, x5), (6, 0, s)] [] (r135 s)) → ∀ s : Int, zR K 135 [(0, 69, 0), (1, 0, x1), (3, 0, x3), (5, 0, x5), (6, 0, s)] [] (fX67_comeBack_B135 x1 x3 x5 r135 s) := by
  intro r135 hr135 x6
  refine r_iload E dX67_comeBack_135 4 rfl ?_
  refine r_iconst E dX67_comeBack_137 (zkI (by decide) (by decide)) ?_
  refine r_icmp_ge E 169 (by decide) dX67_comeBack_138 (fun _ => ?_) (fun _ => ?_)
  · refine r_pick E [0, 1, 2, 3] rfl ?_
    exact w_fX67_comeBack_J169 E hN hT x1 x3 x5
  · refine r_aload_n E dX67_comeBack_141 rfl 0 rfl ?_
    refine r_gec (y := 0) E zc_69 dX67_comeBack_142 q3242 zr_69 (zh_6827 (by decide)) (by decide) ?_
    refine r_iconst E dX67_comeBack_145 (zkI (by decide) (by decide)) ?_
    refine r_iload_n E dX67_comeBack_146 rfl 1 rfl ?_
    refine r_imul E dX67_comeBack_147 ?_
    refine r_iload E dX67_comeBack_148 4 rfl ?_
    refine r_iadd E dX67_comeBack_150 ?_
    refine r_aload_n E dX67_comeBack_151 rfl 0 rfl ?_
    refine r_gec (y := 0) E zc_69 dX67_comeBack_152 q3266 zr_69 (zh_6851 (by decide)) (by decide) ?_
    refine r_iconst E dX67_comeBack_155 (zkI (by decide) (by decide)) ?_
    refine r_iload_n E dX67_comeBack_156 rfl 2 rfl ?_
    refine r_imul E dX67_comeBack_157 ?_
    refine r_iload E dX67_comeBack_158 4 rfl ?_
    refine r_iadd E dX67_comeBack_160 ?_
    refine r_iaload E zc_6851 za_6851 zt_6851 zx_6851 rfl rfl dX67_comeBack_161 (by decide) (fun v19 => ?_)
    refine r_iastore E zc_6827 za_6827 zt_6827 zo_6827 zx_6827 rfl rfl dX67_comeBack_162 (by decide) ?_
    refine r_iinc (ls' := fun v20 => [(6, 0, v20), (0, 69, 0), (1, 0, x1), (3, 0, x3), (5, 0, x5)]) E 4 rfl (by rw [hN]; decide) (fun _ => rfl) dX67_comeBack_163 (fun v20 _ => ?_)
    refine r_goto E 135 (by decide) dX67_comeBack_166 ?_
    refine r_pick E [1, 2, 3, 4, 0] rfl ?_
    exact hr135 v20
theorem w_fX67_comeBack_J106 {K : zK} (E : zE K cX67_comeBack "RingHouseModel" none 1) (hN : zNl K = 7) (hT : zTr K = none) (x1 : Int) (x3 : Int) (s0 : Int) : zR K 106 [(0, 69, 0), (1, 0, x1), (3, 0, x3)] [(0, s0)] (fX67_comeBack_J106 x1 x3 s0) := by
  refine r_istore (ls' := [(5, 0, s0), (0, 69, 0), (1, 0, x1), (3, 0, x3)]) E dX67_comeBack_106 (by rw [hN]; decide) rfl ?_
  refine r_aload_n E dX67_comeBack_108 rfl 1 rfl ?_
  refine r_gec (y := 0) E zc_69 dX67_comeBack_109 q3240 zr_69 (zh_6825 (by decide)) (by decide) ?_
  refine r_iload_n E dX67_comeBack_112 rfl 2 rfl ?_
  refine r_aload_n E dX67_comeBack_113 rfl 1 rfl ?_
  refine r_gec (y := 0) E zc_69 dX67_comeBack_114 q3264 zr_69 (zh_6849 (by decide)) (by decide) ?_
  refine r_iload_n E dX67_comeBack_117 rfl 3 rfl ?_
  refine r_laload E zc_6849 za_6849 zt_6849 zx_6849 rfl rfl dX67_comeBack_118 (by decide) (fun v7 => ?_)
  refine r_lastore E zc_6825 za_6825 zt_6825 zo_6825 zx_6825 rfl rfl dX67_comeBack_119 (by decide) ?_
  refine r_aload_n E dX67_comeBack_120 rfl 1 rfl ?_
  refine r_gec (y := 0) E zc_69 dX67_comeBack_121 q3241 zr_69 (zh_6826 (by decide)) (by decide) ?_
  refine r_iload_n E dX67_comeBack_124 rfl 2 rfl ?_
  refine r_aload_n E dX67_comeBack_125 rfl 1 rfl ?_
  refine r_gec (y := 0) E zc_69 dX67_comeBack_126 q3265 zr_69 (zh_6850 (by decide)) (by decide) ?_
  refine r_iload_n E dX67_comeBack_129 rfl 3 rfl ?_
  refine r_laload E zc_6850 za_6850 zt_6850 zx_6850 rfl rfl dX67_comeBack_130 (by decide) (fun v8 => ?_)
  refine r_lastore E zc_6826 za_6826 zt_6826 zo_6826 zx_6826 rfl rfl dX67_comeBack_131 (by decide) ?_
  refine r_iconst E dX67_comeBack_132 (zkI (by decide) (by decide)) ?_
  refine r_istore (ls' := [(6, 0, 0), (5, 0, s0), (0, 69, 0), (1, 0, x1), (3, 0, x3)]) E dX67_comeBack_133 (by rw [hN]; decide) rfl ?_
  refine r_pick E [2, 3, 4, 1, 0] rfl ?_
  exact r_loop (L := fun s => [(0, 69, 0), (1, 0, x1), (3, 0, x3), (5, 0, s0), (6, 0, s)]) (w_fX67_comeBack_B135 E hN hT x1 x3 s0) zBIG 0
theorem w_fX67_comeBack_J69 {K : zK} (E : zE K cX67_comeBack "RingHouseModel" none 1) (hN : zNl K = 7) (hT : zTr K = none) (x1 : Int) (x2 : Int) (x4 : Int) : zR K 69 [(0, 69, 0), (1, 0, x1), (2, 0, x2), (4, 0, x4)] [] (fX67_comeBack_J69 x1 x2 x4) := by
  refine r_aload_n E dX67_comeBack_69 rfl 0 rfl ?_
  refine r_gec (y := 0) E zc_69 dX67_comeBack_70 q3240 zr_69 (zh_6825 (by decide)) (by decide) ?_
  refine r_iload_n E dX67_comeBack_73 rfl 1 rfl ?_
  refine r_iload E dX67_comeBack_74 3 rfl ?_
  refine r_i2l E dX67_comeBack_76 ?_
  refine r_ldc2 (v := 68719476735) E dX67_comeBack_77 q3628 (by decide) (zkJ (by decide) (by decide)) ?_
  refine r_lmask (P := 68719476736) E 36 (by decide) (by decide) (by decide) dX67_comeBack_80 ?_
  refine r_lastore E zc_6825 za_6825 zt_6825 zo_6825 zx_6825 rfl rfl dX67_comeBack_81 (by decide) ?_
  refine r_aload_n E dX67_comeBack_82 rfl 0 rfl ?_
  refine r_gec (y := 0) E zc_69 dX67_comeBack_83 q3247 zr_69 (zh_6832 (by decide)) (by decide) ?_
  refine r_iload_n E dX67_comeBack_86 rfl 1 rfl ?_
  refine r_iload_n E dX67_comeBack_87 rfl 2 rfl ?_
  refine r_iastore E zc_6832 za_6832 zt_6832 zo_6832 zx_6832 rfl rfl dX67_comeBack_88 (by decide) ?_
  exact r_return E rfl hT dX67_comeBack_89
theorem w_fX67_comeBack_J47 {K : zK} (E : zE K cX67_comeBack "RingHouseModel" none 1) (hN : zNl K = 7) (hT : zTr K = none) (x1 : Int) (x2 : Int) (x3 : Int) (s0 : Int) : zR K 47 [(0, 69, 0), (1, 0, x1), (2, 0, x2), (3, 0, x3)] [(0, s0)] (fX67_comeBack_J47 x1 x2 x3 s0) := by
  refine r_istore (ls' := [(4, 0, s0), (0, 69, 0), (1, 0, x1), (2, 0, x2), (3, 0, x3)]) E dX67_comeBack_47 (by rw [hN]; decide) rfl ?_
  refine r_iload E dX67_comeBack_49 0 rfl ?_
  refine r_if_ge E 90 (by decide) dX67_comeBack_51 (fun _ => ?_) (fun _ => ?_)
  · refine r_aload_n E dX67_comeBack_90 rfl 1 rfl ?_
    refine r_gec (y := 0) E zc_69 dX67_comeBack_91 q3242 zr_69 (zh_6827 (by decide)) (by decide) ?_
    refine r_iconst E dX67_comeBack_94 (zkI (by decide) (by decide)) ?_
    refine r_iload_n E dX67_comeBack_95 rfl 2 rfl ?_
    refine r_imul E dX67_comeBack_96 ?_
    refine r_iaload E zc_6827 za_6827 zt_6827 zx_6827 rfl rfl dX67_comeBack_97 (by decide) (fun v6 => ?_)
    refine r_if_ne E 105 (by decide) dX67_comeBack_98 (fun _ => ?_) (fun _ => ?_)
    · refine r_iconst E dX67_comeBack_105 (zkI (by decide) (by decide)) ?_
      refine r_pick E [1, 2, 4] rfl ?_
      exact w_fX67_comeBack_J106 E hN hT x1 x3 1
    · refine r_iconst E dX67_comeBack_101 (zkI (by decide) (by decide)) ?_
      refine r_goto E 106 (by decide) dX67_comeBack_102 ?_
      refine r_pick E [1, 2, 4] rfl ?_
      exact w_fX67_comeBack_J106 E hN hT x1 x3 0
  · refine r_iload E dX67_comeBack_54 0 rfl ?_
    refine r_bipush E dX67_comeBack_56 (by decide) (zkI (by decide) (by decide)) ?_
    refine r_icmp_ne E 69 (by decide) dX67_comeBack_58 (fun _ => ?_) (fun _ => ?_)
    · refine r_pick E [1, 2, 3, 0] rfl ?_
      exact w_fX67_comeBack_J69 E hN hT x1 x2 s0
    · refine r_aload_n E dX67_comeBack_61 rfl 1 rfl ?_
      refine r_iload_n E dX67_comeBack_62 rfl 2 rfl ?_
      refine r_iconst E dX67_comeBack_63 (zkI (by decide) (by decide)) ?_
      refine r_iconst E dX67_comeBack_64 (zkI (by decide) (by decide)) ?_
      refine r_iconst E dX67_comeBack_65 (zkI (by decide) (by decide)) ?_
      refine r_callV E [(0, x1), (0, 2), (0, (-1)), (0, 5)] [] rfl zc_69 zr_69 (fun o _ => ⟨_, zw_X67.1 o, rfl⟩) (lw_V q3933 q3935 qs142 q294 q3936) dX67_comeBack_66 zy_X67_note rfl (by omega) (by decide) (Nat.le_of_ble_eq_true rfl) (by decide) (fun l G => k_fX67_note l G x1 2 (-1) 5) (fun _ => ?_)
      refine r_pick E [1, 2, 3, 0] rfl ?_
      exact w_fX67_comeBack_J69 E hN hT x1 x2 s0
theorem w_fX67_comeBack {K : zK} (E : zE K cX67_comeBack "RingHouseModel" none 1) (hN : zNl K = 7) (hT : zTr K = none) (x1 : Int) (x2 : Int) : zR K 0 [(0, 69, 0), (1, 0, x1), (2, 0, x2)] [] (fX67_comeBack x1 x2) := by
  refine r_iconst E dX67_comeBack_0 (zkI (by decide) (by decide)) ?_
  refine r_iload_n E dX67_comeBack_1 rfl 1 rfl ?_
  refine r_imul E dX67_comeBack_2 ?_
  refine r_aload_n E dX67_comeBack_3 rfl 0 rfl ?_
  refine r_gec (y := 0) E zc_69 dX67_comeBack_4 q3263 zr_69 (zh_6848 (by decide)) (by decide) ?_
  refine r_iload_n E dX67_comeBack_7 rfl 1 rfl ?_
  refine r_iaload E zc_6848 za_6848 zt_6848 zx_6848 rfl rfl dX67_comeBack_8 (by decide) (fun v1 => ?_)
  refine r_iadd E dX67_comeBack_9 ?_
  refine r_iconst E dX67_comeBack_10 (zkI (by decide) (by decide)) ?_
  refine r_isub E dX67_comeBack_11 ?_
  refine r_let E (fun v2 ev2 => ?_)
  refine r_istore_n (ls' := [(3, 0, v2), (0, 69, 0), (1, 0, x1), (2, 0, x2)]) E dX67_comeBack_12 rfl (by rw [hN]; decide) rfl ?_
  refine r_aload_n E dX67_comeBack_13 rfl 1 rfl ?_
  refine r_gec (y := 0) E zc_69 dX67_comeBack_14 q3263 zr_69 (zh_6848 (by decide)) (by decide) ?_
  refine r_iload_n E dX67_comeBack_17 rfl 2 rfl ?_
  refine r_iaload E zc_6848 za_6848 zt_6848 zx_6848 rfl rfl dX67_comeBack_18 (by decide) (fun v3 => ?_)
  refine r_if_ne E 26 (by decide) dX67_comeBack_19 (fun _ => ?_) (fun _ => ?_)
  · refine r_aload_n E dX67_comeBack_26 rfl 1 rfl ?_
    refine r_gec (y := 0) E zc_69 dX67_comeBack_27 q3248 zr_69 (zh_6833 (by decide)) (by decide) ?_
    refine r_iload_n E dX67_comeBack_30 rfl 2 rfl ?_
    refine r_iaload E zc_6833 za_6833 zt_6833 zx_6833 rfl rfl dX67_comeBack_31 (by decide) (fun v4 => ?_)
    refine r_aload_n E dX67_comeBack_32 rfl 1 rfl ?_
    refine r_gec (y := 0) E zc_69 dX67_comeBack_33 q3272 zr_69 (zh_6857 (by decide)) (by decide) ?_
    refine r_iload_n E dX67_comeBack_36 rfl 0 rfl ?_
    refine r_iaload E zc_6857 za_6857 zt_6857 zx_6857 rfl rfl dX67_comeBack_37 (by decide) (fun v5 => ?_)
    refine r_icmp_le E 46 (by decide) dX67_comeBack_38 (fun _ => ?_) (fun _ => ?_)
    · refine r_iconst E dX67_comeBack_46 (zkI (by decide) (by decide)) ?_
      refine r_pick E [1, 2, 3, 0] rfl ?_
      exact w_fX67_comeBack_J47 E hN hT x1 x2 v2 0
    · refine r_bipush E dX67_comeBack_41 (by decide) (zkI (by decide) (by decide)) ?_
      refine r_goto E 47 (by decide) dX67_comeBack_43 ?_
      refine r_pick E [1, 2, 3, 0] rfl ?_
      exact w_fX67_comeBack_J47 E hN hT x1 x2 v2 (-4)
  · refine r_iconst E dX67_comeBack_22 (zkI (by decide) (by decide)) ?_
    refine r_goto E 47 (by decide) dX67_comeBack_23 ?_
    refine r_pick E [1, 2, 3, 0] rfl ?_
    exact w_fX67_comeBack_J47 E hN hT x1 x2 v2 (-1)
theorem k_fX67_comeBack (l : Launch) (G : zG) (x1 : Int) (x2 : Int) : zCt l G yX67_comeBack cX67_comeBack 7 none 1 [(69, 0), (0, x1), (0, x2)] none (fX67_comeBack x1 x2) := zCt.of (by decide) (Nat.le_of_ble_eq_true rfl) (fun K E _ _ hN hT => w_fX67_comeBack E hN hT x1 x2)
theorem dX67_service_0 : decode cX67_service 0 = .ok (.aload_n 0, 1) := by decide +kernel
theorem dX67_service_1 : decode cX67_service 1 = .ok (.getfield 110, 3) := by decide +kernel
theorem dX67_service_4 : decode cX67_service 4 = .ok (.iload_n 1, 1) := by decide +kernel
theorem dX67_service_5 : decode cX67_service 5 = .ok (.iaload, 1) := by decide +kernel
theorem dX67_service_6 : decode cX67_service 6 = .ok (.iconst 5, 1) := by decide +kernel
theorem dX67_service_7 : decode cX67_service 7 = .ok (.if_icmp .gt 9, 3) := by decide +kernel
theorem dX67_service_10 : decode cX67_service 10 = .ok (.iload_n 2, 1) := by decide +kernel
theorem dX67_service_11 : decode cX67_service 11 = .ok (.bipush 28, 2) := by decide +kernel
theorem dX67_service_13 : decode cX67_service 13 = .ok (.if_icmp .le 28, 3) := by decide +kernel
theorem dX67_service_16 : decode cX67_service 16 = .ok (.aload_n 0, 1) := by decide +kernel
theorem dX67_service_17 : decode cX67_service 17 = .ok (.bipush 13, 2) := by decide +kernel
theorem dX67_service_19 : decode cX67_service 19 = .ok (.aload_n 0, 1) := by decide +kernel
theorem dX67_service_20 : decode cX67_service 20 = .ok (.getfield 104, 3) := by decide +kernel
theorem dX67_service_23 : decode cX67_service 23 = .ok (.iload_n 1, 1) := by decide +kernel
theorem dX67_service_24 : decode cX67_service 24 = .ok (.iaload, 1) := by decide +kernel
theorem dX67_service_25 : decode cX67_service 25 = .ok (.aload_n 0, 1) := by decide +kernel
theorem dX67_service_26 : decode cX67_service 26 = .ok (.getfield 107, 3) := by decide +kernel
theorem dX67_service_29 : decode cX67_service 29 = .ok (.iload_n 1, 1) := by decide +kernel
theorem dX67_service_30 : decode cX67_service 30 = .ok (.iaload, 1) := by decide +kernel
theorem dX67_service_31 : decode cX67_service 31 = .ok (.aload_n 0, 1) := by decide +kernel
theorem dX67_service_32 : decode cX67_service 32 = .ok (.getfield 110, 3) := by decide +kernel
theorem dX67_service_35 : decode cX67_service 35 = .ok (.iload_n 1, 1) := by decide +kernel
theorem dX67_service_36 : decode cX67_service 36 = .ok (.iaload, 1) := by decide +kernel
theorem dX67_service_37 : decode cX67_service 37 = .ok (.invokevirtual 531, 3) := by decide +kernel
theorem dX67_service_40 : decode cX67_service 40 = .ok (.return_, 1) := by decide +kernel
theorem dX67_service_41 : decode cX67_service 41 = .ok (.aload_n 0, 1) := by decide +kernel
theorem dX67_service_42 : decode cX67_service 42 = .ok (.getfield 107, 3) := by decide +kernel
theorem dX67_service_45 : decode cX67_service 45 = .ok (.iload_n 1, 1) := by decide +kernel
theorem dX67_service_46 : decode cX67_service 46 = .ok (.iaload, 1) := by decide +kernel
theorem dX67_service_47 : decode cX67_service 47 = .ok (.iconst 1, 1) := by decide +kernel
theorem dX67_service_48 : decode cX67_service 48 = .ok (.iadd, 1) := by decide +kernel
theorem dX67_service_49 : decode cX67_service 49 = .ok (.ldc 56, 2) := by decide +kernel
theorem dX67_service_51 : decode cX67_service 51 = .ok (.irem, 1) := by decide +kernel
theorem dX67_service_52 : decode cX67_service 52 = .ok (.istore_n 3, 1) := by decide +kernel
theorem dX67_service_53 : decode cX67_service 53 = .ok (.iload_n 2, 1) := by decide +kernel
theorem dX67_service_54 : decode cX67_service 54 = .ok (.bipush 18, 2) := by decide +kernel
theorem dX67_service_56 : decode cX67_service 56 = .ok (.if_icmp .ne 10, 3) := by decide +kernel
theorem dX67_service_59 : decode cX67_service 59 = .ok (.aload_n 0, 1) := by decide +kernel
theorem dX67_service_60 : decode cX67_service 60 = .ok (.iload_n 1, 1) := by decide +kernel
theorem dX67_service_61 : decode cX67_service 61 = .ok (.iload_n 3, 1) := by decide +kernel
theorem dX67_service_62 : decode cX67_service 62 = .ok (.invokevirtual 686, 3) := by decide +kernel
theorem dX67_service_65 : decode cX67_service 65 = .ok (.return_, 1) := by decide +kernel
theorem dX67_service_66 : decode cX67_service 66 = .ok (.iload_n 2, 1) := by decide +kernel
theorem dX67_service_67 : decode cX67_service 67 = .ok (.bipush 20, 2) := by decide +kernel
theorem dX67_service_69 : decode cX67_service 69 = .ok (.if_icmp .ne 30, 3) := by decide +kernel
theorem dX67_service_72 : decode cX67_service 72 = .ok (.aload_n 0, 1) := by decide +kernel
theorem dX67_service_73 : decode cX67_service 73 = .ok (.getfield 149, 3) := by decide +kernel
theorem dX67_service_76 : decode cX67_service 76 = .ok (.iload_n 1, 1) := by decide +kernel
theorem dX67_service_77 : decode cX67_service 77 = .ok (.iaload, 1) := by decide +kernel
theorem dX67_service_78 : decode cX67_service 78 = .ok (.ifCond .ne 21, 3) := by decide +kernel
theorem dX67_service_81 : decode cX67_service 81 = .ok (.aload_n 0, 1) := by decide +kernel
theorem dX67_service_82 : decode cX67_service 82 = .ok (.getfield 74, 3) := by decide +kernel
theorem dX67_service_85 : decode cX67_service 85 = .ok (.iload_n 1, 1) := by decide +kernel
theorem dX67_service_86 : decode cX67_service 86 = .ok (.iconst 1, 1) := by decide +kernel
theorem dX67_service_87 : decode cX67_service 87 = .ok (.iastore, 1) := by decide +kernel
theorem dX67_service_88 : decode cX67_service 88 = .ok (.aload_n 0, 1) := by decide +kernel
theorem dX67_service_89 : decode cX67_service 89 = .ok (.iload_n 1, 1) := by decide +kernel
theorem dX67_service_90 : decode cX67_service 90 = .ok (.bipush 7, 2) := by decide +kernel
theorem dX67_service_92 : decode cX67_service 92 = .ok (.lconst 0, 1) := by decide +kernel
theorem dX67_service_93 : decode cX67_service 93 = .ok (.lconst 0, 1) := by decide +kernel
theorem dX67_service_94 : decode cX67_service 94 = .ok (.lconst 0, 1) := by decide +kernel
theorem dX67_service_95 : decode cX67_service 95 = .ok (.invokevirtual 616, 3) := by decide +kernel
theorem dX67_service_98 : decode cX67_service 98 = .ok (.return_, 1) := by decide +kernel
theorem dX67_service_99 : decode cX67_service 99 = .ok (.aload_n 0, 1) := by decide +kernel
theorem dX67_service_100 : decode cX67_service 100 = .ok (.iconst (-1), 1) := by decide +kernel
theorem dX67_service_101 : decode cX67_service 101 = .ok (.putfield 689, 3) := by decide +kernel
theorem dX67_service_104 : decode cX67_service 104 = .ok (.iload_n 2, 1) := by decide +kernel
theorem dX67_service_105 : decode cX67_service 105 = .ok (.invokestatic 692, 3) := by decide +kernel
theorem dX67_service_108 : decode cX67_service 108 = .ok (.ifCond .eq 12, 3) := by decide +kernel
theorem dX67_service_111 : decode cX67_service 111 = .ok (.aload_n 0, 1) := by decide +kernel
theorem dX67_service_112 : decode cX67_service 112 = .ok (.iload_n 1, 1) := by decide +kernel
theorem dX67_service_113 : decode cX67_service 113 = .ok (.iload_n 2, 1) := by decide +kernel
theorem dX67_service_114 : decode cX67_service 114 = .ok (.invokevirtual 695, 3) := by decide +kernel
theorem dX67_service_117 : decode cX67_service 117 = .ok (.goto 36, 3) := by decide +kernel
theorem dX67_service_120 : decode cX67_service 120 = .ok (.iload_n 2, 1) := by decide +kernel
theorem dX67_service_121 : decode cX67_service 121 = .ok (.bipush 8, 2) := by decide +kernel
theorem dX67_service_123 : decode cX67_service 123 = .ok (.if_icmp .eq 15, 3) := by decide +kernel
theorem dX67_service_126 : decode cX67_service 126 = .ok (.iload_n 2, 1) := by decide +kernel
theorem dX67_service_127 : decode cX67_service 127 = .ok (.bipush 9, 2) := by decide +kernel
theorem dX67_service_129 : decode cX67_service 129 = .ok (.if_icmp .eq 9, 3) := by decide +kernel
theorem dX67_service_132 : decode cX67_service 132 = .ok (.iload_n 2, 1) := by decide +kernel
theorem dX67_service_133 : decode cX67_service 133 = .ok (.bipush 28, 2) := by decide +kernel
theorem dX67_service_135 : decode cX67_service 135 = .ok (.if_icmp .ne 12, 3) := by decide +kernel
theorem dX67_service_138 : decode cX67_service 138 = .ok (.aload_n 0, 1) := by decide +kernel
theorem dX67_service_139 : decode cX67_service 139 = .ok (.iload_n 1, 1) := by decide +kernel
theorem dX67_service_140 : decode cX67_service 140 = .ok (.iload_n 2, 1) := by decide +kernel
theorem dX67_service_141 : decode cX67_service 141 = .ok (.invokevirtual 698, 3) := by decide +kernel
theorem dX67_service_144 : decode cX67_service 144 = .ok (.goto 9, 3) := by decide +kernel
theorem dX67_service_147 : decode cX67_service 147 = .ok (.aload_n 0, 1) := by decide +kernel
theorem dX67_service_148 : decode cX67_service 148 = .ok (.iload_n 1, 1) := by decide +kernel
theorem dX67_service_149 : decode cX67_service 149 = .ok (.iload_n 2, 1) := by decide +kernel
theorem dX67_service_150 : decode cX67_service 150 = .ok (.invokevirtual 701, 3) := by decide +kernel
theorem dX67_service_153 : decode cX67_service 153 = .ok (.istore 4, 2) := by decide +kernel
theorem dX67_service_155 : decode cX67_service 155 = .ok (.iload 4, 2) := by decide +kernel
theorem dX67_service_157 : decode cX67_service 157 = .ok (.bipush (-2), 2) := by decide +kernel
theorem dX67_service_159 : decode cX67_service 159 = .ok (.if_icmp .gt 24, 3) := by decide +kernel
theorem dX67_service_162 : decode cX67_service 162 = .ok (.iload 4, 2) := by decide +kernel
theorem dX67_service_164 : decode cX67_service 164 = .ok (.bipush (-4), 2) := by decide +kernel
theorem dX67_service_166 : decode cX67_service 166 = .ok (.if_icmp .lt 17, 3) := by decide +kernel
theorem dX67_service_169 : decode cX67_service 169 = .ok (.aload_n 0, 1) := by decide +kernel
theorem dX67_service_170 : decode cX67_service 170 = .ok (.iload_n 1, 1) := by decide +kernel
theorem dX67_service_171 : decode cX67_service 171 = .ok (.iconst 2, 1) := by decide +kernel
theorem dX67_service_172 : decode cX67_service 172 = .ok (.aload_n 0, 1) := by decide +kernel
theorem dX67_service_173 : decode cX67_service 173 = .ok (.getfield 689, 3) := by decide +kernel
theorem dX67_service_176 : decode cX67_service 176 = .ok (.iconst 1, 1) := by decide +kernel
theorem dX67_service_177 : decode cX67_service 177 = .ok (.iload 4, 2) := by decide +kernel
theorem dX67_service_179 : decode cX67_service 179 = .ok (.isub, 1) := by decide +kernel
theorem dX67_service_180 : decode cX67_service 180 = .ok (.invokevirtual 649, 3) := by decide +kernel
theorem dX67_service_183 : decode cX67_service 183 = .ok (.aload_n 0, 1) := by decide +kernel
theorem dX67_service_184 : decode cX67_service 184 = .ok (.getfield 86, 3) := by decide +kernel
theorem dX67_service_187 : decode cX67_service 187 = .ok (.iload_n 1, 1) := by decide +kernel
theorem dX67_service_188 : decode cX67_service 188 = .ok (.iload 4, 2) := by decide +kernel
theorem dX67_service_190 : decode cX67_service 190 = .ok (.i2l, 1) := by decide +kernel
theorem dX67_service_191 : decode cX67_service 191 = .ok (.ldc2_w 361, 3) := by decide +kernel
theorem dX67_service_194 : decode cX67_service 194 = .ok (.land, 1) := by decide +kernel
theorem dX67_service_195 : decode cX67_service 195 = .ok (.lastore, 1) := by decide +kernel
theorem dX67_service_196 : decode cX67_service 196 = .ok (.aload_n 0, 1) := by decide +kernel
theorem dX67_service_197 : decode cX67_service 197 = .ok (.getfield 107, 3) := by decide +kernel
theorem dX67_service_200 : decode cX67_service 200 = .ok (.iload_n 1, 1) := by decide +kernel
theorem dX67_service_201 : decode cX67_service 201 = .ok (.iload_n 3, 1) := by decide +kernel
theorem dX67_service_202 : decode cX67_service 202 = .ok (.iastore, 1) := by decide +kernel
theorem dX67_service_203 : decode cX67_service 203 = .ok (.return_, 1) := by decide +kernel
theorem zy_X67_service : yX67_service.cls ≠ "java/lang/invoke/MethodHandle" ∧ yX67_service.cls ≠ "java/lang/invoke/VarHandle" ∧ (parseMethodDescriptor yX67_service.desc).map (fun d => d.parameters.length) = some 2 := by decide +kernel
theorem w_fX67_service_J16 {K : zK} (E : zE K cX67_service "RingHouseModel" none 6) (hN : zNl K = 5) (hT : zTr K = none) (x1 : Int) : zR K 16 [(0, 69, 0), (1, 0, x1)] [] (fX67_service_J16 x1) := by
  refine r_aload_n E dX67_service_16 rfl 0 rfl ?_
  refine r_bipush E dX67_service_17 (by decide) (zkI (by decide) (by decide)) ?_
  refine r_aload_n E dX67_service_19 rfl 0 rfl ?_
  refine r_gec (y := 0) E zc_69 dX67_service_20 q3246 zr_69 (zh_6831 (by decide)) (by decide) ?_
  refine r_iload_n E dX67_service_23 rfl 1 rfl ?_
  refine r_iaload E zc_6831 za_6831 zt_6831 zx_6831 rfl rfl dX67_service_24 (by decide) (fun v2 => ?_)
  refine r_aload_n E dX67_service_25 rfl 0 rfl ?_
  refine r_gec (y := 0) E zc_69 dX67_service_26 q3247 zr_69 (zh_6832 (by decide)) (by decide) ?_
  refine r_iload_n E dX67_service_29 rfl 1 rfl ?_
  refine r_iaload E zc_6832 za_6832 zt_6832 zx_6832 rfl rfl dX67_service_30 (by decide) (fun v3 => ?_)
  refine r_aload_n E dX67_service_31 rfl 0 rfl ?_
  refine r_gec (y := 0) E zc_69 dX67_service_32 q3248 zr_69 (zh_6833 (by decide)) (by decide) ?_
  refine r_iload_n E dX67_service_35 rfl 1 rfl ?_
  refine r_iaload E zc_6833 za_6833 zt_6833 zx_6833 rfl rfl dX67_service_36 (by decide) (fun v4 => ?_)
  refine r_callV E [(0, 13), (0, v2), (0, v3), (0, v4)] [] rfl zc_69 zr_69 (fun o _ => ⟨_, zw_X67.1 o, rfl⟩) (lw_V q3851 q3853 qs123 q294 q3854) dX67_service_37 zy_X67_fail rfl (by omega) (by decide) (Nat.le_of_ble_eq_true rfl) (by decide) (fun l G => k_fX67_fail l G 13 v2 v3 v4) (fun _ => ?_)
  exact r_return E rfl hT dX67_service_40
theorem w_fX67_service_J183 {K : zK} (E : zE K cX67_service "RingHouseModel" none 6) (hN : zNl K = 5) (hT : zTr K = none) (x1 : Int) (x3 : Int) (x4 : Int) : zR K 183 [(0, 69, 0), (1, 0, x1), (3, 0, x3), (4, 0, x4)] [] (fX67_service_J183 x1 x3 x4) := by
  refine r_aload_n E dX67_service_183 rfl 0 rfl ?_
  refine r_gec (y := 0) E zc_69 dX67_service_184 q3240 zr_69 (zh_6825 (by decide)) (by decide) ?_
  refine r_iload_n E dX67_service_187 rfl 1 rfl ?_
  refine r_iload E dX67_service_188 3 rfl ?_
  refine r_i2l E dX67_service_190 ?_
  refine r_ldc2 (v := 68719476735) E dX67_service_191 q3628 (by decide) (zkJ (by decide) (by decide)) ?_
  refine r_lmask (P := 68719476736) E 36 (by decide) (by decide) (by decide) dX67_service_194 ?_
  refine r_lastore E zc_6825 za_6825 zt_6825 zo_6825 zx_6825 rfl rfl dX67_service_195 (by decide) ?_
  refine r_aload_n E dX67_service_196 rfl 0 rfl ?_
  refine r_gec (y := 0) E zc_69 dX67_service_197 q3247 zr_69 (zh_6832 (by decide)) (by decide) ?_
  refine r_iload_n E dX67_service_200 rfl 1 rfl ?_
  refine r_iload_n E dX67_service_201 rfl 2 rfl ?_
  refine r_iastore E zc_6832 za_6832 zt_6832 zo_6832 zx_6832 rfl rfl dX67_service_202 (by decide) ?_
  exact r_return E rfl hT dX67_service_203
theorem w_fX67_service_J153 {K : zK} (E : zE K cX67_service "RingHouseModel" none 6) (hN : zNl K = 5) (hT : zTr K = none) (x1 : Int) (x3 : Int) (s0 : Int) : zR K 153 [(0, 69, 0), (1, 0, x1), (3, 0, x3)] [(0, s0)] (fX67_service_J153 x1 x3 s0) := by
  refine r_istore (ls' := [(4, 0, s0), (0, 69, 0), (1, 0, x1), (3, 0, x3)]) E dX67_service_153 (by rw [hN]; decide) rfl ?_
  refine r_iload E dX67_service_155 0 rfl ?_
  refine r_bipush E dX67_service_157 (by decide) (zkI (by decide) (by decide)) ?_
  refine r_icmp_gt E 183 (by decide) dX67_service_159 (fun _ => ?_) (fun _ => ?_)
  · refine r_pick E [1, 2, 3, 0] rfl ?_
    exact w_fX67_service_J183 E hN hT x1 x3 s0
  · refine r_iload E dX67_service_162 0 rfl ?_
    refine r_bipush E dX67_service_164 (by decide) (zkI (by decide) (by decide)) ?_
    refine r_icmp_lt E 183 (by decide) dX67_service_166 (fun _ => ?_) (fun _ => ?_)
    · refine r_pick E [1, 2, 3, 0] rfl ?_
      exact w_fX67_service_J183 E hN hT x1 x3 s0
    · refine r_aload_n E dX67_service_169 rfl 1 rfl ?_
      refine r_iload_n E dX67_service_170 rfl 2 rfl ?_
      refine r_iconst E dX67_service_171 (zkI (by decide) (by decide)) ?_
      refine r_aload_n E dX67_service_172 rfl 1 rfl ?_
      refine r_get E zc_69 zt_6886 dX67_service_173 q3301 zr_69 (zg_6886 _) (by decide) (fun v10 => ?_)
      refine r_iconst E dX67_service_176 (zkI (by decide) (by decide)) ?_
      refine r_iload E dX67_service_177 0 rfl ?_
      refine r_isub E dX67_service_179 ?_
      refine r_callV E [(0, x1), (0, 2), (0, v10), (0, (zi (1 - s0)))] [] rfl zc_69 zr_69 (fun o _ => ⟨_, zw_X67.1 o, rfl⟩) (lw_V q3933 q3935 qs142 q294 q3936) dX67_service_180 zy_X67_note rfl (by omega) (by decide) (Nat.le_of_ble_eq_true rfl) (by decide) (fun l G => k_fX67_note l G x1 2 v10 (zi (1 - s0))) (fun _ => ?_)
      refine r_pick E [1, 2, 3, 0] rfl ?_
      exact w_fX67_service_J183 E hN hT x1 x3 s0
theorem w_fX67_service_J138 {K : zK} (E : zE K cX67_service "RingHouseModel" none 6) (hN : zNl K = 5) (hT : zTr K = none) (x1 : Int) (x2 : Int) (x3 : Int) : zR K 138 [(0, 69, 0), (1, 0, x1), (2, 0, x2), (3, 0, x3)] [] (fX67_service_J138 x1 x2 x3) := by
  refine r_aload_n E dX67_service_138 rfl 0 rfl ?_
  refine r_iload_n E dX67_service_139 rfl 1 rfl ?_
  refine r_iload_n E dX67_service_140 rfl 2 rfl ?_
  refine r_callV E [(0, x1), (0, x2)] [] rfl zc_69 zr_69 (fun o _ => ⟨_, zw_X67.1 o, rfl⟩) (lw_V q3987 q3989 qs152 q294 q3990) dX67_service_141 zy_X67_add rfl (by omega) (by decide) (Nat.le_of_ble_eq_true rfl) (by decide) (fun l G => k_fX67_add l G x1 x2) (fun v9 => ?_)
  refine r_goto E 153 (by decide) dX67_service_144 ?_
  refine r_pick E [0, 1, 3] rfl ?_
  exact w_fX67_service_J153 E hN hT x1 x3 v9
theorem w_fX67_service_J99 {K : zK} (E : zE K cX67_service "RingHouseModel" none 6) (hN : zNl K = 5) (hT : zTr K = none) (x1 : Int) (x2 : Int) (x3 : Int) : zR K 99 [(0, 69, 0), (1, 0, x1), (2, 0, x2), (3, 0, x3)] [] (fX67_service_J99 x1 x2 x3) := by
  refine r_aload_n E dX67_service_99 rfl 0 rfl ?_
  refine r_iconst E dX67_service_100 (zkI (by decide) (by decide)) ?_
  refine r_put E zc_69 zt_6886 zo_6886 dX67_service_101 q3301 zr_69 zw_X67 zp_6886 (fun _ => rfl) (fun _ => rfl) (by decide) ?_
  refine r_iload_n E dX67_service_104 rfl 2 rfl ?_
  refine r_callS E [(0, x2)] [] rfl q3937 q3938 q294 q3939 dX67_service_105 zy_X67_isOfEntry rfl (by omega) (by decide) (Nat.le_of_ble_eq_true rfl) (fun l G => k_fX67_isOfEntry l G x2) (fun v8 => ?_)
  refine r_if_eq E 120 (by decide) dX67_service_108 (fun _ => ?_) (fun _ => ?_)
  · refine r_iload_n E dX67_service_120 rfl 2 rfl ?_
    refine r_bipush E dX67_service_121 (by decide) (zkI (by decide) (by decide)) ?_
    refine r_icmp_eq E 138 (by decide) dX67_service_123 (fun _ => ?_) (fun _ => ?_)
    · exact w_fX67_service_J138 E hN hT x1 x2 x3
    · refine r_iload_n E dX67_service_126 rfl 2 rfl ?_
      refine r_bipush E dX67_service_127 (by decide) (zkI (by decide) (by decide)) ?_
      refine r_icmp_eq E 138 (by decide) dX67_service_129 (fun _ => ?_) (fun _ => ?_)
      · exact w_fX67_service_J138 E hN hT x1 x2 x3
      · refine r_iload_n E dX67_service_132 rfl 2 rfl ?_
        refine r_bipush E dX67_service_133 (by decide) (zkI (by decide) (by decide)) ?_
        refine r_icmp_ne E 147 (by decide) dX67_service_135 (fun _ => ?_) (fun _ => ?_)
        · refine r_aload_n E dX67_service_147 rfl 0 rfl ?_
          refine r_iload_n E dX67_service_148 rfl 1 rfl ?_
          refine r_iload_n E dX67_service_149 rfl 2 rfl ?_
          refine r_callV E [(0, x1), (0, x2)] [] rfl zc_69 zr_69 (fun o _ => ⟨_, zw_X67.1 o, rfl⟩) (lw_V q3992 q3994 qs153 q294 q3995) dX67_service_150 zy_X67_plain rfl (by omega) (by decide) (Nat.le_of_ble_eq_true rfl) (by decide) (fun l G => k_fX67_plain l G x1 x2) (fun v12 => ?_)
          refine r_pick E [0, 1, 3] rfl ?_
          exact w_fX67_service_J153 E hN hT x1 x3 v12
        · exact w_fX67_service_J138 E hN hT x1 x2 x3
  · refine r_aload_n E dX67_service_111 rfl 0 rfl ?_
    refine r_iload_n E dX67_service_112 rfl 1 rfl ?_
    refine r_iload_n E dX67_service_113 rfl 2 rfl ?_
    refine r_callV E [(0, x1), (0, x2)] [] rfl zc_69 zr_69 (fun o _ => ⟨_, zw_X67.1 o, rfl⟩) (lw_V q3943 q3945 qs143 q294 q3946) dX67_service_114 zy_X67_onEntry rfl (by omega) (by decide) (Nat.le_of_ble_eq_true rfl) (by decide) (fun l G => k_fX67_onEntry l G x1 x2) (fun v13 => ?_)
    refine r_goto E 153 (by decide) dX67_service_117 ?_
    refine r_pick E [0, 1, 3] rfl ?_
    exact w_fX67_service_J153 E hN hT x1 x3 v13
theorem w_fX67_service {K : zK} (E : zE K cX67_service "RingHouseModel" none 6) (hN : zNl K = 5) (hT : zTr K = none) (x1 : Int) (x2 : Int) : zR K 0 [(0, 69, 0), (1, 0, x1), (2, 0, x2)] [] (fX67_service x1 x2) := by
  refine r_aload_n E dX67_service_0 rfl 0 rfl ?_
  refine r_gec (y := 0) E zc_69 dX67_service_1 q3248 zr_69 (zh_6833 (by decide)) (by decide) ?_
  refine r_iload_n E dX67_service_4 rfl 1 rfl ?_
  refine r_iaload E zc_6833 za_6833 zt_6833 zx_6833 rfl rfl dX67_service_5 (by decide) (fun v1 => ?_)
  refine r_iconst E dX67_service_6 (zkI (by decide) (by decide)) ?_
  refine r_icmp_gt E 16 (by decide) dX67_service_7 (fun _ => ?_) (fun _ => ?_)
  · refine r_pick E [0, 1] rfl ?_
    exact w_fX67_service_J16 E hN hT x1
  · refine r_iload_n E dX67_service_10 rfl 2 rfl ?_
    refine r_bipush E dX67_service_11 (by decide) (zkI (by decide) (by decide)) ?_
    refine r_icmp_le E 41 (by decide) dX67_service_13 (fun _ => ?_) (fun _ => ?_)
    · refine r_aload_n E dX67_service_41 rfl 0 rfl ?_
      refine r_gec (y := 0) E zc_69 dX67_service_42 q3247 zr_69 (zh_6832 (by decide)) (by decide) ?_
      refine r_iload_n E dX67_service_45 rfl 1 rfl ?_
      refine r_iaload E zc_6832 za_6832 zt_6832 zx_6832 rfl rfl dX67_service_46 (by decide) (fun v6 => ?_)
      refine r_iconst E dX67_service_47 (zkI (by decide) (by decide)) ?_
      refine r_iadd E dX67_service_48 ?_
      refine r_ldc (v := 262144) E dX67_service_49 q3170 (by decide) (zkI (by decide) (by decide)) ?_
      refine r_irem E (by decide) dX67_service_51 ?_
      refine r_let E (fun v7 ev7 => ?_)
      refine r_istore_n (ls' := [(3, 0, v7), (0, 69, 0), (1, 0, x1), (2, 0, x2)]) E dX67_service_52 rfl (by rw [hN]; decide) rfl ?_
      refine r_iload_n E dX67_service_53 rfl 3 rfl ?_
      refine r_bipush E dX67_service_54 (by decide) (zkI (by decide) (by decide)) ?_
      refine r_icmp_ne E 66 (by decide) dX67_service_56 (fun _ => ?_) (fun _ => ?_)
      · refine r_iload_n E dX67_service_66 rfl 3 rfl ?_
        refine r_bipush E dX67_service_67 (by decide) (zkI (by decide) (by decide)) ?_
        refine r_icmp_ne E 99 (by decide) dX67_service_69 (fun _ => ?_) (fun _ => ?_)
        · refine r_pick E [1, 2, 3, 0] rfl ?_
          exact w_fX67_service_J99 E hN hT x1 x2 v7
        · refine r_aload_n E dX67_service_72 rfl 1 rfl ?_
          refine r_gec (y := 0) E zc_69 dX67_service_73 q3261 zr_69 (zh_6846 (by decide)) (by decide) ?_
          refine r_iload_n E dX67_service_76 rfl 2 rfl ?_
          refine r_iaload E zc_6846 za_6846 zt_6846 zx_6846 rfl rfl dX67_service_77 (by decide) (fun v14 => ?_)
          refine r_if_ne E 99 (by decide) dX67_service_78 (fun _ => ?_) (fun _ => ?_)
          · refine r_pick E [1, 2, 3, 0] rfl ?_
            exact w_fX67_service_J99 E hN hT x1 x2 v7
          · refine r_aload_n E dX67_service_81 rfl 1 rfl ?_
            refine r_gec (y := 0) E zc_69 dX67_service_82 q3236 zr_69 (zh_6821 (by decide)) (by decide) ?_
            refine r_iload_n E dX67_service_85 rfl 2 rfl ?_
            refine r_iconst E dX67_service_86 (zkI (by decide) (by decide)) ?_
            refine r_iastore E zc_6821 za_6821 zt_6821 zo_6821 zx_6821 rfl rfl dX67_service_87 (by decide) ?_
            refine r_aload_n E dX67_service_88 rfl 1 rfl ?_
            refine r_iload_n E dX67_service_89 rfl 2 rfl ?_
            refine r_bipush E dX67_service_90 (by decide) (zkI (by decide) (by decide)) ?_
            refine r_lconst (v := 0) E dX67_service_92 (by decide) (zkJ (by decide) (by decide)) ?_
            refine r_lconst (v := 0) E dX67_service_93 (by decide) (zkJ (by decide) (by decide)) ?_
            refine r_lconst (v := 0) E dX67_service_94 (by decide) (zkJ (by decide) (by decide)) ?_
            refine r_callV E [(0, x1), (0, 7), (1, 0), (1, 0), (1, 0)] [] rfl zc_69 zr_69 (fun o _ => ⟨_, zw_X67.1 o, rfl⟩) (lw_V q3830 q3832 qs118 q294 q3833) dX67_service_95 zy_X67_tell rfl (by omega) (by decide) (Nat.le_of_ble_eq_true rfl) (by decide) (fun l G => k_fX67_tell l G x1 7 0 0 0) (fun _ => ?_)
            exact r_return E rfl hT dX67_service_98
      · refine r_aload_n E dX67_service_59 rfl 1 rfl ?_
        refine r_iload_n E dX67_service_60 rfl 2 rfl ?_
        refine r_iload_n E dX67_service_61 rfl 0 rfl ?_
        refine r_callV E [(0, x1), (0, v7)] [] rfl zc_69 zr_69 (fun o _ => ⟨_, zw_X67.1 o, rfl⟩) (lw_V q3929 q3931 qs141 q294 q3932) dX67_service_62 zy_X67_comeBack rfl (by omega) (by decide) (Nat.le_of_ble_eq_true rfl) (by decide) (fun l G => k_fX67_comeBack l G x1 v7) (fun _ => ?_)
        exact r_return E rfl hT dX67_service_65
    · refine r_pick E [0, 1] rfl ?_
      exact w_fX67_service_J16 E hN hT x1
theorem k_fX67_service (l : Launch) (G : zG) (x1 : Int) (x2 : Int) : zCt l G yX67_service cX67_service 5 none 6 [(69, 0), (0, x1), (0, x2)] none (fX67_service x1 x2) := zCt.of (by decide) (Nat.le_of_ble_eq_true rfl) (fun K E _ _ hN hT => w_fX67_service E hN hT x1 x2)
theorem dX67_turnTo_0 : decode cX67_turnTo 0 = .ok (.iload_n 2, 1) := by decide +kernel
theorem dX67_turnTo_1 : decode cX67_turnTo 1 = .ok (.aload_n 0, 1) := by decide +kernel
theorem dX67_turnTo_2 : decode cX67_turnTo 2 = .ok (.getfield 110, 3) := by decide +kernel
theorem dX67_turnTo_5 : decode cX67_turnTo 5 = .ok (.iload_n 1, 1) := by decide +kernel
theorem dX67_turnTo_6 : decode cX67_turnTo 6 = .ok (.iaload, 1) := by decide +kernel
theorem dX67_turnTo_7 : decode cX67_turnTo 7 = .ok (.if_icmp .eq 35, 3) := by decide +kernel
theorem dX67_turnTo_10 : decode cX67_turnTo 10 = .ok (.aload_n 0, 1) := by decide +kernel
theorem dX67_turnTo_11 : decode cX67_turnTo 11 = .ok (.iload_n 1, 1) := by decide +kernel
theorem dX67_turnTo_12 : decode cX67_turnTo 12 = .ok (.iload_n 2, 1) := by decide +kernel
theorem dX67_turnTo_13 : decode cX67_turnTo 13 = .ok (.aload_n 0, 1) := by decide +kernel
theorem dX67_turnTo_14 : decode cX67_turnTo 14 = .ok (.getfield 110, 3) := by decide +kernel
theorem dX67_turnTo_17 : decode cX67_turnTo 17 = .ok (.iload_n 1, 1) := by decide +kernel
theorem dX67_turnTo_18 : decode cX67_turnTo 18 = .ok (.iaload, 1) := by decide +kernel
theorem dX67_turnTo_19 : decode cX67_turnTo 19 = .ok (.if_icmp .ge 7, 3) := by decide +kernel
theorem dX67_turnTo_22 : decode cX67_turnTo 22 = .ok (.iconst 3, 1) := by decide +kernel
theorem dX67_turnTo_23 : decode cX67_turnTo 23 = .ok (.goto 4, 3) := by decide +kernel
theorem dX67_turnTo_26 : decode cX67_turnTo 26 = .ok (.iconst 4, 1) := by decide +kernel
theorem dX67_turnTo_27 : decode cX67_turnTo 27 = .ok (.iload_n 2, 1) := by decide +kernel
theorem dX67_turnTo_28 : decode cX67_turnTo 28 = .ok (.i2l, 1) := by decide +kernel
theorem dX67_turnTo_29 : decode cX67_turnTo 29 = .ok (.aload_n 0, 1) := by decide +kernel
theorem dX67_turnTo_30 : decode cX67_turnTo 30 = .ok (.getfield 555, 3) := by decide +kernel
theorem dX67_turnTo_33 : decode cX67_turnTo 33 = .ok (.i2l, 1) := by decide +kernel
theorem dX67_turnTo_34 : decode cX67_turnTo 34 = .ok (.aload_n 0, 1) := by decide +kernel
theorem dX67_turnTo_35 : decode cX67_turnTo 35 = .ok (.getfield 558, 3) := by decide +kernel
theorem dX67_turnTo_38 : decode cX67_turnTo 38 = .ok (.i2l, 1) := by decide +kernel
theorem dX67_turnTo_39 : decode cX67_turnTo 39 = .ok (.invokevirtual 616, 3) := by decide +kernel
theorem dX67_turnTo_42 : decode cX67_turnTo 42 = .ok (.aload_n 0, 1) := by decide +kernel
theorem dX67_turnTo_43 : decode cX67_turnTo 43 = .ok (.getfield 110, 3) := by decide +kernel
theorem dX67_turnTo_46 : decode cX67_turnTo 46 = .ok (.iload_n 1, 1) := by decide +kernel
theorem dX67_turnTo_47 : decode cX67_turnTo 47 = .ok (.iload_n 2, 1) := by decide +kernel
theorem dX67_turnTo_48 : decode cX67_turnTo 48 = .ok (.iastore, 1) := by decide +kernel
theorem dX67_turnTo_49 : decode cX67_turnTo 49 = .ok (.return_, 1) := by decide +kernel
theorem zy_X67_turnTo : yX67_turnTo.cls ≠ "java/lang/invoke/MethodHandle" ∧ yX67_turnTo.cls ≠ "java/lang/invoke/VarHandle" ∧ (parseMethodDescriptor yX67_turnTo.desc).map (fun d => d.parameters.length) = some 2 := by decide +kernel
theorem w_fX67_turnTo_J42 {K : zK} (E : zE K cX67_turnTo "RingHouseModel" none 1) (hN : zNl K = 3) (hT : zTr K = none) (x1 : Int) (x2 : Int) : zR K 42 [(0, 69, 0), (1, 0, x1), (2, 0, x2)] [] (fX67_turnTo_J42 x1 x2) := by
  refine r_aload_n E dX67_turnTo_42 rfl 0 rfl ?_
  refine r_gec (y := 0) E zc_69 dX67_turnTo_43 q3248 zr_69 (zh_6833 (by decide)) (by decide) ?_
  refine r_iload_n E dX67_turnTo_46 rfl 1 rfl ?_
  refine r_iload_n E dX67_turnTo_47 rfl 2 rfl ?_
  refine r_iastore E zc_6833 za_6833 zt_6833 zo_6833 zx_6833 rfl rfl dX67_turnTo_48 (by decide) ?_
  exact r_return E rfl hT dX67_turnTo_49
theorem w_fX67_turnTo_J27 {K : zK} (E : zE K cX67_turnTo "RingHouseModel" none 1) (hN : zNl K = 3) (hT : zTr K = none) (x1 : Int) (x2 : Int) (s1 : Int) (s2 : Int) : zR K 27 [(0, 69, 0), (1, 0, x1), (2, 0, x2)] [(0, s2), (0, s1), (69, 0)] (fX67_turnTo_J27 x1 x2 s1 s2) := by
  refine r_iload_n E dX67_turnTo_27 rfl 2 rfl ?_
  refine r_i2l E dX67_turnTo_28 ?_
  refine r_aload_n E dX67_turnTo_29 rfl 0 rfl ?_
  refine r_get E zc_69 zt_6878 dX67_turnTo_30 q3293 zr_69 (zg_6878 _) (by decide) (fun v3 => ?_)
  refine r_i2l E dX67_turnTo_33 ?_
  refine r_aload_n E dX67_turnTo_34 rfl 0 rfl ?_
  refine r_get E zc_69 zt_6879 dX67_turnTo_35 q3294 zr_69 (zg_6879 _) (by decide) (fun v4 => ?_)
  refine r_i2l E dX67_turnTo_38 ?_
  refine r_callV E [(0, s1), (0, s2), (1, x2), (1, v3), (1, v4)] [] rfl zc_69 zr_69 (fun o _ => ⟨_, zw_X67.1 o, rfl⟩) (lw_V q3830 q3832 qs118 q294 q3833) dX67_turnTo_39 zy_X67_tell rfl (by omega) (by decide) (Nat.le_of_ble_eq_true rfl) (by decide) (fun l G => k_fX67_tell l G s1 s2 x2 v3 v4) (fun _ => ?_)
  exact w_fX67_turnTo_J42 E hN hT x1 x2
theorem w_fX67_turnTo {K : zK} (E : zE K cX67_turnTo "RingHouseModel" none 1) (hN : zNl K = 3) (hT : zTr K = none) (x1 : Int) (x2 : Int) : zR K 0 [(0, 69, 0), (1, 0, x1), (2, 0, x2)] [] (fX67_turnTo x1 x2) := by
  refine r_iload_n E dX67_turnTo_0 rfl 2 rfl ?_
  refine r_aload_n E dX67_turnTo_1 rfl 0 rfl ?_
  refine r_gec (y := 0) E zc_69 dX67_turnTo_2 q3248 zr_69 (zh_6833 (by decide)) (by decide) ?_
  refine r_iload_n E dX67_turnTo_5 rfl 1 rfl ?_
  refine r_iaload E zc_6833 za_6833 zt_6833 zx_6833 rfl rfl dX67_turnTo_6 (by decide) (fun v1 => ?_)
  refine r_icmp_eq E 42 (by decide) dX67_turnTo_7 (fun _ => ?_) (fun _ => ?_)
  · exact w_fX67_turnTo_J42 E hN hT x1 x2
  · refine r_aload_n E dX67_turnTo_10 rfl 0 rfl ?_
    refine r_iload_n E dX67_turnTo_11 rfl 1 rfl ?_
    refine r_iload_n E dX67_turnTo_12 rfl 2 rfl ?_
    refine r_aload_n E dX67_turnTo_13 rfl 0 rfl ?_
    refine r_gec (y := 0) E zc_69 dX67_turnTo_14 q3248 zr_69 (zh_6833 (by decide)) (by decide) ?_
    refine r_iload_n E dX67_turnTo_17 rfl 1 rfl ?_
    refine r_iaload E zc_6833 za_6833 zt_6833 zx_6833 rfl rfl dX67_turnTo_18 (by decide) (fun v2 => ?_)
    refine r_icmp_ge E 26 (by decide) dX67_turnTo_19 (fun _ => ?_) (fun _ => ?_)
    · refine r_iconst E dX67_turnTo_26 (zkI (by decide) (by decide)) ?_
      exact w_fX67_turnTo_J27 E hN hT x1 x2 x1 4
    · refine r_iconst E dX67_turnTo_22 (zkI (by decide) (by decide)) ?_
      refine r_goto E 27 (by decide) dX67_turnTo_23 ?_
      exact w_fX67_turnTo_J27 E hN hT x1 x2 x1 3
theorem k_fX67_turnTo (l : Launch) (G : zG) (x1 : Int) (x2 : Int) : zCt l G yX67_turnTo cX67_turnTo 3 none 1 [(69, 0), (0, x1), (0, x2)] none (fX67_turnTo x1 x2) := zCt.of (by decide) (Nat.le_of_ble_eq_true rfl) (fun K E _ _ hN hT => w_fX67_turnTo E hN hT x1 x2)
theorem dX67_call_0 : decode cX67_call 0 = .ok (.aload_n 0, 1) := by decide +kernel
theorem dX67_call_1 : decode cX67_call 1 = .ok (.iload_n 1, 1) := by decide +kernel
theorem dX67_call_2 : decode cX67_call 2 = .ok (.aload_n 0, 1) := by decide +kernel
theorem dX67_call_3 : decode cX67_call 3 = .ok (.getfield 555, 3) := by decide +kernel
theorem dX67_call_6 : decode cX67_call 6 = .ok (.aload_n 0, 1) := by decide +kernel
theorem dX67_call_7 : decode cX67_call 7 = .ok (.getfield 558, 3) := by decide +kernel
theorem dX67_call_10 : decode cX67_call 10 = .ok (.invokevirtual 524, 3) := by decide +kernel
theorem dX67_call_13 : decode cX67_call 13 = .ok (.istore 4, 2) := by decide +kernel
theorem dX67_call_15 : decode cX67_call 15 = .ok (.iload 4, 2) := by decide +kernel
theorem dX67_call_17 : decode cX67_call 17 = .ok (.ifCond .gt 12, 3) := by decide +kernel
theorem dX67_call_20 : decode cX67_call 20 = .ok (.aload_n 0, 1) := by decide +kernel
theorem dX67_call_21 : decode cX67_call 21 = .ok (.getfield 555, 3) := by decide +kernel
theorem dX67_call_24 : decode cX67_call 24 = .ok (.bipush 8, 2) := by decide +kernel
theorem dX67_call_26 : decode cX67_call 26 = .ok (.if_icmp .ge 31, 3) := by decide +kernel
theorem dX67_call_29 : decode cX67_call 29 = .ok (.aload_n 0, 1) := by decide +kernel
theorem dX67_call_30 : decode cX67_call 30 = .ok (.iload 4, 2) := by decide +kernel
theorem dX67_call_32 : decode cX67_call 32 = .ok (.ifCond .le 8, 3) := by decide +kernel
theorem dX67_call_35 : decode cX67_call 35 = .ok (.iload 4, 2) := by decide +kernel
theorem dX67_call_37 : decode cX67_call 37 = .ok (.goto 4, 3) := by decide +kernel
theorem dX67_call_40 : decode cX67_call 40 = .ok (.iconst 3, 1) := by decide +kernel
theorem dX67_call_41 : decode cX67_call 41 = .ok (.aload_n 0, 1) := by decide +kernel
theorem dX67_call_42 : decode cX67_call 42 = .ok (.getfield 555, 3) := by decide +kernel
theorem dX67_call_45 : decode cX67_call 45 = .ok (.aload_n 0, 1) := by decide +kernel
theorem dX67_call_46 : decode cX67_call 46 = .ok (.getfield 558, 3) := by decide +kernel
theorem dX67_call_49 : decode cX67_call 49 = .ok (.aload_n 0, 1) := by decide +kernel
theorem dX67_call_50 : decode cX67_call 50 = .ok (.getfield 561, 3) := by decide +kernel
theorem dX67_call_53 : decode cX67_call 53 = .ok (.invokevirtual 531, 3) := by decide +kernel
theorem dX67_call_56 : decode cX67_call 56 = .ok (.return_, 1) := by decide +kernel
theorem dX67_call_57 : decode cX67_call 57 = .ok (.aload_n 0, 1) := by decide +kernel
theorem dX67_call_58 : decode cX67_call 58 = .ok (.getfield 125, 3) := by decide +kernel
theorem dX67_call_61 : decode cX67_call 61 = .ok (.bipush 32, 2) := by decide +kernel
theorem dX67_call_63 : decode cX67_call 63 = .ok (.iload_n 1, 1) := by decide +kernel
theorem dX67_call_64 : decode cX67_call 64 = .ok (.imul, 1) := by decide +kernel
theorem dX67_call_65 : decode cX67_call 65 = .ok (.aload_n 0, 1) := by decide +kernel
theorem dX67_call_66 : decode cX67_call 66 = .ok (.getfield 555, 3) := by decide +kernel
theorem dX67_call_69 : decode cX67_call 69 = .ok (.iadd, 1) := by decide +kernel
theorem dX67_call_70 : decode cX67_call 70 = .ok (.iaload, 1) := by decide +kernel
theorem dX67_call_71 : decode cX67_call 71 = .ok (.istore 5, 2) := by decide +kernel
theorem dX67_call_73 : decode cX67_call 73 = .ok (.aload_n 0, 1) := by decide +kernel
theorem dX67_call_74 : decode cX67_call 74 = .ok (.iload_n 1, 1) := by decide +kernel
theorem dX67_call_75 : decode cX67_call 75 = .ok (.iload 5, 2) := by decide +kernel
theorem dX67_call_77 : decode cX67_call 77 = .ok (.aload_n 0, 1) := by decide +kernel
theorem dX67_call_78 : decode cX67_call 78 = .ok (.getfield 561, 3) := by decide +kernel
theorem dX67_call_81 : decode cX67_call 81 = .ok (.iconst 2, 1) := by decide +kernel
theorem dX67_call_82 : decode cX67_call 82 = .ok (.invokevirtual 527, 3) := by decide +kernel
theorem dX67_call_85 : decode cX67_call 85 = .ok (.istore 4, 2) := by decide +kernel
theorem dX67_call_87 : decode cX67_call 87 = .ok (.aload_n 0, 1) := by decide +kernel
theorem dX67_call_88 : decode cX67_call 88 = .ok (.getfield 23, 3) := by decide +kernel
theorem dX67_call_91 : decode cX67_call 91 = .ok (.iconst 3, 1) := by decide +kernel
theorem dX67_call_92 : decode cX67_call 92 = .ok (.iload 5, 2) := by decide +kernel
theorem dX67_call_94 : decode cX67_call 94 = .ok (.imul, 1) := by decide +kernel
theorem dX67_call_95 : decode cX67_call 95 = .ok (.iaload, 1) := by decide +kernel
theorem dX67_call_96 : decode cX67_call 96 = .ok (.istore 6, 2) := by decide +kernel
theorem dX67_call_98 : decode cX67_call 98 = .ok (.aload_n 0, 1) := by decide +kernel
theorem dX67_call_99 : decode cX67_call 99 = .ok (.getfield 561, 3) := by decide +kernel
theorem dX67_call_102 : decode cX67_call 102 = .ok (.istore 7, 2) := by decide +kernel
theorem dX67_call_104 : decode cX67_call 104 = .ok (.iload 4, 2) := by decide +kernel
theorem dX67_call_106 : decode cX67_call 106 = .ok (.iconst 5, 1) := by decide +kernel
theorem dX67_call_107 : decode cX67_call 107 = .ok (.if_icmp .eq 8, 3) := by decide +kernel
theorem dX67_call_110 : decode cX67_call 110 = .ok (.iload 4, 2) := by decide +kernel
theorem dX67_call_112 : decode cX67_call 112 = .ok (.ifCond .ne 111, 3) := by decide +kernel
theorem dX67_call_115 : decode cX67_call 115 = .ok (.iload 7, 2) := by decide +kernel
theorem dX67_call_117 : decode cX67_call 117 = .ok (.iload 6, 2) := by decide +kernel
theorem dX67_call_119 : decode cX67_call 119 = .ok (.if_icmp .ge 8, 3) := by decide +kernel
theorem dX67_call_122 : decode cX67_call 122 = .ok (.bipush 7, 2) := by decide +kernel
theorem dX67_call_124 : decode cX67_call 124 = .ok (.goto 63, 3) := by decide +kernel
theorem dX67_call_127 : decode cX67_call 127 = .ok (.iload 7, 2) := by decide +kernel
theorem dX67_call_129 : decode cX67_call 129 = .ok (.aload_n 0, 1) := by decide +kernel
theorem dX67_call_130 : decode cX67_call 130 = .ok (.getfield 23, 3) := by decide +kernel
theorem dX67_call_133 : decode cX67_call 133 = .ok (.iconst 3, 1) := by decide +kernel
theorem dX67_call_134 : decode cX67_call 134 = .ok (.iload 5, 2) := by decide +kernel
theorem dX67_call_136 : decode cX67_call 136 = .ok (.imul, 1) := by decide +kernel
theorem dX67_call_137 : decode cX67_call 137 = .ok (.iconst 1, 1) := by decide +kernel
theorem dX67_call_138 : decode cX67_call 138 = .ok (.iadd, 1) := by decide +kernel
theorem dX67_call_139 : decode cX67_call 139 = .ok (.iaload, 1) := by decide +kernel
theorem dX67_call_140 : decode cX67_call 140 = .ok (.if_icmp .gt 7, 3) := by decide +kernel
theorem dX67_call_143 : decode cX67_call 143 = .ok (.iconst 0, 1) := by decide +kernel
theorem dX67_call_144 : decode cX67_call 144 = .ok (.goto 43, 3) := by decide +kernel
theorem dX67_call_147 : decode cX67_call 147 = .ok (.iload 7, 2) := by decide +kernel
theorem dX67_call_149 : decode cX67_call 149 = .ok (.aload_n 0, 1) := by decide +kernel
theorem dX67_call_150 : decode cX67_call 150 = .ok (.getfield 23, 3) := by decide +kernel
theorem dX67_call_153 : decode cX67_call 153 = .ok (.iconst 3, 1) := by decide +kernel
theorem dX67_call_154 : decode cX67_call 154 = .ok (.iload 5, 2) := by decide +kernel
theorem dX67_call_156 : decode cX67_call 156 = .ok (.imul, 1) := by decide +kernel
theorem dX67_call_157 : decode cX67_call 157 = .ok (.iconst 2, 1) := by decide +kernel
theorem dX67_call_158 : decode cX67_call 158 = .ok (.iadd, 1) := by decide +kernel
theorem dX67_call_159 : decode cX67_call 159 = .ok (.iaload, 1) := by decide +kernel
theorem dX67_call_160 : decode cX67_call 160 = .ok (.if_icmp .le 7, 3) := by decide +kernel
theorem dX67_call_163 : decode cX67_call 163 = .ok (.iconst 5, 1) := by decide +kernel
theorem dX67_call_164 : decode cX67_call 164 = .ok (.goto 23, 3) := by decide +kernel
theorem dX67_call_167 : decode cX67_call 167 = .ok (.aload_n 0, 1) := by decide +kernel
theorem dX67_call_168 : decode cX67_call 168 = .ok (.getfield 558, 3) := by decide +kernel
theorem dX67_call_171 : decode cX67_call 171 = .ok (.aload_n 0, 1) := by decide +kernel
theorem dX67_call_172 : decode cX67_call 172 = .ok (.getfield 26, 3) := by decide +kernel
theorem dX67_call_175 : decode cX67_call 175 = .ok (.iload 5, 2) := by decide +kernel
theorem dX67_call_177 : decode cX67_call 177 = .ok (.iaload, 1) := by decide +kernel
theorem dX67_call_178 : decode cX67_call 178 = .ok (.if_icmp .lt 8, 3) := by decide +kernel
theorem dX67_call_181 : decode cX67_call 181 = .ok (.bipush 6, 2) := by decide +kernel
theorem dX67_call_183 : decode cX67_call 183 = .ok (.goto 4, 3) := by decide +kernel
theorem dX67_call_186 : decode cX67_call 186 = .ok (.iconst 0, 1) := by decide +kernel
theorem dX67_call_187 : decode cX67_call 187 = .ok (.istore 4, 2) := by decide +kernel
theorem dX67_call_189 : decode cX67_call 189 = .ok (.iload 7, 2) := by decide +kernel
theorem dX67_call_191 : decode cX67_call 191 = .ok (.aload_n 0, 1) := by decide +kernel
theorem dX67_call_192 : decode cX67_call 192 = .ok (.getfield 23, 3) := by decide +kernel
theorem dX67_call_195 : decode cX67_call 195 = .ok (.iconst 3, 1) := by decide +kernel
theorem dX67_call_196 : decode cX67_call 196 = .ok (.iload 5, 2) := by decide +kernel
theorem dX67_call_198 : decode cX67_call 198 = .ok (.imul, 1) := by decide +kernel
theorem dX67_call_199 : decode cX67_call 199 = .ok (.iconst 1, 1) := by decide +kernel
theorem dX67_call_200 : decode cX67_call 200 = .ok (.iadd, 1) := by decide +kernel
theorem dX67_call_201 : decode cX67_call 201 = .ok (.iaload, 1) := by decide +kernel
theorem dX67_call_202 : decode cX67_call 202 = .ok (.if_icmp .le 17, 3) := by decide +kernel
theorem dX67_call_205 : decode cX67_call 205 = .ok (.aload_n 0, 1) := by decide +kernel
theorem dX67_call_206 : decode cX67_call 206 = .ok (.getfield 23, 3) := by decide +kernel
theorem dX67_call_209 : decode cX67_call 209 = .ok (.iconst 3, 1) := by decide +kernel
theorem dX67_call_210 : decode cX67_call 210 = .ok (.iload 5, 2) := by decide +kernel
theorem dX67_call_212 : decode cX67_call 212 = .ok (.imul, 1) := by decide +kernel
theorem dX67_call_213 : decode cX67_call 213 = .ok (.iconst 1, 1) := by decide +kernel
theorem dX67_call_214 : decode cX67_call 214 = .ok (.iadd, 1) := by decide +kernel
theorem dX67_call_215 : decode cX67_call 215 = .ok (.iaload, 1) := by decide +kernel
theorem dX67_call_216 : decode cX67_call 216 = .ok (.goto 5, 3) := by decide +kernel
theorem dX67_call_219 : decode cX67_call 219 = .ok (.iload 7, 2) := by decide +kernel
theorem dX67_call_221 : decode cX67_call 221 = .ok (.istore 7, 2) := by decide +kernel
theorem dX67_call_223 : decode cX67_call 223 = .ok (.iload 4, 2) := by decide +kernel
theorem dX67_call_225 : decode cX67_call 225 = .ok (.ifCond .le 22, 3) := by decide +kernel
theorem dX67_call_228 : decode cX67_call 228 = .ok (.aload_n 0, 1) := by decide +kernel
theorem dX67_call_229 : decode cX67_call 229 = .ok (.iload 4, 2) := by decide +kernel
theorem dX67_call_231 : decode cX67_call 231 = .ok (.aload_n 0, 1) := by decide +kernel
theorem dX67_call_232 : decode cX67_call 232 = .ok (.getfield 555, 3) := by decide +kernel
theorem dX67_call_235 : decode cX67_call 235 = .ok (.aload_n 0, 1) := by decide +kernel
theorem dX67_call_236 : decode cX67_call 236 = .ok (.getfield 558, 3) := by decide +kernel
theorem dX67_call_239 : decode cX67_call 239 = .ok (.aload_n 0, 1) := by decide +kernel
theorem dX67_call_240 : decode cX67_call 240 = .ok (.getfield 561, 3) := by decide +kernel
theorem dX67_call_243 : decode cX67_call 243 = .ok (.invokevirtual 531, 3) := by decide +kernel
theorem dX67_call_246 : decode cX67_call 246 = .ok (.return_, 1) := by decide +kernel
theorem dX67_call_247 : decode cX67_call 247 = .ok (.aload_n 0, 1) := by decide +kernel
theorem dX67_call_248 : decode cX67_call 248 = .ok (.getfield 95, 3) := by decide +kernel
theorem dX67_call_251 : decode cX67_call 251 = .ok (.bipush 8, 2) := by decide +kernel
theorem dX67_call_253 : decode cX67_call 253 = .ok (.iload_n 1, 1) := by decide +kernel
theorem dX67_call_254 : decode cX67_call 254 = .ok (.imul, 1) := by decide +kernel
theorem dX67_call_255 : decode cX67_call 255 = .ok (.bipush 7, 2) := by decide +kernel
theorem dX67_call_257 : decode cX67_call 257 = .ok (.iadd, 1) := by decide +kernel
theorem dX67_call_258 : decode cX67_call 258 = .ok (.iload_n 2, 1) := by decide +kernel
theorem dX67_call_259 : decode cX67_call 259 = .ok (.iastore, 1) := by decide +kernel
theorem dX67_call_260 : decode cX67_call 260 = .ok (.aload_n 0, 1) := by decide +kernel
theorem dX67_call_261 : decode cX67_call 261 = .ok (.getfield 98, 3) := by decide +kernel
theorem dX67_call_264 : decode cX67_call 264 = .ok (.bipush 8, 2) := by decide +kernel
theorem dX67_call_266 : decode cX67_call 266 = .ok (.iload_n 1, 1) := by decide +kernel
theorem dX67_call_267 : decode cX67_call 267 = .ok (.imul, 1) := by decide +kernel
theorem dX67_call_268 : decode cX67_call 268 = .ok (.bipush 7, 2) := by decide +kernel
theorem dX67_call_270 : decode cX67_call 270 = .ok (.iadd, 1) := by decide +kernel
theorem dX67_call_271 : decode cX67_call 271 = .ok (.iload_n 3, 1) := by decide +kernel
theorem dX67_call_272 : decode cX67_call 272 = .ok (.iconst 1, 1) := by decide +kernel
theorem dX67_call_273 : decode cX67_call 273 = .ok (.iadd, 1) := by decide +kernel
theorem dX67_call_274 : decode cX67_call 274 = .ok (.ldc 56, 2) := by decide +kernel
theorem dX67_call_276 : decode cX67_call 276 = .ok (.irem, 1) := by decide +kernel
theorem dX67_call_277 : decode cX67_call 277 = .ok (.iastore, 1) := by decide +kernel
theorem dX67_call_278 : decode cX67_call 278 = .ok (.aload_n 0, 1) := by decide +kernel
theorem dX67_call_279 : decode cX67_call 279 = .ok (.getfield 101, 3) := by decide +kernel
theorem dX67_call_282 : decode cX67_call 282 = .ok (.bipush 8, 2) := by decide +kernel
theorem dX67_call_284 : decode cX67_call 284 = .ok (.iload_n 1, 1) := by decide +kernel
theorem dX67_call_285 : decode cX67_call 285 = .ok (.imul, 1) := by decide +kernel
theorem dX67_call_286 : decode cX67_call 286 = .ok (.bipush 7, 2) := by decide +kernel
theorem dX67_call_288 : decode cX67_call 288 = .ok (.iadd, 1) := by decide +kernel
theorem dX67_call_289 : decode cX67_call 289 = .ok (.aload_n 0, 1) := by decide +kernel
theorem dX67_call_290 : decode cX67_call 290 = .ok (.getfield 110, 3) := by decide +kernel
theorem dX67_call_293 : decode cX67_call 293 = .ok (.iload_n 1, 1) := by decide +kernel
theorem dX67_call_294 : decode cX67_call 294 = .ok (.iaload, 1) := by decide +kernel
theorem dX67_call_295 : decode cX67_call 295 = .ok (.iastore, 1) := by decide +kernel
theorem dX67_call_296 : decode cX67_call 296 = .ok (.aload_n 0, 1) := by decide +kernel
theorem dX67_call_297 : decode cX67_call 297 = .ok (.getfield 95, 3) := by decide +kernel
theorem dX67_call_300 : decode cX67_call 300 = .ok (.bipush 8, 2) := by decide +kernel
theorem dX67_call_302 : decode cX67_call 302 = .ok (.iload_n 1, 1) := by decide +kernel
theorem dX67_call_303 : decode cX67_call 303 = .ok (.imul, 1) := by decide +kernel
theorem dX67_call_304 : decode cX67_call 304 = .ok (.bipush 6, 2) := by decide +kernel
theorem dX67_call_306 : decode cX67_call 306 = .ok (.iadd, 1) := by decide +kernel
theorem dX67_call_307 : decode cX67_call 307 = .ok (.iload 7, 2) := by decide +kernel
theorem dX67_call_309 : decode cX67_call 309 = .ok (.iastore, 1) := by decide +kernel
theorem dX67_call_310 : decode cX67_call 310 = .ok (.aload_n 0, 1) := by decide +kernel
theorem dX67_call_311 : decode cX67_call 311 = .ok (.getfield 98, 3) := by decide +kernel
theorem dX67_call_314 : decode cX67_call 314 = .ok (.bipush 8, 2) := by decide +kernel
theorem dX67_call_316 : decode cX67_call 316 = .ok (.iload_n 1, 1) := by decide +kernel
theorem dX67_call_317 : decode cX67_call 317 = .ok (.imul, 1) := by decide +kernel
theorem dX67_call_318 : decode cX67_call 318 = .ok (.bipush 6, 2) := by decide +kernel
theorem dX67_call_320 : decode cX67_call 320 = .ok (.iadd, 1) := by decide +kernel
theorem dX67_call_321 : decode cX67_call 321 = .ok (.iconst 0, 1) := by decide +kernel
theorem dX67_call_322 : decode cX67_call 322 = .ok (.iastore, 1) := by decide +kernel
theorem dX67_call_323 : decode cX67_call 323 = .ok (.aload_n 0, 1) := by decide +kernel
theorem dX67_call_324 : decode cX67_call 324 = .ok (.getfield 101, 3) := by decide +kernel
theorem dX67_call_327 : decode cX67_call 327 = .ok (.bipush 8, 2) := by decide +kernel
theorem dX67_call_329 : decode cX67_call 329 = .ok (.iload_n 1, 1) := by decide +kernel
theorem dX67_call_330 : decode cX67_call 330 = .ok (.imul, 1) := by decide +kernel
theorem dX67_call_331 : decode cX67_call 331 = .ok (.bipush 6, 2) := by decide +kernel
theorem dX67_call_333 : decode cX67_call 333 = .ok (.iadd, 1) := by decide +kernel
theorem dX67_call_334 : decode cX67_call 334 = .ok (.iload 7, 2) := by decide +kernel
theorem dX67_call_336 : decode cX67_call 336 = .ok (.iastore, 1) := by decide +kernel
theorem dX67_call_337 : decode cX67_call 337 = .ok (.aload_n 0, 1) := by decide +kernel
theorem dX67_call_338 : decode cX67_call 338 = .ok (.iload_n 1, 1) := by decide +kernel
theorem dX67_call_339 : decode cX67_call 339 = .ok (.iload 7, 2) := by decide +kernel
theorem dX67_call_341 : decode cX67_call 341 = .ok (.invokevirtual 620, 3) := by decide +kernel
theorem dX67_call_344 : decode cX67_call 344 = .ok (.aload_n 0, 1) := by decide +kernel
theorem dX67_call_345 : decode cX67_call 345 = .ok (.iload_n 1, 1) := by decide +kernel
theorem dX67_call_346 : decode cX67_call 346 = .ok (.invokevirtual 613, 3) := by decide +kernel
theorem dX67_call_349 : decode cX67_call 349 = .ok (.return_, 1) := by decide +kernel
theorem zy_X67_call : yX67_call.cls ≠ "java/lang/invoke/MethodHandle" ∧ yX67_call.cls ≠ "java/lang/invoke/VarHandle" ∧ (parseMethodDescriptor yX67_call.desc).map (fun d => d.parameters.length) = some 3 := by decide +kernel
theorem w_fX67_call_J41 {K : zK} (E : zE K cX67_call "RingHouseModel" none 2) (hN : zNl K = 8) (hT : zTr K = none) (s1 : Int) : zR K 41 [(0, 69, 0)] [(0, s1), (69, 0)] (fX67_call_J41 s1) := by
  refine r_aload_n E dX67_call_41 rfl 0 rfl ?_
  refine r_get E zc_69 zt_6878 dX67_call_42 q3293 zr_69 (zg_6878 _) (by decide) (fun v4 => ?_)
  refine r_aload_n E dX67_call_45 rfl 0 rfl ?_
  refine r_get E zc_69 zt_6879 dX67_call_46 q3294 zr_69 (zg_6879 _) (by decide) (fun v5 => ?_)
  refine r_aload_n E dX67_call_49 rfl 0 rfl ?_
  refine r_get E zc_69 zt_6880 dX67_call_50 q3295 zr_69 (zg_6880 _) (by decide) (fun v6 => ?_)
  refine r_callV E [(0, s1), (0, v4), (0, v5), (0, v6)] [] rfl zc_69 zr_69 (fun o _ => ⟨_, zw_X67.1 o, rfl⟩) (lw_V q3851 q3853 qs123 q294 q3854) dX67_call_53 zy_X67_fail rfl (by omega) (by decide) (Nat.le_of_ble_eq_true rfl) (by decide) (fun l G => k_fX67_fail l G s1 v4 v5 v6) (fun _ => ?_)
  exact r_return E rfl hT dX67_call_56
theorem w_fX67_call_J29 {K : zK} (E : zE K cX67_call "RingHouseModel" none 2) (hN : zNl K = 8) (hT : zTr K = none) (x4 : Int) : zR K 29 [(0, 69, 0), (4, 0, x4)] [] (fX67_call_J29 x4) := by
  refine r_aload_n E dX67_call_29 rfl 0 rfl ?_
  refine r_iload E dX67_call_30 1 rfl ?_
  refine r_if_le E 40 (by decide) dX67_call_32 (fun _ => ?_) (fun _ => ?_)
  · refine r_iconst E dX67_call_40 (zkI (by decide) (by decide)) ?_
    refine r_pick E [0] rfl ?_
    exact w_fX67_call_J41 E hN hT 3
  · refine r_iload E dX67_call_35 1 rfl ?_
    refine r_goto E 41 (by decide) dX67_call_37 ?_
    refine r_pick E [0] rfl ?_
    exact w_fX67_call_J41 E hN hT x4
theorem w_fX67_call_J223 {K : zK} (E : zE K cX67_call "RingHouseModel" none 2) (hN : zNl K = 8) (hT : zTr K = none) (x1 : Int) (x2 : Int) (x3 : Int) (x4 : Int) (x7 : Int) : zR K 223 [(0, 69, 0), (1, 0, x1), (2, 0, x2), (3, 0, x3), (4, 0, x4), (7, 0, x7)] [] (fX67_call_J223 x1 x2 x3 x4 x7) := by
  refine r_iload E dX67_call_223 4 rfl ?_
  refine r_if_le E 247 (by decide) dX67_call_225 (fun _ => ?_) (fun _ => ?_)
  · refine r_aload_n E dX67_call_247 rfl 0 rfl ?_
    refine r_gec (y := 0) E zc_69 dX67_call_248 q3243 zr_69 (zh_6828 (by decide)) (by decide) ?_
    refine r_bipush E dX67_call_251 (by decide) (zkI (by decide) (by decide)) ?_
    refine r_iload_n E dX67_call_253 rfl 1 rfl ?_
    refine r_imul E dX67_call_254 ?_
    refine r_bipush E dX67_call_255 (by decide) (zkI (by decide) (by decide)) ?_
    refine r_iadd E dX67_call_257 ?_
    refine r_iload_n E dX67_call_258 rfl 2 rfl ?_
    refine r_iastore E zc_6828 za_6828 zt_6828 zo_6828 zx_6828 rfl rfl dX67_call_259 (by decide) ?_
    refine r_aload_n E dX67_call_260 rfl 0 rfl ?_
    refine r_gec (y := 0) E zc_69 dX67_call_261 q3244 zr_69 (zh_6829 (by decide)) (by decide) ?_
    refine r_bipush E dX67_call_264 (by decide) (zkI (by decide) (by decide)) ?_
    refine r_iload_n E dX67_call_266 rfl 1 rfl ?_
    refine r_imul E dX67_call_267 ?_
    refine r_bipush E dX67_call_268 (by decide) (zkI (by decide) (by decide)) ?_
    refine r_iadd E dX67_call_270 ?_
    refine r_iload_n E dX67_call_271 rfl 3 rfl ?_
    refine r_iconst E dX67_call_272 (zkI (by decide) (by decide)) ?_
    refine r_iadd E dX67_call_273 ?_
    refine r_ldc (v := 262144) E dX67_call_274 q3170 (by decide) (zkI (by decide) (by decide)) ?_
    refine r_irem E (by decide) dX67_call_276 ?_
    refine r_iastore E zc_6829 za_6829 zt_6829 zo_6829 zx_6829 rfl rfl dX67_call_277 (by decide) ?_
    refine r_aload_n E dX67_call_278 rfl 0 rfl ?_
    refine r_gec (y := 0) E zc_69 dX67_call_279 q3245 zr_69 (zh_6830 (by decide)) (by decide) ?_
    refine r_bipush E dX67_call_282 (by decide) (zkI (by decide) (by decide)) ?_
    refine r_iload_n E dX67_call_284 rfl 1 rfl ?_
    refine r_imul E dX67_call_285 ?_
    refine r_bipush E dX67_call_286 (by decide) (zkI (by decide) (by decide)) ?_
    refine r_iadd E dX67_call_288 ?_
    refine r_aload_n E dX67_call_289 rfl 0 rfl ?_
    refine r_gec (y := 0) E zc_69 dX67_call_290 q3248 zr_69 (zh_6833 (by decide)) (by decide) ?_
    refine r_iload_n E dX67_call_293 rfl 1 rfl ?_
    refine r_iaload E zc_6833 za_6833 zt_6833 zx_6833 rfl rfl dX67_call_294 (by decide) (fun v20 => ?_)
    refine r_iastore E zc_6830 za_6830 zt_6830 zo_6830 zx_6830 rfl rfl dX67_call_295 (by decide) ?_
    refine r_aload_n E dX67_call_296 rfl 0 rfl ?_
    refine r_gec (y := 0) E zc_69 dX67_call_297 q3243 zr_69 (zh_6828 (by decide)) (by decide) ?_
    refine r_bipush E dX67_call_300 (by decide) (zkI (by decide) (by decide)) ?_
    refine r_iload_n E dX67_call_302 rfl 1 rfl ?_
    refine r_imul E dX67_call_303 ?_
    refine r_bipush E dX67_call_304 (by decide) (zkI (by decide) (by decide)) ?_
    refine r_iadd E dX67_call_306 ?_
    refine r_iload E dX67_call_307 5 rfl ?_
    refine r_iastore E zc_6828 za_6828 zt_6828 zo_6828 zx_6828 rfl rfl dX67_call_309 (by decide) ?_
    refine r_aload_n E dX67_call_310 rfl 0 rfl ?_
    refine r_gec (y := 0) E zc_69 dX67_call_311 q3244 zr_69 (zh_6829 (by decide)) (by decide) ?_
    refine r_bipush E dX67_call_314 (by decide) (zkI (by decide) (by decide)) ?_
    refine r_iload_n E dX67_call_316 rfl 1 rfl ?_
    refine r_imul E dX67_call_317 ?_
    refine r_bipush E dX67_call_318 (by decide) (zkI (by decide) (by decide)) ?_
    refine r_iadd E dX67_call_320 ?_
    refine r_iconst E dX67_call_321 (zkI (by decide) (by decide)) ?_
    refine r_iastore E zc_6829 za_6829 zt_6829 zo_6829 zx_6829 rfl rfl dX67_call_322 (by decide) ?_
    refine r_aload_n E dX67_call_323 rfl 0 rfl ?_
    refine r_gec (y := 0) E zc_69 dX67_call_324 q3245 zr_69 (zh_6830 (by decide)) (by decide) ?_
    refine r_bipush E dX67_call_327 (by decide) (zkI (by decide) (by decide)) ?_
    refine r_iload_n E dX67_call_329 rfl 1 rfl ?_
    refine r_imul E dX67_call_330 ?_
    refine r_bipush E dX67_call_331 (by decide) (zkI (by decide) (by decide)) ?_
    refine r_iadd E dX67_call_333 ?_
    refine r_iload E dX67_call_334 5 rfl ?_
    refine r_iastore E zc_6830 za_6830 zt_6830 zo_6830 zx_6830 rfl rfl dX67_call_336 (by decide) ?_
    refine r_aload_n E dX67_call_337 rfl 0 rfl ?_
    refine r_iload_n E dX67_call_338 rfl 1 rfl ?_
    refine r_iload E dX67_call_339 5 rfl ?_
    refine r_callV E [(0, x1), (0, x7)] [] rfl zc_69 zr_69 (fun o _ => ⟨_, zw_X67.1 o, rfl⟩) (lw_V q3917 q3919 qs138 q294 q3920) dX67_call_341 zy_X67_turnTo rfl (by omega) (by decide) (Nat.le_of_ble_eq_true rfl) (by decide) (fun l G => k_fX67_turnTo l G x1 x7) (fun _ => ?_)
    refine r_aload_n E dX67_call_344 rfl 0 rfl ?_
    refine r_iload_n E dX67_call_345 rfl 1 rfl ?_
    refine r_callV E [(0, x1)] [] rfl zc_69 zr_69 (fun o _ => ⟨_, zw_X67.1 o, rfl⟩) (lw_V q3921 q3923 qs139 q294 q3924) dX67_call_346 zy_X67_go rfl (by omega) (by decide) (Nat.le_of_ble_eq_true rfl) (by decide) (fun l G => k_fX67_go l G x1) (fun _ => ?_)
    exact r_return E rfl hT dX67_call_349
  · refine r_aload_n E dX67_call_228 rfl 0 rfl ?_
    refine r_iload E dX67_call_229 4 rfl ?_
    refine r_aload_n E dX67_call_231 rfl 0 rfl ?_
    refine r_get E zc_69 zt_6878 dX67_call_232 q3293 zr_69 (zg_6878 _) (by decide) (fun v23 => ?_)
    refine r_aload_n E dX67_call_235 rfl 0 rfl ?_
    refine r_get E zc_69 zt_6879 dX67_call_236 q3294 zr_69 (zg_6879 _) (by decide) (fun v24 => ?_)
    refine r_aload_n E dX67_call_239 rfl 0 rfl ?_
    refine r_get E zc_69 zt_6880 dX67_call_240 q3295 zr_69 (zg_6880 _) (by decide) (fun v25 => ?_)
    refine r_callV E [(0, x4), (0, v23), (0, v24), (0, v25)] [] rfl zc_69 zr_69 (fun o _ => ⟨_, zw_X67.1 o, rfl⟩) (lw_V q3851 q3853 qs123 q294 q3854) dX67_call_243 zy_X67_fail rfl (by omega) (by decide) (Nat.le_of_ble_eq_true rfl) (by decide) (fun l G => k_fX67_fail l G x4 v23 v24 v25) (fun _ => ?_)
    exact r_return E rfl hT dX67_call_246
theorem w_fX67_call_J221 {K : zK} (E : zE K cX67_call "RingHouseModel" none 2) (hN : zNl K = 8) (hT : zTr K = none) (x1 : Int) (x2 : Int) (x3 : Int) (x4 : Int) (s0 : Int) : zR K 221 [(0, 69, 0), (1, 0, x1), (2, 0, x2), (3, 0, x3), (4, 0, x4)] [(0, s0)] (fX67_call_J221 x1 x2 x3 x4 s0) := by
  refine r_istore (ls' := [(7, 0, s0), (0, 69, 0), (1, 0, x1), (2, 0, x2), (3, 0, x3), (4, 0, x4)]) E dX67_call_221 (by rw [hN]; decide) rfl ?_
  refine r_pick E [1, 2, 3, 4, 5, 0] rfl ?_
  exact w_fX67_call_J223 E hN hT x1 x2 x3 x4 s0
theorem w_fX67_call_J187 {K : zK} (E : zE K cX67_call "RingHouseModel" none 2) (hN : zNl K = 8) (hT : zTr K = none) (x1 : Int) (x2 : Int) (x3 : Int) (x5 : Int) (x7 : Int) (s0 : Int) : zR K 187 [(0, 69, 0), (1, 0, x1), (2, 0, x2), (3, 0, x3), (5, 0, x5), (7, 0, x7)] [(0, s0)] (fX67_call_J187 x1 x2 x3 x5 x7 s0) := by
  refine r_istore (ls' := [(4, 0, s0), (0, 69, 0), (1, 0, x1), (2, 0, x2), (3, 0, x3), (5, 0, x5), (7, 0, x7)]) E dX67_call_187 (by rw [hN]; decide) rfl ?_
  refine r_iload E dX67_call_189 6 rfl ?_
  refine r_aload_n E dX67_call_191 rfl 1 rfl ?_
  refine r_gec (y := 0) E zc_69 dX67_call_192 q3219 zr_69 (zh_6804 (by decide)) (by decide) ?_
  refine r_iconst E dX67_call_195 (zkI (by decide) (by decide)) ?_
  refine r_iload E dX67_call_196 5 rfl ?_
  refine r_imul E dX67_call_198 ?_
  refine r_iconst E dX67_call_199 (zkI (by decide) (by decide)) ?_
  refine r_iadd E dX67_call_200 ?_
  refine r_iaload E zc_6804 za_6804 zt_6804 zx_6804 rfl rfl dX67_call_201 (by decide) (fun v19 => ?_)
  refine r_icmp_le E 219 (by decide) dX67_call_202 (fun _ => ?_) (fun _ => ?_)
  · refine r_iload E dX67_call_219 6 rfl ?_
    refine r_pick E [1, 2, 3, 4, 0] rfl ?_
    exact w_fX67_call_J221 E hN hT x1 x2 x3 s0 x7
  · refine r_aload_n E dX67_call_205 rfl 1 rfl ?_
    refine r_gec (y := 0) E zc_69 dX67_call_206 q3219 zr_69 (zh_6804 (by decide)) (by decide) ?_
    refine r_iconst E dX67_call_209 (zkI (by decide) (by decide)) ?_
    refine r_iload E dX67_call_210 5 rfl ?_
    refine r_imul E dX67_call_212 ?_
    refine r_iconst E dX67_call_213 (zkI (by decide) (by decide)) ?_
    refine r_iadd E dX67_call_214 ?_
    refine r_iaload E zc_6804 za_6804 zt_6804 zx_6804 rfl rfl dX67_call_215 (by decide) (fun v27 => ?_)
    refine r_goto E 221 (by decide) dX67_call_216 ?_
    refine r_pick E [1, 2, 3, 4, 0] rfl ?_
    exact w_fX67_call_J221 E hN hT x1 x2 x3 s0 v27
theorem w_fX67_call_J115 {K : zK} (E : zE K cX67_call "RingHouseModel" none 2) (hN : zNl K = 8) (hT : zTr K = none) (x1 : Int) (x2 : Int) (x3 : Int) (x5 : Int) (x6 : Int) (x7 : Int) : zR K 115 [(0, 69, 0), (1, 0, x1), (2, 0, x2), (3, 0, x3), (5, 0, x5), (6, 0, x6), (7, 0, x7)] [] (fX67_call_J115 x1 x2 x3 x5 x6 x7) := by
  refine r_iload E dX67_call_115 6 rfl ?_
  refine r_iload E dX67_call_117 5 rfl ?_
  refine r_icmp_ge E 127 (by decide) dX67_call_119 (fun _ => ?_) (fun _ => ?_)
  · refine r_iload E dX67_call_127 6 rfl ?_
    refine r_aload_n E dX67_call_129 rfl 0 rfl ?_
    refine r_gec (y := 0) E zc_69 dX67_call_130 q3219 zr_69 (zh_6804 (by decide)) (by decide) ?_
    refine r_iconst E dX67_call_133 (zkI (by decide) (by decide)) ?_
    refine r_iload E dX67_call_134 4 rfl ?_
    refine r_imul E dX67_call_136 ?_
    refine r_iconst E dX67_call_137 (zkI (by decide) (by decide)) ?_
    refine r_iadd E dX67_call_138 ?_
    refine r_iaload E zc_6804 za_6804 zt_6804 zx_6804 rfl rfl dX67_call_139 (by decide) (fun v15 => ?_)
    refine r_icmp_gt E 147 (by decide) dX67_call_140 (fun _ => ?_) (fun _ => ?_)
    · refine r_iload E dX67_call_147 6 rfl ?_
      refine r_aload_n E dX67_call_149 rfl 0 rfl ?_
      refine r_gec (y := 0) E zc_69 dX67_call_150 q3219 zr_69 (zh_6804 (by decide)) (by decide) ?_
      refine r_iconst E dX67_call_153 (zkI (by decide) (by decide)) ?_
      refine r_iload E dX67_call_154 4 rfl ?_
      refine r_imul E dX67_call_156 ?_
      refine r_iconst E dX67_call_157 (zkI (by decide) (by decide)) ?_
      refine r_iadd E dX67_call_158 ?_
      refine r_iaload E zc_6804 za_6804 zt_6804 zx_6804 rfl rfl dX67_call_159 (by decide) (fun v16 => ?_)
      refine r_icmp_le E 167 (by decide) dX67_call_160 (fun _ => ?_) (fun _ => ?_)
      · refine r_aload_n E dX67_call_167 rfl 0 rfl ?_
        refine r_get E zc_69 zt_6879 dX67_call_168 q3294 zr_69 (zg_6879 _) (by decide) (fun v17 => ?_)
        refine r_aload_n E dX67_call_171 rfl 0 rfl ?_
        refine r_gec (y := 0) E zc_69 dX67_call_172 q3220 zr_69 (zh_6805 (by decide)) (by decide) ?_
        refine r_iload E dX67_call_175 4 rfl ?_
        refine r_iaload E zc_6805 za_6805 zt_6805 zx_6805 rfl rfl dX67_call_177 (by decide) (fun v18 => ?_)
        refine r_icmp_lt E 186 (by decide) dX67_call_178 (fun _ => ?_) (fun _ => ?_)
        · refine r_iconst E dX67_call_186 (zkI (by decide) (by decide)) ?_
          refine r_pick E [0, 1, 2, 3, 4, 6] rfl ?_
          exact w_fX67_call_J187 E hN hT x1 x2 x3 x5 x7 0
        · refine r_bipush E dX67_call_181 (by decide) (zkI (by decide) (by decide)) ?_
          refine r_goto E 187 (by decide) dX67_call_183 ?_
          refine r_pick E [0, 1, 2, 3, 4, 6] rfl ?_
          exact w_fX67_call_J187 E hN hT x1 x2 x3 x5 x7 6
      · refine r_iconst E dX67_call_163 (zkI (by decide) (by decide)) ?_
        refine r_goto E 187 (by decide) dX67_call_164 ?_
        refine r_pick E [0, 1, 2, 3, 4, 6] rfl ?_
        exact w_fX67_call_J187 E hN hT x1 x2 x3 x5 x7 5
    · refine r_iconst E dX67_call_143 (zkI (by decide) (by decide)) ?_
      refine r_goto E 187 (by decide) dX67_call_144 ?_
      refine r_pick E [0, 1, 2, 3, 4, 6] rfl ?_
      exact w_fX67_call_J187 E hN hT x1 x2 x3 x5 x7 0
  · refine r_bipush E dX67_call_122 (by decide) (zkI (by decide) (by decide)) ?_
    refine r_goto E 187 (by decide) dX67_call_124 ?_
    refine r_pick E [0, 1, 2, 3, 4, 6] rfl ?_
    exact w_fX67_call_J187 E hN hT x1 x2 x3 x5 x7 7
theorem w_fX67_call {K : zK} (E : zE K cX67_call "RingHouseModel" none 2) (hN : zNl K = 8) (hT : zTr K = none) (x1 : Int) (x2 : Int) (x3 : Int) : zR K 0 [(0, 69, 0), (1, 0, x1), (2, 0, x2), (3, 0, x3)] [] (fX67_call x1 x2 x3) := by
  refine r_aload_n E dX67_call_0 rfl 0 rfl ?_
  refine r_iload_n E dX67_call_1 rfl 1 rfl ?_
  refine r_aload_n E dX67_call_2 rfl 0 rfl ?_
  refine r_get E zc_69 zt_6878 dX67_call_3 q3293 zr_69 (zg_6878 _) (by decide) (fun v1 => ?_)
  refine r_aload_n E dX67_call_6 rfl 0 rfl ?_
  refine r_get E zc_69 zt_6879 dX67_call_7 q3294 zr_69 (zg_6879 _) (by decide) (fun v2 => ?_)
  refine r_callV E [(0, x1), (0, v1), (0, v2)] [] rfl zc_69 zr_69 (fun o _ => ⟨_, zw_X67.1 o, rfl⟩) (lw_V q3843 q3845 qs121 q294 q3846) dX67_call_10 zy_X67_missing rfl (by omega) (by decide) (Nat.le_of_ble_eq_true rfl) (by decide) (fun l G => k_fX67_missing l G x1 v1 v2) (fun v3 => ?_)
  refine r_istore (ls' := [(4, 0, v3), (0, 69, 0), (1, 0, x1), (2, 0, x2), (3, 0, x3)]) E dX67_call_13 (by rw [hN]; decide) rfl ?_
  refine r_iload E dX67_call_15 0 rfl ?_
  refine r_if_gt E 29 (by decide) dX67_call_17 (fun _ => ?_) (fun _ => ?_)
  · refine r_pick E [1, 0] rfl ?_
    exact w_fX67_call_J29 E hN hT v3
  · refine r_aload_n E dX67_call_20 rfl 1 rfl ?_
    refine r_get E zc_69 zt_6878 dX67_call_21 q3293 zr_69 (zg_6878 _) (by decide) (fun v8 => ?_)
    refine r_bipush E dX67_call_24 (by decide) (zkI (by decide) (by decide)) ?_
    refine r_icmp_ge E 57 (by decide) dX67_call_26 (fun _ => ?_) (fun _ => ?_)
    · refine r_aload_n E dX67_call_57 rfl 1 rfl ?_
      refine r_gec (y := 0) E zc_69 dX67_call_58 q3253 zr_69 (zh_6838 (by decide)) (by decide) ?_
      refine r_bipush E dX67_call_61 (by decide) (zkI (by decide) (by decide)) ?_
      refine r_iload_n E dX67_call_63 rfl 2 rfl ?_
      refine r_imul E dX67_call_64 ?_
      refine r_aload_n E dX67_call_65 rfl 1 rfl ?_
      refine r_get E zc_69 zt_6878 dX67_call_66 q3293 zr_69 (zg_6878 _) (by decide) (fun v9 => ?_)
      refine r_iadd E dX67_call_69 ?_
      refine r_iaload E zc_6838 za_6838 zt_6838 zx_6838 rfl rfl dX67_call_70 (by decide) (fun v10 => ?_)
      refine r_istore (ls' := [(5, 0, v10), (4, 0, v3), (0, 69, 0), (1, 0, x1), (2, 0, x2), (3, 0, x3)]) E dX67_call_71 (by rw [hN]; decide) rfl ?_
      refine r_aload_n E dX67_call_73 rfl 2 rfl ?_
      refine r_iload_n E dX67_call_74 rfl 3 rfl ?_
      refine r_iload E dX67_call_75 0 rfl ?_
      refine r_aload_n E dX67_call_77 rfl 2 rfl ?_
      refine r_get E zc_69 zt_6880 dX67_call_78 q3295 zr_69 (zg_6880 _) (by decide) (fun v11 => ?_)
      refine r_iconst E dX67_call_81 (zkI (by decide) (by decide)) ?_
      refine r_callV E [(0, x1), (0, v10), (0, v11), (0, 2)] [] rfl zc_69 zr_69 (fun o _ => ⟨_, zw_X67.1 o, rfl⟩) (lw_V q3847 q3849 qs122 q294 q3850) dX67_call_82 zy_X67_barred rfl (by omega) (by decide) (Nat.le_of_ble_eq_true rfl) (by decide) (fun l G => k_fX67_barred l G x1 v10 v11 2) (fun v12 => ?_)
      refine r_istore (ls' := [(4, 0, v12), (5, 0, v10), (0, 69, 0), (1, 0, x1), (2, 0, x2), (3, 0, x3)]) E dX67_call_85 (by rw [hN]; decide) rfl ?_
      refine r_aload_n E dX67_call_87 rfl 2 rfl ?_
      refine r_gec (y := 0) E zc_69 dX67_call_88 q3219 zr_69 (zh_6804 (by decide)) (by decide) ?_
      refine r_iconst E dX67_call_91 (zkI (by decide) (by decide)) ?_
      refine r_iload E dX67_call_92 1 rfl ?_
      refine r_imul E dX67_call_94 ?_
      refine r_iaload E zc_6804 za_6804 zt_6804 zx_6804 rfl rfl dX67_call_95 (by decide) (fun v13 => ?_)
      refine r_istore (ls' := [(6, 0, v13), (4, 0, v12), (5, 0, v10), (0, 69, 0), (1, 0, x1), (2, 0, x2), (3, 0, x3)]) E dX67_call_96 (by rw [hN]; decide) rfl ?_
      refine r_aload_n E dX67_call_98 rfl 3 rfl ?_
      refine r_get E zc_69 zt_6880 dX67_call_99 q3295 zr_69 (zg_6880 _) (by decide) (fun v14 => ?_)
      refine r_istore (ls' := [(7, 0, v14), (6, 0, v13), (4, 0, v12), (5, 0, v10), (0, 69, 0), (1, 0, x1), (2, 0, x2), (3, 0, x3)]) E dX67_call_102 (by rw [hN]; decide) rfl ?_
      refine r_iload E dX67_call_104 2 rfl ?_
      refine r_iconst E dX67_call_106 (zkI (by decide) (by decide)) ?_
      refine r_icmp_eq E 115 (by decide) dX67_call_107 (fun _ => ?_) (fun _ => ?_)
      · refine r_pick E [4, 5, 6, 7, 3, 1, 0] rfl ?_
        exact w_fX67_call_J115 E hN hT x1 x2 x3 v10 v13 v14
      · refine r_iload E dX67_call_110 2 rfl ?_
        refine r_if_ne E 223 (by decide) dX67_call_112 (fun _ => ?_) (fun _ => ?_)
        · refine r_pick E [4, 5, 6, 7, 2, 0] rfl ?_
          exact w_fX67_call_J223 E hN hT x1 x2 x3 v12 v14
        · refine r_pick E [4, 5, 6, 7, 3, 1, 0] rfl ?_
          exact w_fX67_call_J115 E hN hT x1 x2 x3 v10 v13 v14
    · refine r_pick E [1, 0] rfl ?_
      exact w_fX67_call_J29 E hN hT v3
theorem k_fX67_call (l : Launch) (G : zG) (x1 : Int) (x2 : Int) (x3 : Int) : zCt l G yX67_call cX67_call 8 none 2 [(69, 0), (0, x1), (0, x2), (0, x3)] none (fX67_call x1 x2 x3) := zCt.of (by decide) (Nat.le_of_ble_eq_true rfl) (fun K E _ _ hN hT => w_fX67_call E hN hT x1 x2 x3)
theorem dX67_isObject_0 : decode cX67_isObject 0 = .ok (.aload_n 0, 1) := by decide +kernel
theorem dX67_isObject_1 : decode cX67_isObject 1 = .ok (.getfield 29, 3) := by decide +kernel
theorem dX67_isObject_4 : decode cX67_isObject 4 = .ok (.iload_n 1, 1) := by decide +kernel
theorem dX67_isObject_5 : decode cX67_isObject 5 = .ok (.iaload, 1) := by decide +kernel
theorem dX67_isObject_6 : decode cX67_isObject 6 = .ok (.iconst 1, 1) := by decide +kernel
theorem dX67_isObject_7 : decode cX67_isObject 7 = .ok (.if_icmp .le 27, 3) := by decide +kernel
theorem dX67_isObject_10 : decode cX67_isObject 10 = .ok (.aload_n 0, 1) := by decide +kernel
theorem dX67_isObject_11 : decode cX67_isObject 11 = .ok (.getfield 57, 3) := by decide +kernel
theorem dX67_isObject_14 : decode cX67_isObject 14 = .ok (.sipush 1024, 3) := by decide +kernel
theorem dX67_isObject_17 : decode cX67_isObject 17 = .ok (.iload_n 1, 1) := by decide +kernel
theorem dX67_isObject_18 : decode cX67_isObject 18 = .ok (.imul, 1) := by decide +kernel
theorem dX67_isObject_19 : decode cX67_isObject 19 = .ok (.laload, 1) := by decide +kernel
theorem dX67_isObject_20 : decode cX67_isObject 20 = .ok (.bipush 27, 2) := by decide +kernel
theorem dX67_isObject_22 : decode cX67_isObject 22 = .ok (.lshr, 1) := by decide +kernel
theorem dX67_isObject_23 : decode cX67_isObject 23 = .ok (.ldc2_w 658, 3) := by decide +kernel
theorem dX67_isObject_26 : decode cX67_isObject 26 = .ok (.lcmp, 1) := by decide +kernel
theorem dX67_isObject_27 : decode cX67_isObject 27 = .ok (.ifCond .ne 7, 3) := by decide +kernel
theorem dX67_isObject_30 : decode cX67_isObject 30 = .ok (.iconst 1, 1) := by decide +kernel
theorem dX67_isObject_31 : decode cX67_isObject 31 = .ok (.goto 4, 3) := by decide +kernel
theorem dX67_isObject_34 : decode cX67_isObject 34 = .ok (.iconst 0, 1) := by decide +kernel
theorem dX67_isObject_35 : decode cX67_isObject 35 = .ok (.ireturn, 1) := by decide +kernel
theorem zy_X67_isObject : yX67_isObject.cls ≠ "java/lang/invoke/MethodHandle" ∧ yX67_isObject.cls ≠ "java/lang/invoke/VarHandle" ∧ (parseMethodDescriptor yX67_isObject.desc).map (fun d => d.parameters.length) = some 1 := by decide +kernel
theorem w_fX67_isObject {K : zK} (E : zE K cX67_isObject "RingHouseModel" (some .boolean) 0) (hN : zNl K = 2) (hT : zTr K = (some 0)) (x1 : Int) : zR K 0 [(0, 69, 0), (1, 0, x1)] [] (fX67_isObject x1) := by
  refine r_aload_n E dX67_isObject_0 rfl 0 rfl ?_
  refine r_gec (y := 0) E zc_69 dX67_isObject_1 q3221 zr_69 (zh_6806 (by decide)) (by decide) ?_
  refine r_iload_n E dX67_isObject_4 rfl 1 rfl ?_
  refine r_iaload E zc_6806 za_6806 zt_6806 zx_6806 rfl rfl dX67_isObject_5 (by decide) (fun v1 => ?_)
  refine r_iconst E dX67_isObject_6 (zkI (by decide) (by decide)) ?_
  refine r_icmp_le E 34 (by decide) dX67_isObject_7 (fun _ => ?_) (fun _ => ?_)
  · refine r_iconst E dX67_isObject_34 (zkI (by decide) (by decide)) ?_
    exact r_zreturn E rfl hT (by decide) dX67_isObject_35
  · refine r_aload_n E dX67_isObject_10 rfl 0 rfl ?_
    refine r_gec (y := 0) E zc_69 dX67_isObject_11 q3231 zr_69 (zh_6816 (by decide)) (by decide) ?_
    refine r_sipush E dX67_isObject_14 (by decide) (zkI (by decide) (by decide)) ?_
    refine r_iload_n E dX67_isObject_17 rfl 1 rfl ?_
    refine r_imul E dX67_isObject_18 ?_
    refine r_laload E zc_6816 za_6816 zt_6816 zx_6816 rfl rfl dX67_isObject_19 (by decide) (fun v2 => ?_)
    refine r_bipush E dX67_isObject_20 (by decide) (zkI (by decide) (by decide)) ?_
    refine r_lshr (P := 134217728) E (by decide) dX67_isObject_22 ?_
    refine r_ldc2 (v := 365) E dX67_isObject_23 q3882 (by decide) (zkJ (by decide) (by decide)) ?_
    refine r_lcmp_ne E 34 (by decide) dX67_isObject_26 dX67_isObject_27 (fun _ => ?_) (fun _ => ?_)
    · refine r_iconst E dX67_isObject_34 (zkI (by decide) (by decide)) ?_
      exact r_zreturn E rfl hT (by decide) dX67_isObject_35
    · refine r_iconst E dX67_isObject_30 (zkI (by decide) (by decide)) ?_
      refine r_goto E 35 (by decide) dX67_isObject_31 ?_
      exact r_zreturn E rfl hT (by decide) dX67_isObject_35
theorem k_fX67_isObject (l : Launch) (G : zG) (x1 : Int) : zCt l G yX67_isObject cX67_isObject 2 (some .boolean) 0 [(69, 0), (0, x1)] (some 0) (fX67_isObject x1) := zCt.of (by decide) (Nat.le_of_ble_eq_true rfl) (fun K E _ _ hN hT => w_fX67_isObject E hN hT x1)
theorem dX67_searched_0 : decode cX67_searched 0 = .ok (.iconst 4, 1) := by decide +kernel
theorem dX67_searched_1 : decode cX67_searched 1 = .ok (.iload_n 1, 1) := by decide +kernel
theorem dX67_searched_2 : decode cX67_searched 2 = .ok (.imul, 1) := by decide +kernel
theorem dX67_searched_3 : decode cX67_searched 3 = .ok (.istore 4, 2) := by decide +kernel
theorem dX67_searched_5 : decode cX67_searched 5 = .ok (.iload 4, 2) := by decide +kernel
theorem dX67_searched_7 : decode cX67_searched 7 = .ok (.iconst 4, 1) := by decide +kernel
theorem dX67_searched_8 : decode cX67_searched 8 = .ok (.iload_n 1, 1) := by decide +kernel
theorem dX67_searched_9 : decode cX67_searched 9 = .ok (.imul, 1) := by decide +kernel
theorem dX67_searched_10 : decode cX67_searched 10 = .ok (.iconst 4, 1) := by decide +kernel
theorem dX67_searched_11 : decode cX67_searched 11 = .ok (.iadd, 1) := by decide +kernel
theorem dX67_searched_12 : decode cX67_searched 12 = .ok (.if_icmp .ge 85, 3) := by decide +kernel
theorem dX67_searched_15 : decode cX67_searched 15 = .ok (.aload_n 0, 1) := by decide +kernel
theorem dX67_searched_16 : decode cX67_searched 16 = .ok (.getfield 134, 3) := by decide +kernel
theorem dX67_searched_19 : decode cX67_searched 19 = .ok (.iload 4, 2) := by decide +kernel
theorem dX67_searched_21 : decode cX67_searched 21 = .ok (.iaload, 1) := by decide +kernel
theorem dX67_searched_22 : decode cX67_searched 22 = .ok (.istore 5, 2) := by decide +kernel
theorem dX67_searched_24 : decode cX67_searched 24 = .ok (.iload 5, 2) := by decide +kernel
theorem dX67_searched_26 : decode cX67_searched 26 = .ok (.ifCond .lt 65, 3) := by decide +kernel
theorem dX67_searched_29 : decode cX67_searched 29 = .ok (.aload_n 0, 1) := by decide +kernel
theorem dX67_searched_30 : decode cX67_searched 30 = .ok (.iload_n 1, 1) := by decide +kernel
theorem dX67_searched_31 : decode cX67_searched 31 = .ok (.iload 5, 2) := by decide +kernel
theorem dX67_searched_33 : decode cX67_searched 33 = .ok (.iconst 1, 1) := by decide +kernel
theorem dX67_searched_34 : decode cX67_searched 34 = .ok (.invokevirtual 665, 3) := by decide +kernel
theorem dX67_searched_37 : decode cX67_searched 37 = .ok (.ifCond .ne 54, 3) := by decide +kernel
theorem dX67_searched_40 : decode cX67_searched 40 = .ok (.aload_n 0, 1) := by decide +kernel
theorem dX67_searched_41 : decode cX67_searched 41 = .ok (.iload 5, 2) := by decide +kernel
theorem dX67_searched_43 : decode cX67_searched 43 = .ok (.lload_n 2, 1) := by decide +kernel
theorem dX67_searched_44 : decode cX67_searched 44 = .ok (.invokevirtual 450, 3) := by decide +kernel
theorem dX67_searched_47 : decode cX67_searched 47 = .ok (.istore 6, 2) := by decide +kernel
theorem dX67_searched_49 : decode cX67_searched 49 = .ok (.iload 6, 2) := by decide +kernel
theorem dX67_searched_51 : decode cX67_searched 51 = .ok (.ifCond .lt 40, 3) := by decide +kernel
theorem dX67_searched_54 : decode cX67_searched 54 = .ok (.aload_n 0, 1) := by decide +kernel
theorem dX67_searched_55 : decode cX67_searched 55 = .ok (.getfield 7, 3) := by decide +kernel
theorem dX67_searched_58 : decode cX67_searched 58 = .ok (.iload 6, 2) := by decide +kernel
theorem dX67_searched_60 : decode cX67_searched 60 = .ok (.iaload, 1) := by decide +kernel
theorem dX67_searched_61 : decode cX67_searched 61 = .ok (.iconst 2, 1) := by decide +kernel
theorem dX67_searched_62 : decode cX67_searched 62 = .ok (.if_icmp .ne 29, 3) := by decide +kernel
theorem dX67_searched_65 : decode cX67_searched 65 = .ok (.aload_n 0, 1) := by decide +kernel
theorem dX67_searched_66 : decode cX67_searched 66 = .ok (.iload 6, 2) := by decide +kernel
theorem dX67_searched_68 : decode cX67_searched 68 = .ok (.aload_n 0, 1) := by decide +kernel
theorem dX67_searched_69 : decode cX67_searched 69 = .ok (.getfield 77, 3) := by decide +kernel
theorem dX67_searched_72 : decode cX67_searched 72 = .ok (.iload_n 1, 1) := by decide +kernel
theorem dX67_searched_73 : decode cX67_searched 73 = .ok (.iaload, 1) := by decide +kernel
theorem dX67_searched_74 : decode cX67_searched 74 = .ok (.aload_n 0, 1) := by decide +kernel
theorem dX67_searched_75 : decode cX67_searched 75 = .ok (.getfield 80, 3) := by decide +kernel
theorem dX67_searched_78 : decode cX67_searched 78 = .ok (.iload_n 1, 1) := by decide +kernel
theorem dX67_searched_79 : decode cX67_searched 79 = .ok (.iaload, 1) := by decide +kernel
theorem dX67_searched_80 : decode cX67_searched 80 = .ok (.invokevirtual 498, 3) := by decide +kernel
theorem dX67_searched_83 : decode cX67_searched 83 = .ok (.iconst 3, 1) := by decide +kernel
theorem dX67_searched_84 : decode cX67_searched 84 = .ok (.iand, 1) := by decide +kernel
theorem dX67_searched_85 : decode cX67_searched 85 = .ok (.ifCond .eq 6, 3) := by decide +kernel
theorem dX67_searched_88 : decode cX67_searched 88 = .ok (.iload 6, 2) := by decide +kernel
theorem dX67_searched_90 : decode cX67_searched 90 = .ok (.ireturn, 1) := by decide +kernel
theorem dX67_searched_91 : decode cX67_searched 91 = .ok (.iinc 4 1, 3) := by decide +kernel
theorem dX67_searched_94 : decode cX67_searched 94 = .ok (.goto (-89), 3) := by decide +kernel
theorem dX67_searched_97 : decode cX67_searched 97 = .ok (.iconst (-1), 1) := by decide +kernel
theorem dX67_searched_98 : decode cX67_searched 98 = .ok (.ireturn, 1) := by decide +kernel
theorem zy_X67_searched : yX67_searched.cls ≠ "java/lang/invoke/MethodHandle" ∧ yX67_searched.cls ≠ "java/lang/invoke/VarHandle" ∧ (parseMethodDescriptor yX67_searched.desc).map (fun d => d.parameters.length) = some 2 := by decide +kernel
theorem w_fX67_searched_J91 {K : zK} (E : zE K cX67_searched "RingHouseModel" (some .int) 2) (hN : zNl K = 7) (hT : zTr K = (some 0)) (x1 : Int) (x2 : Int) (x4 : Int) {r5 : Int → zX} (hr5 : ∀ s : Int, zR K 5 [(0, 69, 0), (1, 0, x1), (2, 1, x2), (4, 0, s)] [] (r5 s)) : zR K 91 [(0, 69, 0), (1, 0, x1), (2, 1, x2), (4, 0, x4)] [] (fX67_searched_J91 r5 x1 x2 x4) := by
  refine r_iinc (ls' := fun v3 => [(4, 0, v3), (0, 69, 0), (1, 0, x1), (2, 1, x2)]) E 3 rfl (by rw [hN]; decide) (fun _ => rfl) dX67_searched_91 (fun v3 _ => ?_)
  refine r_goto E 5 (by decide) dX67_searched_94 ?_
  refine r_pick E [1, 2, 3, 0] rfl ?_
  exact hr5 v3
theorem w_fX67_searched_B5 {K : zK} (E : zE K cX67_searched "RingHouseModel" (some .int) 2) (hN : zNl K = 7) (hT : zTr K = (some 0)) (x1 : Int) (x2 : Int) : ∀ r5 : Int → zX, (∀ s : Int, zR K 5 [(0, 69, 0), (1, 0, x1), (2, 1, x2), (4, 0, s)] [] (r5 s)) → ∀ s : Int, zR K 5 [(0, 69, 0), (1, 0, x1), (2, 1, x2), (4, 0, s)] [] (fX67_searched_B5 x1 x2 r5 s) := by
  intro r5 hr5 x4
  refine r_iload E dX67_searched_5 3 rfl ?_
  refine r_iconst E dX67_searched_7 (zkI (by decide) (by decide)) ?_
  refine r_iload_n E dX67_searched_8 rfl 1 rfl ?_
  refine r_imul E dX67_searched_9 ?_
  refine r_iconst E dX67_searched_10 (zkI (by decide) (by decide)) ?_
  refine r_iadd E dX67_searched_11 ?_
  refine r_icmp_ge E 97 (by decide) dX67_searched_12 (fun _ => ?_) (fun _ => ?_)
  · refine r_iconst E dX67_searched_97 (zkI (by decide) (by decide)) ?_
    exact r_ireturn E rfl hT dX67_searched_98
  · refine r_aload_n E dX67_searched_15 rfl 0 rfl ?_
    refine r_gec (y := 0) E zc_69 dX67_searched_16 q3256 zr_69 (zh_6841 (by decide)) (by decide) ?_
    refine r_iload E dX67_searched_19 3 rfl ?_
    refine r_iaload E zc_6841 za_6841 zt_6841 zx_6841 rfl rfl dX67_searched_21 (by decide) (fun v2 => ?_)
    refine r_istore (ls' := [(5, 0, v2), (0, 69, 0), (1, 0, x1), (2, 1, x2), (4, 0, x4)]) E dX67_searched_22 (by rw [hN]; decide) rfl ?_
    refine r_iload E dX67_searched_24 0 rfl ?_
    refine r_if_lt E 91 (by decide) dX67_searched_26 (fun _ => ?_) (fun _ => ?_)
    · refine r_pick E [1, 2, 3, 4] rfl ?_
      exact w_fX67_searched_J91 E hN hT x1 x2 x4 hr5
    · refine r_aload_n E dX67_searched_29 rfl 1 rfl ?_
      refine r_iload_n E dX67_searched_30 rfl 2 rfl ?_
      refine r_iload E dX67_searched_31 0 rfl ?_
      refine r_iconst E dX67_searched_33 (zkI (by decide) (by decide)) ?_
      refine r_callV E [(0, x1), (0, v2), (0, 1)] [] rfl zc_69 zr_69 (fun o _ => ⟨_, zw_X67.1 o, rfl⟩) (lw_V q3892 q3894 qs132 q294 q3895) dX67_searched_34 zy_X67_askDirectory rfl (by omega) (by decide) (Nat.le_of_ble_eq_true rfl) (by decide) (fun l G => k_fX67_askDirectory l G x1 v2 1) (fun v4 => ?_)
      refine r_if_ne E 91 (by decide) dX67_searched_37 (fun _ => ?_) (fun _ => ?_)
      · refine r_pick E [1, 2, 3, 4] rfl ?_
        exact w_fX67_searched_J91 E hN hT x1 x2 x4 hr5
      · refine r_aload_n E dX67_searched_40 rfl 1 rfl ?_
        refine r_iload E dX67_searched_41 0 rfl ?_
        refine r_lload_n E dX67_searched_43 rfl 3 rfl ?_
        refine r_callV E [(0, v2), (1, x2)] [] rfl zc_69 zr_69 (fun o _ => ⟨_, zw_X67.1 o, rfl⟩) (lw_V q3635 q3637 qs94 q294 q3638) dX67_searched_44 zy_X67_entryNamed rfl (by omega) (by decide) (Nat.le_of_ble_eq_true rfl) (by decide) (fun l G => k_fX67_entryNamed l G v2 x2) (fun v5 => ?_)
        refine r_istore (ls' := [(6, 0, v5), (5, 0, v2), (0, 69, 0), (1, 0, x1), (2, 1, x2), (4, 0, x4)]) E dX67_searched_47 (by rw [hN]; decide) rfl ?_
        refine r_iload E dX67_searched_49 0 rfl ?_
        refine r_if_lt E 91 (by decide) dX67_searched_51 (fun _ => ?_) (fun _ => ?_)
        · refine r_pick E [2, 3, 4, 5] rfl ?_
          exact w_fX67_searched_J91 E hN hT x1 x2 x4 hr5
        · refine r_aload_n E dX67_searched_54 rfl 2 rfl ?_
          refine r_gec (y := 0) E zc_69 dX67_searched_55 q3215 zr_69 (zh_6800 (by decide)) (by decide) ?_
          refine r_iload E dX67_searched_58 0 rfl ?_
          refine r_iaload E zc_6800 za_6800 zt_6800 zx_6800 rfl rfl dX67_searched_60 (by decide) (fun v6 => ?_)
          refine r_iconst E dX67_searched_61 (zkI (by decide) (by decide)) ?_
          refine r_icmp_ne E 91 (by decide) dX67_searched_62 (fun _ => ?_) (fun _ => ?_)
          · refine r_pick E [2, 3, 4, 5] rfl ?_
            exact w_fX67_searched_J91 E hN hT x1 x2 x4 hr5
          · refine r_aload_n E dX67_searched_65 rfl 2 rfl ?_
            refine r_iload E dX67_searched_66 0 rfl ?_
            refine r_aload_n E dX67_searched_68 rfl 2 rfl ?_
            refine r_gec (y := 0) E zc_69 dX67_searched_69 q3237 zr_69 (zh_6822 (by decide)) (by decide) ?_
            refine r_iload_n E dX67_searched_72 rfl 3 rfl ?_
            refine r_iaload E zc_6822 za_6822 zt_6822 zx_6822 rfl rfl dX67_searched_73 (by decide) (fun v7 => ?_)
            refine r_aload_n E dX67_searched_74 rfl 2 rfl ?_
            refine r_gec (y := 0) E zc_69 dX67_searched_75 q3238 zr_69 (zh_6823 (by decide)) (by decide) ?_
            refine r_iload_n E dX67_searched_78 rfl 3 rfl ?_
            refine r_iaload E zc_6823 za_6823 zt_6823 zx_6823 rfl rfl dX67_searched_79 (by decide) (fun v8 => ?_)
            refine r_callV E [(0, v5), (0, v7), (0, v8)] [] rfl zc_69 zr_69 (fun o _ => ⟨_, zw_X67.1 o, rfl⟩) (lw_V q3778 q3780 qs114 q294 q3781) dX67_searched_80 zy_X67_modesFor rfl (by omega) (by decide) (Nat.le_of_ble_eq_true rfl) (by decide) (fun l G => k_fX67_modesFor l G v5 v7 v8) (fun v9 => ?_)
            refine r_iconst E dX67_searched_83 (zkI (by decide) (by decide)) ?_
            refine r_imask (P := 4) E 2 (by decide) (by decide) (by decide) dX67_searched_84 ?_
            refine r_if_eq E 91 (by decide) dX67_searched_85 (fun _ => ?_) (fun _ => ?_)
            · refine r_pick E [2, 3, 4, 5] rfl ?_
              exact w_fX67_searched_J91 E hN hT x1 x2 x4 hr5
            · refine r_iload E dX67_searched_88 0 rfl ?_
              exact r_ireturn E rfl hT dX67_searched_90
theorem w_fX67_searched {K : zK} (E : zE K cX67_searched "RingHouseModel" (some .int) 2) (hN : zNl K = 7) (hT : zTr K = (some 0)) (x1 : Int) (x2 : Int) : zR K 0 [(0, 69, 0), (1, 0, x1), (2, 1, x2)] [] (fX67_searched x1 x2) := by
  refine r_iconst E dX67_searched_0 (zkI (by decide) (by decide)) ?_
  refine r_iload_n E dX67_searched_1 rfl 1 rfl ?_
  refine r_imul E dX67_searched_2 ?_
  refine r_let E (fun v1 ev1 => ?_)
  refine r_istore (ls' := [(4, 0, v1), (0, 69, 0), (1, 0, x1), (2, 1, x2)]) E dX67_searched_3 (by rw [hN]; decide) rfl ?_
  refine r_pick E [1, 2, 3, 0] rfl ?_
  exact r_loop (L := fun s => [(0, 69, 0), (1, 0, x1), (2, 1, x2), (4, 0, s)]) (w_fX67_searched_B5 E hN hT x1 x2) zBIG v1
theorem k_fX67_searched (l : Launch) (G : zG) (x1 : Int) (x2 : Int) : zCt l G yX67_searched cX67_searched 7 (some .int) 2 [(69, 0), (0, x1), (1, x2)] (some 0) (fX67_searched x1 x2) := zCt.of (by decide) (Nat.le_of_ble_eq_true rfl) (fun K E _ _ hN hT => w_fX67_searched E hN hT x1 x2)
theorem dX67_definitionPlace_0 : decode cX67_definitionPlace 0 = .ok (.aload_n 0, 1) := by decide +kernel
theorem dX67_definitionPlace_1 : decode cX67_definitionPlace 1 = .ok (.getfield 57, 3) := by decide +kernel
theorem dX67_definitionPlace_4 : decode cX67_definitionPlace 4 = .ok (.sipush 1024, 3) := by decide +kernel
theorem dX67_definitionPlace_7 : decode cX67_definitionPlace 7 = .ok (.iload_n 1, 1) := by decide +kernel
theorem dX67_definitionPlace_8 : decode cX67_definitionPlace 8 = .ok (.imul, 1) := by decide +kernel
theorem dX67_definitionPlace_9 : decode cX67_definitionPlace 9 = .ok (.iconst 1, 1) := by decide +kernel
theorem dX67_definitionPlace_10 : decode cX67_definitionPlace 10 = .ok (.iadd, 1) := by decide +kernel
theorem dX67_definitionPlace_11 : decode cX67_definitionPlace 11 = .ok (.laload, 1) := by decide +kernel
theorem dX67_definitionPlace_12 : decode cX67_definitionPlace 12 = .ok (.lstore_n 3, 1) := by decide +kernel
theorem dX67_definitionPlace_13 : decode cX67_definitionPlace 13 = .ok (.lload_n 3, 1) := by decide +kernel
theorem dX67_definitionPlace_14 : decode cX67_definitionPlace 14 = .ok (.ldc2_w 582, 3) := by decide +kernel
theorem dX67_definitionPlace_17 : decode cX67_definitionPlace 17 = .ok (.land, 1) := by decide +kernel
theorem dX67_definitionPlace_18 : decode cX67_definitionPlace 18 = .ok (.ldc2_w 466, 3) := by decide +kernel
theorem dX67_definitionPlace_21 : decode cX67_definitionPlace 21 = .ok (.iload_n 2, 1) := by decide +kernel
theorem dX67_definitionPlace_22 : decode cX67_definitionPlace 22 = .ok (.i2l, 1) := by decide +kernel
theorem dX67_definitionPlace_23 : decode cX67_definitionPlace 23 = .ok (.lmul, 1) := by decide +kernel
theorem dX67_definitionPlace_24 : decode cX67_definitionPlace 24 = .ok (.ladd, 1) := by decide +kernel
theorem dX67_definitionPlace_25 : decode cX67_definitionPlace 25 = .ok (.lstore 5, 2) := by decide +kernel
theorem dX67_definitionPlace_27 : decode cX67_definitionPlace 27 = .ok (.iload_n 2, 1) := by decide +kernel
theorem dX67_definitionPlace_28 : decode cX67_definitionPlace 28 = .ok (.i2l, 1) := by decide +kernel
theorem dX67_definitionPlace_29 : decode cX67_definitionPlace 29 = .ok (.lload_n 3, 1) := by decide +kernel
theorem dX67_definitionPlace_30 : decode cX67_definitionPlace 30 = .ok (.bipush 18, 2) := by decide +kernel
theorem dX67_definitionPlace_32 : decode cX67_definitionPlace 32 = .ok (.lshr, 1) := by decide +kernel
theorem dX67_definitionPlace_33 : decode cX67_definitionPlace 33 = .ok (.lcmp, 1) := by decide +kernel
theorem dX67_definitionPlace_34 : decode cX67_definitionPlace 34 = .ok (.ifCond .ge 24, 3) := by decide +kernel
theorem dX67_definitionPlace_37 : decode cX67_definitionPlace 37 = .ok (.lload 5, 2) := by decide +kernel
theorem dX67_definitionPlace_39 : decode cX67_definitionPlace 39 = .ok (.lconst 1, 1) := by decide +kernel
theorem dX67_definitionPlace_40 : decode cX67_definitionPlace 40 = .ok (.ladd, 1) := by decide +kernel
theorem dX67_definitionPlace_41 : decode cX67_definitionPlace 41 = .ok (.aload_n 0, 1) := by decide +kernel
theorem dX67_definitionPlace_42 : decode cX67_definitionPlace 42 = .ok (.getfield 29, 3) := by decide +kernel
theorem dX67_definitionPlace_45 : decode cX67_definitionPlace 45 = .ok (.iload_n 1, 1) := by decide +kernel
theorem dX67_definitionPlace_46 : decode cX67_definitionPlace 46 = .ok (.iaload, 1) := by decide +kernel
theorem dX67_definitionPlace_47 : decode cX67_definitionPlace 47 = .ok (.i2l, 1) := by decide +kernel
theorem dX67_definitionPlace_48 : decode cX67_definitionPlace 48 = .ok (.lcmp, 1) := by decide +kernel
theorem dX67_definitionPlace_49 : decode cX67_definitionPlace 49 = .ok (.ifCond .ge 9, 3) := by decide +kernel
theorem dX67_definitionPlace_52 : decode cX67_definitionPlace 52 = .ok (.lload 5, 2) := by decide +kernel
theorem dX67_definitionPlace_54 : decode cX67_definitionPlace 54 = .ok (.l2i, 1) := by decide +kernel
theorem dX67_definitionPlace_55 : decode cX67_definitionPlace 55 = .ok (.goto 4, 3) := by decide +kernel
theorem dX67_definitionPlace_58 : decode cX67_definitionPlace 58 = .ok (.iconst (-1), 1) := by decide +kernel
theorem dX67_definitionPlace_59 : decode cX67_definitionPlace 59 = .ok (.ireturn, 1) := by decide +kernel
theorem zy_X67_definitionPlace : yX67_definitionPlace.cls ≠ "java/lang/invoke/MethodHandle" ∧ yX67_definitionPlace.cls ≠ "java/lang/invoke/VarHandle" ∧ (parseMethodDescriptor yX67_definitionPlace.desc).map (fun d => d.parameters.length) = some 2 := by decide +kernel
theorem w_fX67_definitionPlace {K : zK} (E : zE K cX67_definitionPlace "RingHouseModel" (some .int) 0) (hN : zNl K = 7) (hT : zTr K = (some 0)) (x1 : Int) (x2 : Int) : zR K 0 [(0, 69, 0), (1, 0, x1), (2, 0, x2)] [] (fX67_definitionPlace x1 x2) := by
  refine r_aload_n E dX67_definitionPlace_0 rfl 0 rfl ?_
  refine r_gec (y := 0) E zc_69 dX67_definitionPlace_1 q3231 zr_69 (zh_6816 (by decide)) (by decide) ?_
  refine r_sipush E dX67_definitionPlace_4 (by decide) (zkI (by decide) (by decide)) ?_
  refine r_iload_n E dX67_definitionPlace_7 rfl 1 rfl ?_
  refine r_imul E dX67_definitionPlace_8 ?_
  refine r_iconst E dX67_definitionPlace_9 (zkI (by decide) (by decide)) ?_
  refine r_iadd E dX67_definitionPlace_10 ?_
  refine r_laload E zc_6816 za_6816 zt_6816 zx_6816 rfl rfl dX67_definitionPlace_11 (by decide) (fun v1 => ?_)
  refine r_lstore_n (ls' := [(3, 1, v1), (0, 69, 0), (1, 0, x1), (2, 0, x2)]) E dX67_definitionPlace_12 rfl (by rw [hN]; decide) rfl ?_
  refine r_lload_n E dX67_definitionPlace_13 rfl 0 rfl ?_
  refine r_ldc2 (v := 262143) E dX67_definitionPlace_14 q3807 (by decide) (zkJ (by decide) (by decide)) ?_
  refine r_lmask (P := 262144) E 18 (by decide) (by decide) (by decide) dX67_definitionPlace_17 ?_
  refine r_ldc2 (v := 2) E dX67_definitionPlace_18 q3687 (by decide) (zkJ (by decide) (by decide)) ?_
  refine r_iload_n E dX67_definitionPlace_21 rfl 3 rfl ?_
  refine r_i2l E dX67_definitionPlace_22 ?_
  refine r_lmul E dX67_definitionPlace_23 ?_
  refine r_ladd E dX67_definitionPlace_24 ?_
  refine r_let E (fun v2 ev2 => ?_)
  refine r_lstore (ls' := [(5, 1, v2), (3, 1, v1), (0, 69, 0), (1, 0, x1), (2, 0, x2)]) E dX67_definitionPlace_25 (by rw [hN]; decide) rfl ?_
  refine r_iload_n E dX67_definitionPlace_27 rfl 4 rfl ?_
  refine r_i2l E dX67_definitionPlace_28 ?_
  refine r_lload_n E dX67_definitionPlace_29 rfl 1 rfl ?_
  refine r_bipush E dX67_definitionPlace_30 (by decide) (zkI (by decide) (by decide)) ?_
  refine r_lshr (P := 262144) E (by decide) dX67_definitionPlace_32 ?_
  refine r_lcmp_ge E 58 (by decide) dX67_definitionPlace_33 dX67_definitionPlace_34 (fun _ => ?_) (fun _ => ?_)
  · refine r_iconst E dX67_definitionPlace_58 (zkI (by decide) (by decide)) ?_
    exact r_ireturn E rfl hT dX67_definitionPlace_59
  · refine r_lload E dX67_definitionPlace_37 0 rfl ?_
    refine r_lconst (v := 1) E dX67_definitionPlace_39 (by decide) (zkJ (by decide) (by decide)) ?_
    refine r_ladd E dX67_definitionPlace_40 ?_
    refine r_aload_n E dX67_definitionPlace_41 rfl 2 rfl ?_
    refine r_gec (y := 0) E zc_69 dX67_definitionPlace_42 q3221 zr_69 (zh_6806 (by decide)) (by decide) ?_
    refine r_iload_n E dX67_definitionPlace_45 rfl 3 rfl ?_
    refine r_iaload E zc_6806 za_6806 zt_6806 zx_6806 rfl rfl dX67_definitionPlace_46 (by decide) (fun v3 => ?_)
    refine r_i2l E dX67_definitionPlace_47 ?_
    refine r_lcmp_ge E 58 (by decide) dX67_definitionPlace_48 dX67_definitionPlace_49 (fun _ => ?_) (fun _ => ?_)
    · refine r_iconst E dX67_definitionPlace_58 (zkI (by decide) (by decide)) ?_
      exact r_ireturn E rfl hT dX67_definitionPlace_59
    · refine r_lload E dX67_definitionPlace_52 0 rfl ?_
      refine r_l2i E dX67_definitionPlace_54 ?_
      refine r_goto E 59 (by decide) dX67_definitionPlace_55 ?_
      exact r_ireturn E rfl hT dX67_definitionPlace_59
theorem k_fX67_definitionPlace (l : Launch) (G : zG) (x1 : Int) (x2 : Int) : zCt l G yX67_definitionPlace cX67_definitionPlace 7 (some .int) 0 [(69, 0), (0, x1), (0, x2)] (some 0) (fX67_definitionPlace x1 x2) := zCt.of (by decide) (Nat.le_of_ble_eq_true rfl) (fun K E _ _ hN hT => w_fX67_definitionPlace E hN hT x1 x2)
theorem dX67_defined_0 : decode cX67_defined 0 = .ok (.iconst 0, 1) := by decide +kernel
theorem dX67_defined_1 : decode cX67_defined 1 = .ok (.istore 4, 2) := by decide +kernel
theorem dX67_defined_3 : decode cX67_defined 3 = .ok (.iload 4, 2) := by decide +kernel
theorem dX67_defined_5 : decode cX67_defined 5 = .ok (.sipush 1024, 3) := by decide +kernel
theorem dX67_defined_8 : decode cX67_defined 8 = .ok (.if_icmp .ge 62, 3) := by decide +kernel
theorem dX67_defined_11 : decode cX67_defined 11 = .ok (.aload_n 0, 1) := by decide +kernel
theorem dX67_defined_12 : decode cX67_defined 12 = .ok (.iload_n 1, 1) := by decide +kernel
theorem dX67_defined_13 : decode cX67_defined 13 = .ok (.iload 4, 2) := by decide +kernel
theorem dX67_defined_15 : decode cX67_defined 15 = .ok (.invokevirtual 662, 3) := by decide +kernel
theorem dX67_defined_18 : decode cX67_defined 18 = .ok (.istore 5, 2) := by decide +kernel
theorem dX67_defined_20 : decode cX67_defined 20 = .ok (.iload 5, 2) := by decide +kernel
theorem dX67_defined_22 : decode cX67_defined 22 = .ok (.ifCond .lt 42, 3) := by decide +kernel
theorem dX67_defined_25 : decode cX67_defined 25 = .ok (.aload_n 0, 1) := by decide +kernel
theorem dX67_defined_26 : decode cX67_defined 26 = .ok (.getfield 57, 3) := by decide +kernel
theorem dX67_defined_29 : decode cX67_defined 29 = .ok (.sipush 1024, 3) := by decide +kernel
theorem dX67_defined_32 : decode cX67_defined 32 = .ok (.iload_n 1, 1) := by decide +kernel
theorem dX67_defined_33 : decode cX67_defined 33 = .ok (.imul, 1) := by decide +kernel
theorem dX67_defined_34 : decode cX67_defined 34 = .ok (.iload 5, 2) := by decide +kernel
theorem dX67_defined_36 : decode cX67_defined 36 = .ok (.iadd, 1) := by decide +kernel
theorem dX67_defined_37 : decode cX67_defined 37 = .ok (.laload, 1) := by decide +kernel
theorem dX67_defined_38 : decode cX67_defined 38 = .ok (.lload_n 2, 1) := by decide +kernel
theorem dX67_defined_39 : decode cX67_defined 39 = .ok (.lcmp, 1) := by decide +kernel
theorem dX67_defined_40 : decode cX67_defined 40 = .ok (.ifCond .ne 24, 3) := by decide +kernel
theorem dX67_defined_43 : decode cX67_defined 43 = .ok (.aload_n 0, 1) := by decide +kernel
theorem dX67_defined_44 : decode cX67_defined 44 = .ok (.getfield 57, 3) := by decide +kernel
theorem dX67_defined_47 : decode cX67_defined 47 = .ok (.sipush 1024, 3) := by decide +kernel
theorem dX67_defined_50 : decode cX67_defined 50 = .ok (.iload_n 1, 1) := by decide +kernel
theorem dX67_defined_51 : decode cX67_defined 51 = .ok (.imul, 1) := by decide +kernel
theorem dX67_defined_52 : decode cX67_defined 52 = .ok (.iload 5, 2) := by decide +kernel
theorem dX67_defined_54 : decode cX67_defined 54 = .ok (.iadd, 1) := by decide +kernel
theorem dX67_defined_55 : decode cX67_defined 55 = .ok (.iconst 1, 1) := by decide +kernel
theorem dX67_defined_56 : decode cX67_defined 56 = .ok (.iadd, 1) := by decide +kernel
theorem dX67_defined_57 : decode cX67_defined 57 = .ok (.laload, 1) := by decide +kernel
theorem dX67_defined_58 : decode cX67_defined 58 = .ok (.ldc2_w 582, 3) := by decide +kernel
theorem dX67_defined_61 : decode cX67_defined 61 = .ok (.land, 1) := by decide +kernel
theorem dX67_defined_62 : decode cX67_defined 62 = .ok (.l2i, 1) := by decide +kernel
theorem dX67_defined_63 : decode cX67_defined 63 = .ok (.ireturn, 1) := by decide +kernel
theorem dX67_defined_64 : decode cX67_defined 64 = .ok (.iinc 4 1, 3) := by decide +kernel
theorem dX67_defined_67 : decode cX67_defined 67 = .ok (.goto (-64), 3) := by decide +kernel
theorem dX67_defined_70 : decode cX67_defined 70 = .ok (.iconst (-1), 1) := by decide +kernel
theorem dX67_defined_71 : decode cX67_defined 71 = .ok (.ireturn, 1) := by decide +kernel
theorem zy_X67_defined : yX67_defined.cls ≠ "java/lang/invoke/MethodHandle" ∧ yX67_defined.cls ≠ "java/lang/invoke/VarHandle" ∧ (parseMethodDescriptor yX67_defined.desc).map (fun d => d.parameters.length) = some 2 := by decide +kernel
theorem w_fX67_defined_J64 {K : zK} (E : zE K cX67_defined "RingHouseModel" (some .int) 1) (hN : zNl K = 6) (hT : zTr K = (some 0)) (x1 : Int) (x2 : Int) (x4 : Int) {r3 : Int → zX} (hr3 : ∀ s : Int, zR K 3 [(0, 69, 0), (1, 0, x1), (2, 1, x2), (4, 0, s)] [] (r3 s)) : zR K 64 [(0, 69, 0), (1, 0, x1), (2, 1, x2), (4, 0, x4)] [] (fX67_defined_J64 r3 x1 x2 x4) := by
  refine r_iinc (ls' := fun v2 => [(4, 0, v2), (0, 69, 0), (1, 0, x1), (2, 1, x2)]) E 3 rfl (by rw [hN]; decide) (fun _ => rfl) dX67_defined_64 (fun v2 _ => ?_)
  refine r_goto E 3 (by decide) dX67_defined_67 ?_
  refine r_pick E [1, 2, 3, 0] rfl ?_
  exact hr3 v2
theorem w_fX67_defined_J43 {K : zK} (E : zE K cX67_defined "RingHouseModel" (some .int) 1) (hN : zNl K = 6) (hT : zTr K = (some 0)) (x1 : Int) (x5 : Int) : zR K 43 [(0, 69, 0), (1, 0, x1), (5, 0, x5)] [] (fX67_defined_J43 x1 x5) := by
  refine r_aload_n E dX67_defined_43 rfl 0 rfl ?_
  refine r_gec (y := 0) E zc_69 dX67_defined_44 q3231 zr_69 (zh_6816 (by decide)) (by decide) ?_
  refine r_sipush E dX67_defined_47 (by decide) (zkI (by decide) (by decide)) ?_
  refine r_iload_n E dX67_defined_50 rfl 1 rfl ?_
  refine r_imul E dX67_defined_51 ?_
  refine r_iload E dX67_defined_52 2 rfl ?_
  refine r_iadd E dX67_defined_54 ?_
  refine r_iconst E dX67_defined_55 (zkI (by decide) (by decide)) ?_
  refine r_iadd E dX67_defined_56 ?_
  refine r_laload E zc_6816 za_6816 zt_6816 zx_6816 rfl rfl dX67_defined_57 (by decide) (fun v4 => ?_)
  refine r_ldc2 (v := 262143) E dX67_defined_58 q3807 (by decide) (zkJ (by decide) (by decide)) ?_
  refine r_lmask (P := 262144) E 18 (by decide) (by decide) (by decide) dX67_defined_61 ?_
  refine r_l2i E dX67_defined_62 ?_
  exact r_ireturn E rfl hT dX67_defined_63
theorem w_fX67_defined_B3 {K : zK} (E : zE K cX67_defined "RingHouseModel" (some .int) 1) (hN : zNl K = 6) (hT : zTr K = (some 0)) (x1 : Int) (x2 : Int) : ∀ r3 : Int → zX, (∀ s : Int, zR K 3 [(0, 69, 0), (1, 0, x1), (2, 1, x2), (4, 0, s)] [] (r3 s)) → ∀ s : Int, zR K 3 [(0, 69, 0), (1, 0, x1), (2, 1, x2), (4, 0, s)] [] (fX67_defined_B3 x1 x2 r3 s) := by
  intro r3 hr3 x4
  refine r_iload E dX67_defined_3 3 rfl ?_
  refine r_sipush E dX67_defined_5 (by decide) (zkI (by decide) (by decide)) ?_
  refine r_icmp_ge E 70 (by decide) dX67_defined_8 (fun _ => ?_) (fun _ => ?_)
  · refine r_iconst E dX67_defined_70 (zkI (by decide) (by decide)) ?_
    exact r_ireturn E rfl hT dX67_defined_71
  · refine r_aload_n E dX67_defined_11 rfl 0 rfl ?_
    refine r_iload_n E dX67_defined_12 rfl 1 rfl ?_
    refine r_iload E dX67_defined_13 3 rfl ?_
    refine r_callV E [(0, x1), (0, x4)] [] rfl zc_69 zr_69 (fun o _ => ⟨_, zw_X67.1 o, rfl⟩) (lw_V q3904 q3906 qs135 q294 q3907) dX67_defined_15 zy_X67_definitionPlace rfl (by omega) (by decide) (Nat.le_of_ble_eq_true rfl) (by decide) (fun l G => k_fX67_definitionPlace l G x1 x4) (fun v1 => ?_)
    refine r_istore (ls' := [(5, 0, v1), (0, 69, 0), (1, 0, x1), (2, 1, x2), (4, 0, x4)]) E dX67_defined_18 (by rw [hN]; decide) rfl ?_
    refine r_iload E dX67_defined_20 0 rfl ?_
    refine r_if_lt E 64 (by decide) dX67_defined_22 (fun _ => ?_) (fun _ => ?_)
    · refine r_pick E [1, 2, 3, 4] rfl ?_
      exact w_fX67_defined_J64 E hN hT x1 x2 x4 hr3
    · refine r_aload_n E dX67_defined_25 rfl 1 rfl ?_
      refine r_gec (y := 0) E zc_69 dX67_defined_26 q3231 zr_69 (zh_6816 (by decide)) (by decide) ?_
      refine r_sipush E dX67_defined_29 (by decide) (zkI (by decide) (by decide)) ?_
      refine r_iload_n E dX67_defined_32 rfl 2 rfl ?_
      refine r_imul E dX67_defined_33 ?_
      refine r_iload E dX67_defined_34 0 rfl ?_
      refine r_iadd E dX67_defined_36 ?_
      refine r_laload E zc_6816 za_6816 zt_6816 zx_6816 rfl rfl dX67_defined_37 (by decide) (fun v3 => ?_)
      refine r_lload_n E dX67_defined_38 rfl 3 rfl ?_
      refine r_lcmp_ne E 64 (by decide) dX67_defined_39 dX67_defined_40 (fun _ => ?_) (fun _ => ?_)
      · refine r_pick E [1, 2, 3, 4] rfl ?_
        exact w_fX67_defined_J64 E hN hT x1 x2 x4 hr3
      · refine r_pick E [1, 2, 0] rfl ?_
        exact w_fX67_defined_J43 E hN hT x1 v1
theorem w_fX67_defined {K : zK} (E : zE K cX67_defined "RingHouseModel" (some .int) 1) (hN : zNl K = 6) (hT : zTr K = (some 0)) (x1 : Int) (x2 : Int) : zR K 0 [(0, 69, 0), (1, 0, x1), (2, 1, x2)] [] (fX67_defined x1 x2) := by
  refine r_iconst E dX67_defined_0 (zkI (by decide) (by decide)) ?_
  refine r_istore (ls' := [(4, 0, 0), (0, 69, 0), (1, 0, x1), (2, 1, x2)]) E dX67_defined_1 (by rw [hN]; decide) rfl ?_
  refine r_pick E [1, 2, 3, 0] rfl ?_
  exact r_loop (L := fun s => [(0, 69, 0), (1, 0, x1), (2, 1, x2), (4, 0, s)]) (w_fX67_defined_B3 E hN hT x1 x2) zBIG 0
theorem k_fX67_defined (l : Launch) (G : zG) (x1 : Int) (x2 : Int) : zCt l G yX67_defined cX67_defined 6 (some .int) 1 [(69, 0), (0, x1), (1, x2)] (some 0) (fX67_defined x1 x2) := zCt.of (by decide) (Nat.le_of_ble_eq_true rfl) (fun K E _ _ hN hT => w_fX67_defined E hN hT x1 x2)
theorem dX67_linkPlace_0 : decode cX67_linkPlace 0 = .ok (.aload_n 0, 1) := by decide +kernel
theorem dX67_linkPlace_1 : decode cX67_linkPlace 1 = .ok (.getfield 57, 3) := by decide +kernel
theorem dX67_linkPlace_4 : decode cX67_linkPlace 4 = .ok (.sipush 1024, 3) := by decide +kernel
theorem dX67_linkPlace_7 : decode cX67_linkPlace 7 = .ok (.iload_n 1, 1) := by decide +kernel
theorem dX67_linkPlace_8 : decode cX67_linkPlace 8 = .ok (.imul, 1) := by decide +kernel
theorem dX67_linkPlace_9 : decode cX67_linkPlace 9 = .ok (.laload, 1) := by decide +kernel
theorem dX67_linkPlace_10 : decode cX67_linkPlace 10 = .ok (.lstore_n 3, 1) := by decide +kernel
theorem dX67_linkPlace_11 : decode cX67_linkPlace 11 = .ok (.lload_n 3, 1) := by decide +kernel
theorem dX67_linkPlace_12 : decode cX67_linkPlace 12 = .ok (.ldc2_w 582, 3) := by decide +kernel
theorem dX67_linkPlace_15 : decode cX67_linkPlace 15 = .ok (.land, 1) := by decide +kernel
theorem dX67_linkPlace_16 : decode cX67_linkPlace 16 = .ok (.ldc2_w 466, 3) := by decide +kernel
theorem dX67_linkPlace_19 : decode cX67_linkPlace 19 = .ok (.iload_n 2, 1) := by decide +kernel
theorem dX67_linkPlace_20 : decode cX67_linkPlace 20 = .ok (.i2l, 1) := by decide +kernel
theorem dX67_linkPlace_21 : decode cX67_linkPlace 21 = .ok (.lmul, 1) := by decide +kernel
theorem dX67_linkPlace_22 : decode cX67_linkPlace 22 = .ok (.ladd, 1) := by decide +kernel
theorem dX67_linkPlace_23 : decode cX67_linkPlace 23 = .ok (.lstore 5, 2) := by decide +kernel
theorem dX67_linkPlace_25 : decode cX67_linkPlace 25 = .ok (.iload_n 2, 1) := by decide +kernel
theorem dX67_linkPlace_26 : decode cX67_linkPlace 26 = .ok (.i2l, 1) := by decide +kernel
theorem dX67_linkPlace_27 : decode cX67_linkPlace 27 = .ok (.lload_n 3, 1) := by decide +kernel
theorem dX67_linkPlace_28 : decode cX67_linkPlace 28 = .ok (.bipush 18, 2) := by decide +kernel
theorem dX67_linkPlace_30 : decode cX67_linkPlace 30 = .ok (.lshr, 1) := by decide +kernel
theorem dX67_linkPlace_31 : decode cX67_linkPlace 31 = .ok (.ldc2_w 660, 3) := by decide +kernel
theorem dX67_linkPlace_34 : decode cX67_linkPlace 34 = .ok (.land, 1) := by decide +kernel
theorem dX67_linkPlace_35 : decode cX67_linkPlace 35 = .ok (.lcmp, 1) := by decide +kernel
theorem dX67_linkPlace_36 : decode cX67_linkPlace 36 = .ok (.ifCond .ge 24, 3) := by decide +kernel
theorem dX67_linkPlace_39 : decode cX67_linkPlace 39 = .ok (.lload 5, 2) := by decide +kernel
theorem dX67_linkPlace_41 : decode cX67_linkPlace 41 = .ok (.lconst 1, 1) := by decide +kernel
theorem dX67_linkPlace_42 : decode cX67_linkPlace 42 = .ok (.ladd, 1) := by decide +kernel
theorem dX67_linkPlace_43 : decode cX67_linkPlace 43 = .ok (.aload_n 0, 1) := by decide +kernel
theorem dX67_linkPlace_44 : decode cX67_linkPlace 44 = .ok (.getfield 29, 3) := by decide +kernel
theorem dX67_linkPlace_47 : decode cX67_linkPlace 47 = .ok (.iload_n 1, 1) := by decide +kernel
theorem dX67_linkPlace_48 : decode cX67_linkPlace 48 = .ok (.iaload, 1) := by decide +kernel
theorem dX67_linkPlace_49 : decode cX67_linkPlace 49 = .ok (.i2l, 1) := by decide +kernel
theorem dX67_linkPlace_50 : decode cX67_linkPlace 50 = .ok (.lcmp, 1) := by decide +kernel
theorem dX67_linkPlace_51 : decode cX67_linkPlace 51 = .ok (.ifCond .ge 9, 3) := by decide +kernel
theorem dX67_linkPlace_54 : decode cX67_linkPlace 54 = .ok (.lload 5, 2) := by decide +kernel
theorem dX67_linkPlace_56 : decode cX67_linkPlace 56 = .ok (.l2i, 1) := by decide +kernel
theorem dX67_linkPlace_57 : decode cX67_linkPlace 57 = .ok (.goto 4, 3) := by decide +kernel
theorem dX67_linkPlace_60 : decode cX67_linkPlace 60 = .ok (.iconst (-1), 1) := by decide +kernel
theorem dX67_linkPlace_61 : decode cX67_linkPlace 61 = .ok (.ireturn, 1) := by decide +kernel
theorem zy_X67_linkPlace : yX67_linkPlace.cls ≠ "java/lang/invoke/MethodHandle" ∧ yX67_linkPlace.cls ≠ "java/lang/invoke/VarHandle" ∧ (parseMethodDescriptor yX67_linkPlace.desc).map (fun d => d.parameters.length) = some 2 := by decide +kernel
theorem w_fX67_linkPlace {K : zK} (E : zE K cX67_linkPlace "RingHouseModel" (some .int) 0) (hN : zNl K = 7) (hT : zTr K = (some 0)) (x1 : Int) (x2 : Int) : zR K 0 [(0, 69, 0), (1, 0, x1), (2, 0, x2)] [] (fX67_linkPlace x1 x2) := by
  refine r_aload_n E dX67_linkPlace_0 rfl 0 rfl ?_
  refine r_gec (y := 0) E zc_69 dX67_linkPlace_1 q3231 zr_69 (zh_6816 (by decide)) (by decide) ?_
  refine r_sipush E dX67_linkPlace_4 (by decide) (zkI (by decide) (by decide)) ?_
  refine r_iload_n E dX67_linkPlace_7 rfl 1 rfl ?_
  refine r_imul E dX67_linkPlace_8 ?_
  refine r_laload E zc_6816 za_6816 zt_6816 zx_6816 rfl rfl dX67_linkPlace_9 (by decide) (fun v1 => ?_)
  refine r_lstore_n (ls' := [(3, 1, v1), (0, 69, 0), (1, 0, x1), (2, 0, x2)]) E dX67_linkPlace_10 rfl (by rw [hN]; decide) rfl ?_
  refine r_lload_n E dX67_linkPlace_11 rfl 0 rfl ?_
  refine r_ldc2 (v := 262143) E dX67_linkPlace_12 q3807 (by decide) (zkJ (by decide) (by decide)) ?_
  refine r_lmask (P := 262144) E 18 (by decide) (by decide) (by decide) dX67_linkPlace_15 ?_
  refine r_ldc2 (v := 2) E dX67_linkPlace_16 q3687 (by decide) (zkJ (by decide) (by decide)) ?_
  refine r_iload_n E dX67_linkPlace_19 rfl 3 rfl ?_
  refine r_i2l E dX67_linkPlace_20 ?_
  refine r_lmul E dX67_linkPlace_21 ?_
  refine r_ladd E dX67_linkPlace_22 ?_
  refine r_let E (fun v2 ev2 => ?_)
  refine r_lstore (ls' := [(5, 1, v2), (3, 1, v1), (0, 69, 0), (1, 0, x1), (2, 0, x2)]) E dX67_linkPlace_23 (by rw [hN]; decide) rfl ?_
  refine r_iload_n E dX67_linkPlace_25 rfl 4 rfl ?_
  refine r_i2l E dX67_linkPlace_26 ?_
  refine r_lload_n E dX67_linkPlace_27 rfl 1 rfl ?_
  refine r_bipush E dX67_linkPlace_28 (by decide) (zkI (by decide) (by decide)) ?_
  refine r_lshr (P := 262144) E (by decide) dX67_linkPlace_30 ?_
  refine r_ldc2 (v := 511) E dX67_linkPlace_31 q3887 (by decide) (zkJ (by decide) (by decide)) ?_
  refine r_lmask (P := 512) E 9 (by decide) (by decide) (by decide) dX67_linkPlace_34 ?_
  refine r_lcmp_ge E 60 (by decide) dX67_linkPlace_35 dX67_linkPlace_36 (fun _ => ?_) (fun _ => ?_)
  · refine r_iconst E dX67_linkPlace_60 (zkI (by decide) (by decide)) ?_
    exact r_ireturn E rfl hT dX67_linkPlace_61
  · refine r_lload E dX67_linkPlace_39 0 rfl ?_
    refine r_lconst (v := 1) E dX67_linkPlace_41 (by decide) (zkJ (by decide) (by decide)) ?_
    refine r_ladd E dX67_linkPlace_42 ?_
    refine r_aload_n E dX67_linkPlace_43 rfl 2 rfl ?_
    refine r_gec (y := 0) E zc_69 dX67_linkPlace_44 q3221 zr_69 (zh_6806 (by decide)) (by decide) ?_
    refine r_iload_n E dX67_linkPlace_47 rfl 3 rfl ?_
    refine r_iaload E zc_6806 za_6806 zt_6806 zx_6806 rfl rfl dX67_linkPlace_48 (by decide) (fun v3 => ?_)
    refine r_i2l E dX67_linkPlace_49 ?_
    refine r_lcmp_ge E 60 (by decide) dX67_linkPlace_50 dX67_linkPlace_51 (fun _ => ?_) (fun _ => ?_)
    · refine r_iconst E dX67_linkPlace_60 (zkI (by decide) (by decide)) ?_
      exact r_ireturn E rfl hT dX67_linkPlace_61
    · refine r_lload E dX67_linkPlace_54 0 rfl ?_
      refine r_l2i E dX67_linkPlace_56 ?_
      refine r_goto E 61 (by decide) dX67_linkPlace_57 ?_
      exact r_ireturn E rfl hT dX67_linkPlace_61
theorem k_fX67_linkPlace (l : Launch) (G : zG) (x1 : Int) (x2 : Int) : zCt l G yX67_linkPlace cX67_linkPlace 7 (some .int) 0 [(69, 0), (0, x1), (0, x2)] (some 0) (fX67_linkPlace x1 x2) := zCt.of (by decide) (Nat.le_of_ble_eq_true rfl) (fun K E _ _ hN hT => w_fX67_linkPlace E hN hT x1 x2)
theorem dX67_bindNow_0 : decode cX67_bindNow 0 = .ok (.aload_n 0, 1) := by decide +kernel
theorem dX67_bindNow_1 : decode cX67_bindNow 1 = .ok (.getfield 125, 3) := by decide +kernel
theorem dX67_bindNow_4 : decode cX67_bindNow 4 = .ok (.bipush 32, 2) := by decide +kernel
theorem dX67_bindNow_6 : decode cX67_bindNow 6 = .ok (.iload_n 1, 1) := by decide +kernel
theorem dX67_bindNow_7 : decode cX67_bindNow 7 = .ok (.imul, 1) := by decide +kernel
theorem dX67_bindNow_8 : decode cX67_bindNow 8 = .ok (.aload_n 0, 1) := by decide +kernel
theorem dX67_bindNow_9 : decode cX67_bindNow 9 = .ok (.getfield 104, 3) := by decide +kernel
theorem dX67_bindNow_12 : decode cX67_bindNow 12 = .ok (.iload_n 1, 1) := by decide +kernel
theorem dX67_bindNow_13 : decode cX67_bindNow 13 = .ok (.iaload, 1) := by decide +kernel
theorem dX67_bindNow_14 : decode cX67_bindNow 14 = .ok (.iadd, 1) := by decide +kernel
theorem dX67_bindNow_15 : decode cX67_bindNow 15 = .ok (.iaload, 1) := by decide +kernel
theorem dX67_bindNow_16 : decode cX67_bindNow 16 = .ok (.istore 4, 2) := by decide +kernel
theorem dX67_bindNow_18 : decode cX67_bindNow 18 = .ok (.aload_n 0, 1) := by decide +kernel
theorem dX67_bindNow_19 : decode cX67_bindNow 19 = .ok (.iload 4, 2) := by decide +kernel
theorem dX67_bindNow_21 : decode cX67_bindNow 21 = .ok (.invokevirtual 671, 3) := by decide +kernel
theorem dX67_bindNow_24 : decode cX67_bindNow 24 = .ok (.ifCond .eq 13, 3) := by decide +kernel
theorem dX67_bindNow_27 : decode cX67_bindNow 27 = .ok (.aload_n 0, 1) := by decide +kernel
theorem dX67_bindNow_28 : decode cX67_bindNow 28 = .ok (.iload 4, 2) := by decide +kernel
theorem dX67_bindNow_30 : decode cX67_bindNow 30 = .ok (.iload_n 2, 1) := by decide +kernel
theorem dX67_bindNow_31 : decode cX67_bindNow 31 = .ok (.invokevirtual 674, 3) := by decide +kernel
theorem dX67_bindNow_34 : decode cX67_bindNow 34 = .ok (.goto 4, 3) := by decide +kernel
theorem dX67_bindNow_37 : decode cX67_bindNow 37 = .ok (.iconst (-1), 1) := by decide +kernel
theorem dX67_bindNow_38 : decode cX67_bindNow 38 = .ok (.istore 5, 2) := by decide +kernel
theorem dX67_bindNow_40 : decode cX67_bindNow 40 = .ok (.iload 5, 2) := by decide +kernel
theorem dX67_bindNow_42 : decode cX67_bindNow 42 = .ok (.ifCond .ge 7, 3) := by decide +kernel
theorem dX67_bindNow_45 : decode cX67_bindNow 45 = .ok (.iconst (-1), 1) := by decide +kernel
theorem dX67_bindNow_46 : decode cX67_bindNow 46 = .ok (.goto 22, 3) := by decide +kernel
theorem dX67_bindNow_49 : decode cX67_bindNow 49 = .ok (.aload_n 0, 1) := by decide +kernel
theorem dX67_bindNow_50 : decode cX67_bindNow 50 = .ok (.iload_n 1, 1) := by decide +kernel
theorem dX67_bindNow_51 : decode cX67_bindNow 51 = .ok (.aload_n 0, 1) := by decide +kernel
theorem dX67_bindNow_52 : decode cX67_bindNow 52 = .ok (.getfield 57, 3) := by decide +kernel
theorem dX67_bindNow_55 : decode cX67_bindNow 55 = .ok (.sipush 1024, 3) := by decide +kernel
theorem dX67_bindNow_58 : decode cX67_bindNow 58 = .ok (.iload 4, 2) := by decide +kernel
theorem dX67_bindNow_60 : decode cX67_bindNow 60 = .ok (.imul, 1) := by decide +kernel
theorem dX67_bindNow_61 : decode cX67_bindNow 61 = .ok (.iload 5, 2) := by decide +kernel
theorem dX67_bindNow_63 : decode cX67_bindNow 63 = .ok (.iadd, 1) := by decide +kernel
theorem dX67_bindNow_64 : decode cX67_bindNow 64 = .ok (.laload, 1) := by decide +kernel
theorem dX67_bindNow_65 : decode cX67_bindNow 65 = .ok (.invokevirtual 677, 3) := by decide +kernel
theorem dX67_bindNow_68 : decode cX67_bindNow 68 = .ok (.istore 6, 2) := by decide +kernel
theorem dX67_bindNow_70 : decode cX67_bindNow 70 = .ok (.iload 6, 2) := by decide +kernel
theorem dX67_bindNow_72 : decode cX67_bindNow 72 = .ok (.ifCond .ge 7, 3) := by decide +kernel
theorem dX67_bindNow_75 : decode cX67_bindNow 75 = .ok (.iconst (-1), 1) := by decide +kernel
theorem dX67_bindNow_76 : decode cX67_bindNow 76 = .ok (.goto 10, 3) := by decide +kernel
theorem dX67_bindNow_79 : decode cX67_bindNow 79 = .ok (.aload_n 0, 1) := by decide +kernel
theorem dX67_bindNow_80 : decode cX67_bindNow 80 = .ok (.iload_n 1, 1) := by decide +kernel
theorem dX67_bindNow_81 : decode cX67_bindNow 81 = .ok (.iload 6, 2) := by decide +kernel
theorem dX67_bindNow_83 : decode cX67_bindNow 83 = .ok (.invokevirtual 680, 3) := by decide +kernel
theorem dX67_bindNow_86 : decode cX67_bindNow 86 = .ok (.istore 7, 2) := by decide +kernel
theorem dX67_bindNow_88 : decode cX67_bindNow 88 = .ok (.iload 7, 2) := by decide +kernel
theorem dX67_bindNow_90 : decode cX67_bindNow 90 = .ok (.ifCond .ge 5, 3) := by decide +kernel
theorem dX67_bindNow_93 : decode cX67_bindNow 93 = .ok (.iconst 0, 1) := by decide +kernel
theorem dX67_bindNow_94 : decode cX67_bindNow 94 = .ok (.ireturn, 1) := by decide +kernel
theorem dX67_bindNow_95 : decode cX67_bindNow 95 = .ok (.aload_n 0, 1) := by decide +kernel
theorem dX67_bindNow_96 : decode cX67_bindNow 96 = .ok (.getfield 125, 3) := by decide +kernel
theorem dX67_bindNow_99 : decode cX67_bindNow 99 = .ok (.bipush 32, 2) := by decide +kernel
theorem dX67_bindNow_101 : decode cX67_bindNow 101 = .ok (.iload_n 1, 1) := by decide +kernel
theorem dX67_bindNow_102 : decode cX67_bindNow 102 = .ok (.imul, 1) := by decide +kernel
theorem dX67_bindNow_103 : decode cX67_bindNow 103 = .ok (.iload 7, 2) := by decide +kernel
theorem dX67_bindNow_105 : decode cX67_bindNow 105 = .ok (.iadd, 1) := by decide +kernel
theorem dX67_bindNow_106 : decode cX67_bindNow 106 = .ok (.iload 6, 2) := by decide +kernel
theorem dX67_bindNow_108 : decode cX67_bindNow 108 = .ok (.iastore, 1) := by decide +kernel
theorem dX67_bindNow_109 : decode cX67_bindNow 109 = .ok (.aload_n 0, 1) := by decide +kernel
theorem dX67_bindNow_110 : decode cX67_bindNow 110 = .ok (.iload 6, 2) := by decide +kernel
theorem dX67_bindNow_112 : decode cX67_bindNow 112 = .ok (.invokevirtual 671, 3) := by decide +kernel
theorem dX67_bindNow_115 : decode cX67_bindNow 115 = .ok (.ifCond .eq 28, 3) := by decide +kernel
theorem dX67_bindNow_118 : decode cX67_bindNow 118 = .ok (.aload_n 0, 1) := by decide +kernel
theorem dX67_bindNow_119 : decode cX67_bindNow 119 = .ok (.iload 6, 2) := by decide +kernel
theorem dX67_bindNow_121 : decode cX67_bindNow 121 = .ok (.aload_n 0, 1) := by decide +kernel
theorem dX67_bindNow_122 : decode cX67_bindNow 122 = .ok (.getfield 57, 3) := by decide +kernel
theorem dX67_bindNow_125 : decode cX67_bindNow 125 = .ok (.sipush 1024, 3) := by decide +kernel
theorem dX67_bindNow_128 : decode cX67_bindNow 128 = .ok (.iload 4, 2) := by decide +kernel
theorem dX67_bindNow_130 : decode cX67_bindNow 130 = .ok (.imul, 1) := by decide +kernel
theorem dX67_bindNow_131 : decode cX67_bindNow 131 = .ok (.iload 5, 2) := by decide +kernel
theorem dX67_bindNow_133 : decode cX67_bindNow 133 = .ok (.iadd, 1) := by decide +kernel
theorem dX67_bindNow_134 : decode cX67_bindNow 134 = .ok (.iconst 1, 1) := by decide +kernel
theorem dX67_bindNow_135 : decode cX67_bindNow 135 = .ok (.iadd, 1) := by decide +kernel
theorem dX67_bindNow_136 : decode cX67_bindNow 136 = .ok (.laload, 1) := by decide +kernel
theorem dX67_bindNow_137 : decode cX67_bindNow 137 = .ok (.invokevirtual 683, 3) := by decide +kernel
theorem dX67_bindNow_140 : decode cX67_bindNow 140 = .ok (.goto 4, 3) := by decide +kernel
theorem dX67_bindNow_143 : decode cX67_bindNow 143 = .ok (.iconst (-1), 1) := by decide +kernel
theorem dX67_bindNow_144 : decode cX67_bindNow 144 = .ok (.istore 8, 2) := by decide +kernel
theorem dX67_bindNow_146 : decode cX67_bindNow 146 = .ok (.iload 8, 2) := by decide +kernel
theorem dX67_bindNow_148 : decode cX67_bindNow 148 = .ok (.ifCond .ge 5, 3) := by decide +kernel
theorem dX67_bindNow_151 : decode cX67_bindNow 151 = .ok (.iconst 0, 1) := by decide +kernel
theorem dX67_bindNow_152 : decode cX67_bindNow 152 = .ok (.ireturn, 1) := by decide +kernel
theorem dX67_bindNow_153 : decode cX67_bindNow 153 = .ok (.aload_n 0, 1) := by decide +kernel
theorem dX67_bindNow_154 : decode cX67_bindNow 154 = .ok (.getfield 128, 3) := by decide +kernel
theorem dX67_bindNow_157 : decode cX67_bindNow 157 = .ok (.iload_n 3, 1) := by decide +kernel
theorem dX67_bindNow_158 : decode cX67_bindNow 158 = .ok (.iload 7, 2) := by decide +kernel
theorem dX67_bindNow_160 : decode cX67_bindNow 160 = .ok (.i2l, 1) := by decide +kernel
theorem dX67_bindNow_161 : decode cX67_bindNow 161 = .ok (.ldc2_w 420, 3) := by decide +kernel
theorem dX67_bindNow_164 : decode cX67_bindNow 164 = .ok (.lmul, 1) := by decide +kernel
theorem dX67_bindNow_165 : decode cX67_bindNow 165 = .ok (.iload 8, 2) := by decide +kernel
theorem dX67_bindNow_167 : decode cX67_bindNow 167 = .ok (.i2l, 1) := by decide +kernel
theorem dX67_bindNow_168 : decode cX67_bindNow 168 = .ok (.ladd, 1) := by decide +kernel
theorem dX67_bindNow_169 : decode cX67_bindNow 169 = .ok (.lastore, 1) := by decide +kernel
theorem dX67_bindNow_170 : decode cX67_bindNow 170 = .ok (.aload_n 0, 1) := by decide +kernel
theorem dX67_bindNow_171 : decode cX67_bindNow 171 = .ok (.iload_n 1, 1) := by decide +kernel
theorem dX67_bindNow_172 : decode cX67_bindNow 172 = .ok (.iconst 5, 1) := by decide +kernel
theorem dX67_bindNow_173 : decode cX67_bindNow 173 = .ok (.iload_n 2, 1) := by decide +kernel
theorem dX67_bindNow_174 : decode cX67_bindNow 174 = .ok (.i2l, 1) := by decide +kernel
theorem dX67_bindNow_175 : decode cX67_bindNow 175 = .ok (.iload 7, 2) := by decide +kernel
theorem dX67_bindNow_177 : decode cX67_bindNow 177 = .ok (.i2l, 1) := by decide +kernel
theorem dX67_bindNow_178 : decode cX67_bindNow 178 = .ok (.iload 8, 2) := by decide +kernel
theorem dX67_bindNow_180 : decode cX67_bindNow 180 = .ok (.i2l, 1) := by decide +kernel
theorem dX67_bindNow_181 : decode cX67_bindNow 181 = .ok (.invokevirtual 616, 3) := by decide +kernel
theorem dX67_bindNow_184 : decode cX67_bindNow 184 = .ok (.iconst 1, 1) := by decide +kernel
theorem dX67_bindNow_185 : decode cX67_bindNow 185 = .ok (.ireturn, 1) := by decide +kernel
theorem zy_X67_bindNow : yX67_bindNow.cls ≠ "java/lang/invoke/MethodHandle" ∧ yX67_bindNow.cls ≠ "java/lang/invoke/VarHandle" ∧ (parseMethodDescriptor yX67_bindNow.desc).map (fun d => d.parameters.length) = some 3 := by decide +kernel
theorem w_fX67_bindNow_J144 {K : zK} (E : zE K cX67_bindNow "RingHouseModel" (some .boolean) 3) (hN : zNl K = 9) (hT : zTr K = (some 0)) (x1 : Int) (x2 : Int) (x3 : Int) (x7 : Int) (s0 : Int) : zR K 144 [(0, 69, 0), (1, 0, x1), (2, 0, x2), (3, 0, x3), (7, 0, x7)] [(0, s0)] (fX67_bindNow_J144 x1 x2 x3 x7 s0) := by
  refine r_istore (ls' := [(8, 0, s0), (0, 69, 0), (1, 0, x1), (2, 0, x2), (3, 0, x3), (7, 0, x7)]) E dX67_bindNow_144 (by rw [hN]; decide) rfl ?_
  refine r_iload E dX67_bindNow_146 0 rfl ?_
  refine r_if_ge E 153 (by decide) dX67_bindNow_148 (fun _ => ?_) (fun _ => ?_)
  · refine r_aload_n E dX67_bindNow_153 rfl 1 rfl ?_
    refine r_gec (y := 0) E zc_69 dX67_bindNow_154 q3254 zr_69 (zh_6839 (by decide)) (by decide) ?_
    refine r_iload_n E dX67_bindNow_157 rfl 4 rfl ?_
    refine r_iload E dX67_bindNow_158 5 rfl ?_
    refine r_i2l E dX67_bindNow_160 ?_
    refine r_ldc2 (v := 262144) E dX67_bindNow_161 q3758 (by decide) (zkJ (by decide) (by decide)) ?_
    refine r_lmul E dX67_bindNow_164 ?_
    refine r_iload E dX67_bindNow_165 0 rfl ?_
    refine r_i2l E dX67_bindNow_167 ?_
    refine r_ladd E dX67_bindNow_168 ?_
    refine r_lastore E zc_6839 za_6839 zt_6839 zo_6839 zx_6839 rfl rfl dX67_bindNow_169 (by decide) ?_
    refine r_aload_n E dX67_bindNow_170 rfl 1 rfl ?_
    refine r_iload_n E dX67_bindNow_171 rfl 2 rfl ?_
    refine r_iconst E dX67_bindNow_172 (zkI (by decide) (by decide)) ?_
    refine r_iload_n E dX67_bindNow_173 rfl 3 rfl ?_
    refine r_i2l E dX67_bindNow_174 ?_
    refine r_iload E dX67_bindNow_175 5 rfl ?_
    refine r_i2l E dX67_bindNow_177 ?_
    refine r_iload E dX67_bindNow_178 0 rfl ?_
    refine r_i2l E dX67_bindNow_180 ?_
    refine r_callV E [(0, x1), (0, 5), (1, x2), (1, x7), (1, s0)] [] rfl zc_69 zr_69 (fun o _ => ⟨_, zw_X67.1 o, rfl⟩) (lw_V q3830 q3832 qs118 q294 q3833) dX67_bindNow_181 zy_X67_tell rfl (by omega) (by decide) (Nat.le_of_ble_eq_true rfl) (by decide) (fun l G => k_fX67_tell l G x1 5 x2 x7 s0) (fun _ => ?_)
    refine r_iconst E dX67_bindNow_184 (zkI (by decide) (by decide)) ?_
    exact r_zreturn E rfl hT (by decide) dX67_bindNow_185
  · refine r_iconst E dX67_bindNow_151 (zkI (by decide) (by decide)) ?_
    exact r_zreturn E rfl hT (by decide) dX67_bindNow_152
theorem w_fX67_bindNow_J86 {K : zK} (E : zE K cX67_bindNow "RingHouseModel" (some .boolean) 3) (hN : zNl K = 9) (hT : zTr K = (some 0)) (x1 : Int) (x2 : Int) (x3 : Int) (x4 : Int) (x5 : Int) (x6 : Int) (s0 : Int) : zR K 86 [(0, 69, 0), (1, 0, x1), (2, 0, x2), (3, 0, x3), (4, 0, x4), (5, 0, x5), (6, 0, x6)] [(0, s0)] (fX67_bindNow_J86 x1 x2 x3 x4 x5 x6 s0) := by
  refine r_istore (ls' := [(7, 0, s0), (0, 69, 0), (1, 0, x1), (2, 0, x2), (3, 0, x3), (4, 0, x4), (5, 0, x5), (6, 0, x6)]) E dX67_bindNow_86 (by rw [hN]; decide) rfl ?_
  refine r_iload E dX67_bindNow_88 0 rfl ?_
  refine r_if_ge E 95 (by decide) dX67_bindNow_90 (fun _ => ?_) (fun _ => ?_)
  · refine r_aload_n E dX67_bindNow_95 rfl 1 rfl ?_
    refine r_gec (y := 0) E zc_69 dX67_bindNow_96 q3253 zr_69 (zh_6838 (by decide)) (by decide) ?_
    refine r_bipush E dX67_bindNow_99 (by decide) (zkI (by decide) (by decide)) ?_
    refine r_iload_n E dX67_bindNow_101 rfl 2 rfl ?_
    refine r_imul E dX67_bindNow_102 ?_
    refine r_iload E dX67_bindNow_103 0 rfl ?_
    refine r_iadd E dX67_bindNow_105 ?_
    refine r_iload E dX67_bindNow_106 7 rfl ?_
    refine r_iastore E zc_6838 za_6838 zt_6838 zo_6838 zx_6838 rfl rfl dX67_bindNow_108 (by decide) ?_
    refine r_aload_n E dX67_bindNow_109 rfl 1 rfl ?_
    refine r_iload E dX67_bindNow_110 7 rfl ?_
    refine r_callV E [(0, x6)] [] rfl zc_69 zr_69 (fun o _ => ⟨_, zw_X67.1 o, rfl⟩) (lw_V q3878 q3880 qs129 q294 q3881) dX67_bindNow_112 zy_X67_isObject rfl (by omega) (by decide) (Nat.le_of_ble_eq_true rfl) (by decide) (fun l G => k_fX67_isObject l G x6) (fun v7 => ?_)
    refine r_if_eq E 143 (by decide) dX67_bindNow_115 (fun _ => ?_) (fun _ => ?_)
    · refine r_iconst E dX67_bindNow_143 (zkI (by decide) (by decide)) ?_
      refine r_pick E [1, 2, 3, 4, 0] rfl ?_
      exact w_fX67_bindNow_J144 E hN hT x1 x2 x3 s0 (-1)
    · refine r_aload_n E dX67_bindNow_118 rfl 1 rfl ?_
      refine r_iload E dX67_bindNow_119 7 rfl ?_
      refine r_aload_n E dX67_bindNow_121 rfl 1 rfl ?_
      refine r_gec (y := 0) E zc_69 dX67_bindNow_122 q3231 zr_69 (zh_6816 (by decide)) (by decide) ?_
      refine r_sipush E dX67_bindNow_125 (by decide) (zkI (by decide) (by decide)) ?_
      refine r_iload E dX67_bindNow_128 5 rfl ?_
      refine r_imul E dX67_bindNow_130 ?_
      refine r_iload E dX67_bindNow_131 6 rfl ?_
      refine r_iadd E dX67_bindNow_133 ?_
      refine r_iconst E dX67_bindNow_134 (zkI (by decide) (by decide)) ?_
      refine r_iadd E dX67_bindNow_135 ?_
      refine r_laload E zc_6816 za_6816 zt_6816 zx_6816 rfl rfl dX67_bindNow_136 (by decide) (fun v9 => ?_)
      refine r_callV E [(0, x6), (1, v9)] [] rfl zc_69 zr_69 (fun o _ => ⟨_, zw_X67.1 o, rfl⟩) (lw_V q3900 q3902 qs134 q294 q3903) dX67_bindNow_137 zy_X67_defined rfl (by omega) (by decide) (Nat.le_of_ble_eq_true rfl) (by decide) (fun l G => k_fX67_defined l G x6 v9) (fun v10 => ?_)
      refine r_goto E 144 (by decide) dX67_bindNow_140 ?_
      refine r_pick E [1, 2, 3, 4, 0] rfl ?_
      exact w_fX67_bindNow_J144 E hN hT x1 x2 x3 s0 v10
  · refine r_iconst E dX67_bindNow_93 (zkI (by decide) (by decide)) ?_
    exact r_zreturn E rfl hT (by decide) dX67_bindNow_94
theorem w_fX67_bindNow_J68 {K : zK} (E : zE K cX67_bindNow "RingHouseModel" (some .boolean) 3) (hN : zNl K = 9) (hT : zTr K = (some 0)) (x1 : Int) (x2 : Int) (x3 : Int) (x4 : Int) (x5 : Int) (s0 : Int) : zR K 68 [(0, 69, 0), (1, 0, x1), (2, 0, x2), (3, 0, x3), (4, 0, x4), (5, 0, x5)] [(0, s0)] (fX67_bindNow_J68 x1 x2 x3 x4 x5 s0) := by
  refine r_istore (ls' := [(6, 0, s0), (0, 69, 0), (1, 0, x1), (2, 0, x2), (3, 0, x3), (4, 0, x4), (5, 0, x5)]) E dX67_bindNow_68 (by rw [hN]; decide) rfl ?_
  refine r_iload E dX67_bindNow_70 0 rfl ?_
  refine r_if_ge E 79 (by decide) dX67_bindNow_72 (fun _ => ?_) (fun _ => ?_)
  · refine r_aload_n E dX67_bindNow_79 rfl 1 rfl ?_
    refine r_iload_n E dX67_bindNow_80 rfl 2 rfl ?_
    refine r_iload E dX67_bindNow_81 0 rfl ?_
    refine r_callV E [(0, x1), (0, s0)] [] rfl zc_69 zr_69 (fun o _ => ⟨_, zw_X67.1 o, rfl⟩) (lw_V q3896 q3898 qs133 q294 q3899) dX67_bindNow_83 zy_X67_numberFor rfl (by omega) (by decide) (Nat.le_of_ble_eq_true rfl) (by decide) (fun l G => k_fX67_numberFor l G x1 s0) (fun v6 => ?_)
    refine r_pick E [1, 2, 3, 4, 5, 6, 0] rfl ?_
    exact w_fX67_bindNow_J86 E hN hT x1 x2 x3 x4 x5 s0 v6
  · refine r_iconst E dX67_bindNow_75 (zkI (by decide) (by decide)) ?_
    refine r_goto E 86 (by decide) dX67_bindNow_76 ?_
    refine r_pick E [1, 2, 3, 4, 5, 6, 0] rfl ?_
    exact w_fX67_bindNow_J86 E hN hT x1 x2 x3 x4 x5 s0 (-1)
theorem w_fX67_bindNow_J38 {K : zK} (E : zE K cX67_bindNow "RingHouseModel" (some .boolean) 3) (hN : zNl K = 9) (hT : zTr K = (some 0)) (x1 : Int) (x2 : Int) (x3 : Int) (x4 : Int) (s0 : Int) : zR K 38 [(0, 69, 0), (1, 0, x1), (2, 0, x2), (3, 0, x3), (4, 0, x4)] [(0, s0)] (fX67_bindNow_J38 x1 x2 x3 x4 s0) := by
  refine r_istore (ls' := [(5, 0, s0), (0, 69, 0), (1, 0, x1), (2, 0, x2), (3, 0, x3), (4, 0, x4)]) E dX67_bindNow_38 (by rw [hN]; decide) rfl ?_
  refine r_iload E dX67_bindNow_40 0 rfl ?_
  refine r_if_ge E 49 (by decide) dX67_bindNow_42 (fun _ => ?_) (fun _ => ?_)
  · refine r_aload_n E dX67_bindNow_49 rfl 1 rfl ?_
    refine r_iload_n E dX67_bindNow_50 rfl 2 rfl ?_
    refine r_aload_n E dX67_bindNow_51 rfl 1 rfl ?_
    refine r_gec (y := 0) E zc_69 dX67_bindNow_52 q3231 zr_69 (zh_6816 (by decide)) (by decide) ?_
    refine r_sipush E dX67_bindNow_55 (by decide) (zkI (by decide) (by decide)) ?_
    refine r_iload E dX67_bindNow_58 5 rfl ?_
    refine r_imul E dX67_bindNow_60 ?_
    refine r_iload E dX67_bindNow_61 0 rfl ?_
    refine r_iadd E dX67_bindNow_63 ?_
    refine r_laload E zc_6816 za_6816 zt_6816 zx_6816 rfl rfl dX67_bindNow_64 (by decide) (fun v4 => ?_)
    refine r_callV E [(0, x1), (1, v4)] [] rfl zc_69 zr_69 (fun o _ => ⟨_, zw_X67.1 o, rfl⟩) (lw_V q3888 q3890 qs131 q294 q3891) dX67_bindNow_65 zy_X67_searched rfl (by omega) (by decide) (Nat.le_of_ble_eq_true rfl) (by decide) (fun l G => k_fX67_searched l G x1 v4) (fun v5 => ?_)
    refine r_pick E [1, 2, 3, 4, 5, 0] rfl ?_
    exact w_fX67_bindNow_J68 E hN hT x1 x2 x3 x4 s0 v5
  · refine r_iconst E dX67_bindNow_45 (zkI (by decide) (by decide)) ?_
    refine r_goto E 68 (by decide) dX67_bindNow_46 ?_
    refine r_pick E [1, 2, 3, 4, 5, 0] rfl ?_
    exact w_fX67_bindNow_J68 E hN hT x1 x2 x3 x4 s0 (-1)
theorem w_fX67_bindNow {K : zK} (E : zE K cX67_bindNow "RingHouseModel" (some .boolean) 3) (hN : zNl K = 9) (hT : zTr K = (some 0)) (x1 : Int) (x2 : Int) (x3 : Int) : zR K 0 [(0, 69, 0), (1, 0, x1), (2, 0, x2), (3, 0, x3)] [] (fX67_bindNow x1 x2 x3) := by
  refine r_aload_n E dX67_bindNow_0 rfl 0 rfl ?_
  refine r_gec (y := 0) E zc_69 dX67_bindNow_1 q3253 zr_69 (zh_6838 (by decide)) (by decide) ?_
  refine r_bipush E dX67_bindNow_4 (by decide) (zkI (by decide) (by decide)) ?_
  refine r_iload_n E dX67_bindNow_6 rfl 1 rfl ?_
  refine r_imul E dX67_bindNow_7 ?_
  refine r_aload_n E dX67_bindNow_8 rfl 0 rfl ?_
  refine r_gec (y := 0) E zc_69 dX67_bindNow_9 q3246 zr_69 (zh_6831 (by decide)) (by decide) ?_
  refine r_iload_n E dX67_bindNow_12 rfl 1 rfl ?_
  refine r_iaload E zc_6831 za_6831 zt_6831 zx_6831 rfl rfl dX67_bindNow_13 (by decide) (fun v1 => ?_)
  refine r_iadd E dX67_bindNow_14 ?_
  refine r_iaload E zc_6838 za_6838 zt_6838 zx_6838 rfl rfl dX67_bindNow_15 (by decide) (fun v2 => ?_)
  refine r_istore (ls' := [(4, 0, v2), (0, 69, 0), (1, 0, x1), (2, 0, x2), (3, 0, x3)]) E dX67_bindNow_16 (by rw [hN]; decide) rfl ?_
  refine r_aload_n E dX67_bindNow_18 rfl 1 rfl ?_
  refine r_iload E dX67_bindNow_19 0 rfl ?_
  refine r_callV E [(0, v2)] [] rfl zc_69 zr_69 (fun o _ => ⟨_, zw_X67.1 o, rfl⟩) (lw_V q3878 q3880 qs129 q294 q3881) dX67_bindNow_21 zy_X67_isObject rfl (by omega) (by decide) (Nat.le_of_ble_eq_true rfl) (by decide) (fun l G => k_fX67_isObject l G v2) (fun v3 => ?_)
  refine r_if_eq E 37 (by decide) dX67_bindNow_24 (fun _ => ?_) (fun _ => ?_)
  · refine r_iconst E dX67_bindNow_37 (zkI (by decide) (by decide)) ?_
    refine r_pick E [1, 2, 3, 4, 0] rfl ?_
    exact w_fX67_bindNow_J38 E hN hT x1 x2 x3 v2 (-1)
  · refine r_aload_n E dX67_bindNow_27 rfl 1 rfl ?_
    refine r_iload E dX67_bindNow_28 0 rfl ?_
    refine r_iload_n E dX67_bindNow_30 rfl 3 rfl ?_
    refine r_callV E [(0, v2), (0, x2)] [] rfl zc_69 zr_69 (fun o _ => ⟨_, zw_X67.1 o, rfl⟩) (lw_V q3883 q3885 qs130 q294 q3886) dX67_bindNow_31 zy_X67_linkPlace rfl (by omega) (by decide) (Nat.le_of_ble_eq_true rfl) (by decide) (fun l G => k_fX67_linkPlace l G v2 x2) (fun v11 => ?_)
    refine r_goto E 38 (by decide) dX67_bindNow_34 ?_
    refine r_pick E [1, 2, 3, 4, 0] rfl ?_
    exact w_fX67_bindNow_J38 E hN hT x1 x2 x3 v2 v11
theorem k_fX67_bindNow (l : Launch) (G : zG) (x1 : Int) (x2 : Int) (x3 : Int) : zCt l G yX67_bindNow cX67_bindNow 9 (some .boolean) 3 [(69, 0), (0, x1), (0, x2), (0, x3)] (some 0) (fX67_bindNow x1 x2 x3) := zCt.of (by decide) (Nat.le_of_ble_eq_true rfl) (fun K E _ _ hN hT => w_fX67_bindNow E hN hT x1 x2 x3)
theorem dX67_bind_0 : decode cX67_bind 0 = .ok (.sipush 512, 3) := by decide +kernel
theorem dX67_bind_3 : decode cX67_bind 3 = .ok (.iload_n 1, 1) := by decide +kernel
theorem dX67_bind_4 : decode cX67_bind 4 = .ok (.imul, 1) := by decide +kernel
theorem dX67_bind_5 : decode cX67_bind 5 = .ok (.bipush 16, 2) := by decide +kernel
theorem dX67_bind_7 : decode cX67_bind 7 = .ok (.aload_n 0, 1) := by decide +kernel
theorem dX67_bind_8 : decode cX67_bind 8 = .ok (.getfield 104, 3) := by decide +kernel
theorem dX67_bind_11 : decode cX67_bind 11 = .ok (.iload_n 1, 1) := by decide +kernel
theorem dX67_bind_12 : decode cX67_bind 12 = .ok (.iaload, 1) := by decide +kernel
theorem dX67_bind_13 : decode cX67_bind 13 = .ok (.imul, 1) := by decide +kernel
theorem dX67_bind_14 : decode cX67_bind 14 = .ok (.iadd, 1) := by decide +kernel
theorem dX67_bind_15 : decode cX67_bind 15 = .ok (.iload_n 2, 1) := by decide +kernel
theorem dX67_bind_16 : decode cX67_bind 16 = .ok (.iadd, 1) := by decide +kernel
theorem dX67_bind_17 : decode cX67_bind 17 = .ok (.istore_n 3, 1) := by decide +kernel
theorem dX67_bind_18 : decode cX67_bind 18 = .ok (.iload_n 2, 1) := by decide +kernel
theorem dX67_bind_19 : decode cX67_bind 19 = .ok (.bipush 15, 2) := by decide +kernel
theorem dX67_bind_21 : decode cX67_bind 21 = .ok (.if_icmp .gt 24, 3) := by decide +kernel
theorem dX67_bind_24 : decode cX67_bind 24 = .ok (.aload_n 0, 1) := by decide +kernel
theorem dX67_bind_25 : decode cX67_bind 25 = .ok (.getfield 128, 3) := by decide +kernel
theorem dX67_bind_28 : decode cX67_bind 28 = .ok (.iload_n 3, 1) := by decide +kernel
theorem dX67_bind_29 : decode cX67_bind 29 = .ok (.laload, 1) := by decide +kernel
theorem dX67_bind_30 : decode cX67_bind 30 = .ok (.lconst 0, 1) := by decide +kernel
theorem dX67_bind_31 : decode cX67_bind 31 = .ok (.lcmp, 1) := by decide +kernel
theorem dX67_bind_32 : decode cX67_bind 32 = .ok (.ifCond .ge 39, 3) := by decide +kernel
theorem dX67_bind_35 : decode cX67_bind 35 = .ok (.aload_n 0, 1) := by decide +kernel
theorem dX67_bind_36 : decode cX67_bind 36 = .ok (.iload_n 1, 1) := by decide +kernel
theorem dX67_bind_37 : decode cX67_bind 37 = .ok (.iload_n 2, 1) := by decide +kernel
theorem dX67_bind_38 : decode cX67_bind 38 = .ok (.iload_n 3, 1) := by decide +kernel
theorem dX67_bind_39 : decode cX67_bind 39 = .ok (.invokevirtual 668, 3) := by decide +kernel
theorem dX67_bind_42 : decode cX67_bind 42 = .ok (.ifCond .ne 29, 3) := by decide +kernel
theorem dX67_bind_45 : decode cX67_bind 45 = .ok (.aload_n 0, 1) := by decide +kernel
theorem dX67_bind_46 : decode cX67_bind 46 = .ok (.bipush 11, 2) := by decide +kernel
theorem dX67_bind_48 : decode cX67_bind 48 = .ok (.aload_n 0, 1) := by decide +kernel
theorem dX67_bind_49 : decode cX67_bind 49 = .ok (.getfield 104, 3) := by decide +kernel
theorem dX67_bind_52 : decode cX67_bind 52 = .ok (.iload_n 1, 1) := by decide +kernel
theorem dX67_bind_53 : decode cX67_bind 53 = .ok (.iaload, 1) := by decide +kernel
theorem dX67_bind_54 : decode cX67_bind 54 = .ok (.aload_n 0, 1) := by decide +kernel
theorem dX67_bind_55 : decode cX67_bind 55 = .ok (.getfield 107, 3) := by decide +kernel
theorem dX67_bind_58 : decode cX67_bind 58 = .ok (.iload_n 1, 1) := by decide +kernel
theorem dX67_bind_59 : decode cX67_bind 59 = .ok (.iaload, 1) := by decide +kernel
theorem dX67_bind_60 : decode cX67_bind 60 = .ok (.aload_n 0, 1) := by decide +kernel
theorem dX67_bind_61 : decode cX67_bind 61 = .ok (.getfield 110, 3) := by decide +kernel
theorem dX67_bind_64 : decode cX67_bind 64 = .ok (.iload_n 1, 1) := by decide +kernel
theorem dX67_bind_65 : decode cX67_bind 65 = .ok (.iaload, 1) := by decide +kernel
theorem dX67_bind_66 : decode cX67_bind 66 = .ok (.invokevirtual 531, 3) := by decide +kernel
theorem dX67_bind_69 : decode cX67_bind 69 = .ok (.iconst 0, 1) := by decide +kernel
theorem dX67_bind_70 : decode cX67_bind 70 = .ok (.ireturn, 1) := by decide +kernel
theorem dX67_bind_71 : decode cX67_bind 71 = .ok (.aload_n 0, 1) := by decide +kernel
theorem dX67_bind_72 : decode cX67_bind 72 = .ok (.aload_n 0, 1) := by decide +kernel
theorem dX67_bind_73 : decode cX67_bind 73 = .ok (.getfield 128, 3) := by decide +kernel
theorem dX67_bind_76 : decode cX67_bind 76 = .ok (.iload_n 3, 1) := by decide +kernel
theorem dX67_bind_77 : decode cX67_bind 77 = .ok (.laload, 1) := by decide +kernel
theorem dX67_bind_78 : decode cX67_bind 78 = .ok (.ldc2_w 420, 3) := by decide +kernel
theorem dX67_bind_81 : decode cX67_bind 81 = .ok (.ldiv, 1) := by decide +kernel
theorem dX67_bind_82 : decode cX67_bind 82 = .ok (.l2i, 1) := by decide +kernel
theorem dX67_bind_83 : decode cX67_bind 83 = .ok (.putfield 555, 3) := by decide +kernel
theorem dX67_bind_86 : decode cX67_bind 86 = .ok (.aload_n 0, 1) := by decide +kernel
theorem dX67_bind_87 : decode cX67_bind 87 = .ok (.aload_n 0, 1) := by decide +kernel
theorem dX67_bind_88 : decode cX67_bind 88 = .ok (.getfield 128, 3) := by decide +kernel
theorem dX67_bind_91 : decode cX67_bind 91 = .ok (.iload_n 3, 1) := by decide +kernel
theorem dX67_bind_92 : decode cX67_bind 92 = .ok (.laload, 1) := by decide +kernel
theorem dX67_bind_93 : decode cX67_bind 93 = .ok (.ldc2_w 420, 3) := by decide +kernel
theorem dX67_bind_96 : decode cX67_bind 96 = .ok (.lrem, 1) := by decide +kernel
theorem dX67_bind_97 : decode cX67_bind 97 = .ok (.l2i, 1) := by decide +kernel
theorem dX67_bind_98 : decode cX67_bind 98 = .ok (.putfield 558, 3) := by decide +kernel
theorem dX67_bind_101 : decode cX67_bind 101 = .ok (.iconst 1, 1) := by decide +kernel
theorem dX67_bind_102 : decode cX67_bind 102 = .ok (.ireturn, 1) := by decide +kernel
theorem zy_X67_bind : yX67_bind.cls ≠ "java/lang/invoke/MethodHandle" ∧ yX67_bind.cls ≠ "java/lang/invoke/VarHandle" ∧ (parseMethodDescriptor yX67_bind.desc).map (fun d => d.parameters.length) = some 2 := by decide +kernel
theorem w_fX67_bind_J45 {K : zK} (E : zE K cX67_bind "RingHouseModel" (some .boolean) 4) (hN : zNl K = 4) (hT : zTr K = (some 0)) (x1 : Int) : zR K 45 [(0, 69, 0), (1, 0, x1)] [] (fX67_bind_J45 x1) := by
  refine r_aload_n E dX67_bind_45 rfl 0 rfl ?_
  refine r_bipush E dX67_bind_46 (by decide) (zkI (by decide) (by decide)) ?_
  refine r_aload_n E dX67_bind_48 rfl 0 rfl ?_
  refine r_gec (y := 0) E zc_69 dX67_bind_49 q3246 zr_69 (zh_6831 (by decide)) (by decide) ?_
  refine r_iload_n E dX67_bind_52 rfl 1 rfl ?_
  refine r_iaload E zc_6831 za_6831 zt_6831 zx_6831 rfl rfl dX67_bind_53 (by decide) (fun v3 => ?_)
  refine r_aload_n E dX67_bind_54 rfl 0 rfl ?_
  refine r_gec (y := 0) E zc_69 dX67_bind_55 q3247 zr_69 (zh_6832 (by decide)) (by decide) ?_
  refine r_iload_n E dX67_bind_58 rfl 1 rfl ?_
  refine r_iaload E zc_6832 za_6832 zt_6832 zx_6832 rfl rfl dX67_bind_59 (by decide) (fun v4 => ?_)
  refine r_aload_n E dX67_bind_60 rfl 0 rfl ?_
  refine r_gec (y := 0) E zc_69 dX67_bind_61 q3248 zr_69 (zh_6833 (by decide)) (by decide) ?_
  refine r_iload_n E dX67_bind_64 rfl 1 rfl ?_
  refine r_iaload E zc_6833 za_6833 zt_6833 zx_6833 rfl rfl dX67_bind_65 (by decide) (fun v5 => ?_)
  refine r_callV E [(0, 11), (0, v3), (0, v4), (0, v5)] [] rfl zc_69 zr_69 (fun o _ => ⟨_, zw_X67.1 o, rfl⟩) (lw_V q3851 q3853 qs123 q294 q3854) dX67_bind_66 zy_X67_fail rfl (by omega) (by decide) (Nat.le_of_ble_eq_true rfl) (by decide) (fun l G => k_fX67_fail l G 11 v3 v4 v5) (fun _ => ?_)
  refine r_iconst E dX67_bind_69 (zkI (by decide) (by decide)) ?_
  exact r_zreturn E rfl hT (by decide) dX67_bind_70
theorem w_fX67_bind_J71 {K : zK} (E : zE K cX67_bind "RingHouseModel" (some .boolean) 4) (hN : zNl K = 4) (hT : zTr K = (some 0)) (x3 : Int) : zR K 71 [(0, 69, 0), (3, 0, x3)] [] (fX67_bind_J71 x3) := by
  refine r_aload_n E dX67_bind_71 rfl 0 rfl ?_
  refine r_aload_n E dX67_bind_72 rfl 0 rfl ?_
  refine r_gec (y := 0) E zc_69 dX67_bind_73 q3254 zr_69 (zh_6839 (by decide)) (by decide) ?_
  refine r_iload_n E dX67_bind_76 rfl 1 rfl ?_
  refine r_laload E zc_6839 za_6839 zt_6839 zx_6839 rfl rfl dX67_bind_77 (by decide) (fun v8 => ?_)
  refine r_ldc2 (v := 262144) E dX67_bind_78 q3758 (by decide) (zkJ (by decide) (by decide)) ?_
  refine r_ldiv E (by decide) dX67_bind_81 ?_
  refine r_l2i E dX67_bind_82 ?_
  refine r_put E zc_69 zt_6878 zo_6878 dX67_bind_83 q3293 zr_69 zw_X67 zp_6878 (fun _ => rfl) (fun _ => rfl) (by decide) ?_
  refine r_aload_n E dX67_bind_86 rfl 0 rfl ?_
  refine r_aload_n E dX67_bind_87 rfl 0 rfl ?_
  refine r_gec (y := 0) E zc_69 dX67_bind_88 q3254 zr_69 (zh_6839 (by decide)) (by decide) ?_
  refine r_iload_n E dX67_bind_91 rfl 1 rfl ?_
  refine r_laload E zc_6839 za_6839 zt_6839 zx_6839 rfl rfl dX67_bind_92 (by decide) (fun v9 => ?_)
  refine r_ldc2 (v := 262144) E dX67_bind_93 q3758 (by decide) (zkJ (by decide) (by decide)) ?_
  refine r_lrem E (by decide) dX67_bind_96 ?_
  refine r_l2i E dX67_bind_97 ?_
  refine r_put E zc_69 zt_6879 zo_6879 dX67_bind_98 q3294 zr_69 zw_X67 zp_6879 (fun _ => rfl) (fun _ => rfl) (by decide) ?_
  refine r_iconst E dX67_bind_101 (zkI (by decide) (by decide)) ?_
  exact r_zreturn E rfl hT (by decide) dX67_bind_102
theorem w_fX67_bind {K : zK} (E : zE K cX67_bind "RingHouseModel" (some .boolean) 4) (hN : zNl K = 4) (hT : zTr K = (some 0)) (x1 : Int) (x2 : Int) : zR K 0 [(0, 69, 0), (1, 0, x1), (2, 0, x2)] [] (fX67_bind x1 x2) := by
  refine r_sipush E dX67_bind_0 (by decide) (zkI (by decide) (by decide)) ?_
  refine r_iload_n E dX67_bind_3 rfl 1 rfl ?_
  refine r_imul E dX67_bind_4 ?_
  refine r_bipush E dX67_bind_5 (by decide) (zkI (by decide) (by decide)) ?_
  refine r_aload_n E dX67_bind_7 rfl 0 rfl ?_
  refine r_gec (y := 0) E zc_69 dX67_bind_8 q3246 zr_69 (zh_6831 (by decide)) (by decide) ?_
  refine r_iload_n E dX67_bind_11 rfl 1 rfl ?_
  refine r_iaload E zc_6831 za_6831 zt_6831 zx_6831 rfl rfl dX67_bind_12 (by decide) (fun v1 => ?_)
  refine r_imul E dX67_bind_13 ?_
  refine r_iadd E dX67_bind_14 ?_
  refine r_iload_n E dX67_bind_15 rfl 2 rfl ?_
  refine r_iadd E dX67_bind_16 ?_
  refine r_let E (fun v2 ev2 => ?_)
  refine r_istore_n (ls' := [(3, 0, v2), (0, 69, 0), (1, 0, x1), (2, 0, x2)]) E dX67_bind_17 rfl (by rw [hN]; decide) rfl ?_
  refine r_iload_n E dX67_bind_18 rfl 3 rfl ?_
  refine r_bipush E dX67_bind_19 (by decide) (zkI (by decide) (by decide)) ?_
  refine r_icmp_gt E 45 (by decide) dX67_bind_21 (fun _ => ?_) (fun _ => ?_)
  · refine r_pick E [1, 2] rfl ?_
    exact w_fX67_bind_J45 E hN hT x1
  · refine r_aload_n E dX67_bind_24 rfl 1 rfl ?_
    refine r_gec (y := 0) E zc_69 dX67_bind_25 q3254 zr_69 (zh_6839 (by decide)) (by decide) ?_
    refine r_iload_n E dX67_bind_28 rfl 0 rfl ?_
    refine r_laload E zc_6839 za_6839 zt_6839 zx_6839 rfl rfl dX67_bind_29 (by decide) (fun v7 => ?_)
    refine r_lconst (v := 0) E dX67_bind_30 (by decide) (zkJ (by decide) (by decide)) ?_
    refine r_lcmp_ge E 71 (by decide) dX67_bind_31 dX67_bind_32 (fun _ => ?_) (fun _ => ?_)
    · refine r_pick E [1, 0] rfl ?_
      exact w_fX67_bind_J71 E hN hT v2
    · refine r_aload_n E dX67_bind_35 rfl 1 rfl ?_
      refine r_iload_n E dX67_bind_36 rfl 2 rfl ?_
      refine r_iload_n E dX67_bind_37 rfl 3 rfl ?_
      refine r_iload_n E dX67_bind_38 rfl 0 rfl ?_
      refine r_callV E [(0, x1), (0, x2), (0, v2)] [] rfl zc_69 zr_69 (fun o _ => ⟨_, zw_X67.1 o, rfl⟩) (lw_V q3874 q3876 qs128 q294 q3877) dX67_bind_39 zy_X67_bindNow rfl (by omega) (by decide) (Nat.le_of_ble_eq_true rfl) (by decide) (fun l G => k_fX67_bindNow l G x1 x2 v2) (fun v10 => ?_)
      refine r_if_ne E 71 (by decide) dX67_bind_42 (fun _ => ?_) (fun _ => ?_)
      · refine r_pick E [1, 0] rfl ?_
        exact w_fX67_bind_J71 E hN hT v2
      · refine r_pick E [1, 2] rfl ?_
        exact w_fX67_bind_J45 E hN hT x1
theorem k_fX67_bind (l : Launch) (G : zG) (x1 : Int) (x2 : Int) : zCt l G yX67_bind cX67_bind 4 (some .boolean) 4 [(69, 0), (0, x1), (0, x2)] (some 0) (fX67_bind x1 x2) := zCt.of (by decide) (Nat.le_of_ble_eq_true rfl) (fun K E _ _ hN hT => w_fX67_bind E hN hT x1 x2)
theorem dX67_follow_0 : decode cX67_follow 0 = .ok (.iconst 1, 1) := by decide +kernel
theorem dX67_follow_1 : decode cX67_follow 1 = .ok (.istore_n 2, 1) := by decide +kernel
theorem dX67_follow_2 : decode cX67_follow 2 = .ok (.iconst 0, 1) := by decide +kernel
theorem dX67_follow_3 : decode cX67_follow 3 = .ok (.istore_n 3, 1) := by decide +kernel
theorem dX67_follow_4 : decode cX67_follow 4 = .ok (.iload_n 2, 1) := by decide +kernel
theorem dX67_follow_5 : decode cX67_follow 5 = .ok (.ifCond .eq 256, 3) := by decide +kernel
theorem dX67_follow_8 : decode cX67_follow 8 = .ok (.iload_n 3, 1) := by decide +kernel
theorem dX67_follow_9 : decode cX67_follow 9 = .ok (.iconst 5, 1) := by decide +kernel
theorem dX67_follow_10 : decode cX67_follow 10 = .ok (.if_icmp .ne 23, 3) := by decide +kernel
theorem dX67_follow_13 : decode cX67_follow 13 = .ok (.aload_n 0, 1) := by decide +kernel
theorem dX67_follow_14 : decode cX67_follow 14 = .ok (.bipush 10, 2) := by decide +kernel
theorem dX67_follow_16 : decode cX67_follow 16 = .ok (.aload_n 0, 1) := by decide +kernel
theorem dX67_follow_17 : decode cX67_follow 17 = .ok (.getfield 555, 3) := by decide +kernel
theorem dX67_follow_20 : decode cX67_follow 20 = .ok (.aload_n 0, 1) := by decide +kernel
theorem dX67_follow_21 : decode cX67_follow 21 = .ok (.getfield 558, 3) := by decide +kernel
theorem dX67_follow_24 : decode cX67_follow 24 = .ok (.aload_n 0, 1) := by decide +kernel
theorem dX67_follow_25 : decode cX67_follow 25 = .ok (.getfield 561, 3) := by decide +kernel
theorem dX67_follow_28 : decode cX67_follow 28 = .ok (.invokevirtual 531, 3) := by decide +kernel
theorem dX67_follow_31 : decode cX67_follow 31 = .ok (.iconst 0, 1) := by decide +kernel
theorem dX67_follow_32 : decode cX67_follow 32 = .ok (.ireturn, 1) := by decide +kernel
theorem dX67_follow_33 : decode cX67_follow 33 = .ok (.aload_n 0, 1) := by decide +kernel
theorem dX67_follow_34 : decode cX67_follow 34 = .ok (.iload_n 1, 1) := by decide +kernel
theorem dX67_follow_35 : decode cX67_follow 35 = .ok (.aload_n 0, 1) := by decide +kernel
theorem dX67_follow_36 : decode cX67_follow 36 = .ok (.getfield 555, 3) := by decide +kernel
theorem dX67_follow_39 : decode cX67_follow 39 = .ok (.aload_n 0, 1) := by decide +kernel
theorem dX67_follow_40 : decode cX67_follow 40 = .ok (.getfield 558, 3) := by decide +kernel
theorem dX67_follow_43 : decode cX67_follow 43 = .ok (.aload_n 0, 1) := by decide +kernel
theorem dX67_follow_44 : decode cX67_follow 44 = .ok (.getfield 561, 3) := by decide +kernel
theorem dX67_follow_47 : decode cX67_follow 47 = .ok (.iconst 1, 1) := by decide +kernel
theorem dX67_follow_48 : decode cX67_follow 48 = .ok (.invokevirtual 573, 3) := by decide +kernel
theorem dX67_follow_51 : decode cX67_follow 51 = .ok (.ifCond .ne 5, 3) := by decide +kernel
theorem dX67_follow_54 : decode cX67_follow 54 = .ok (.iconst 0, 1) := by decide +kernel
theorem dX67_follow_55 : decode cX67_follow 55 = .ok (.ireturn, 1) := by decide +kernel
theorem dX67_follow_56 : decode cX67_follow 56 = .ok (.aload_n 0, 1) := by decide +kernel
theorem dX67_follow_57 : decode cX67_follow 57 = .ok (.iload_n 1, 1) := by decide +kernel
theorem dX67_follow_58 : decode cX67_follow 58 = .ok (.aload_n 0, 1) := by decide +kernel
theorem dX67_follow_59 : decode cX67_follow 59 = .ok (.getfield 555, 3) := by decide +kernel
theorem dX67_follow_62 : decode cX67_follow 62 = .ok (.aload_n 0, 1) := by decide +kernel
theorem dX67_follow_63 : decode cX67_follow 63 = .ok (.getfield 558, 3) := by decide +kernel
theorem dX67_follow_66 : decode cX67_follow 66 = .ok (.invokevirtual 576, 3) := by decide +kernel
theorem dX67_follow_69 : decode cX67_follow 69 = .ok (.lstore 4, 2) := by decide +kernel
theorem dX67_follow_71 : decode cX67_follow 71 = .ok (.lload 4, 2) := by decide +kernel
theorem dX67_follow_73 : decode cX67_follow 73 = .ok (.bipush 33, 2) := by decide +kernel
theorem dX67_follow_75 : decode cX67_follow 75 = .ok (.lshr, 1) := by decide +kernel
theorem dX67_follow_76 : decode cX67_follow 76 = .ok (.ldc2_w 580, 3) := by decide +kernel
theorem dX67_follow_79 : decode cX67_follow 79 = .ok (.lcmp, 1) := by decide +kernel
theorem dX67_follow_80 : decode cX67_follow 80 = .ok (.ifCond .ne 17, 3) := by decide +kernel
theorem dX67_follow_83 : decode cX67_follow 83 = .ok (.lload 4, 2) := by decide +kernel
theorem dX67_follow_85 : decode cX67_follow 85 = .ok (.bipush 18, 2) := by decide +kernel
theorem dX67_follow_87 : decode cX67_follow 87 = .ok (.lshr, 1) := by decide +kernel
theorem dX67_follow_88 : decode cX67_follow 88 = .ok (.ldc2_w 371, 3) := by decide +kernel
theorem dX67_follow_91 : decode cX67_follow 91 = .ok (.land, 1) := by decide +kernel
theorem dX67_follow_92 : decode cX67_follow 92 = .ok (.lconst 0, 1) := by decide +kernel
theorem dX67_follow_93 : decode cX67_follow 93 = .ok (.lcmp, 1) := by decide +kernel
theorem dX67_follow_94 : decode cX67_follow 94 = .ok (.ifCond .eq 23, 3) := by decide +kernel
theorem dX67_follow_97 : decode cX67_follow 97 = .ok (.aload_n 0, 1) := by decide +kernel
theorem dX67_follow_98 : decode cX67_follow 98 = .ok (.bipush 9, 2) := by decide +kernel
theorem dX67_follow_100 : decode cX67_follow 100 = .ok (.aload_n 0, 1) := by decide +kernel
theorem dX67_follow_101 : decode cX67_follow 101 = .ok (.getfield 555, 3) := by decide +kernel
theorem dX67_follow_104 : decode cX67_follow 104 = .ok (.aload_n 0, 1) := by decide +kernel
theorem dX67_follow_105 : decode cX67_follow 105 = .ok (.getfield 558, 3) := by decide +kernel
theorem dX67_follow_108 : decode cX67_follow 108 = .ok (.aload_n 0, 1) := by decide +kernel
theorem dX67_follow_109 : decode cX67_follow 109 = .ok (.getfield 561, 3) := by decide +kernel
theorem dX67_follow_112 : decode cX67_follow 112 = .ok (.invokevirtual 531, 3) := by decide +kernel
theorem dX67_follow_115 : decode cX67_follow 115 = .ok (.iconst 0, 1) := by decide +kernel
theorem dX67_follow_116 : decode cX67_follow 116 = .ok (.ireturn, 1) := by decide +kernel
theorem dX67_follow_117 : decode cX67_follow 117 = .ok (.aload_n 0, 1) := by decide +kernel
theorem dX67_follow_118 : decode cX67_follow 118 = .ok (.getfield 555, 3) := by decide +kernel
theorem dX67_follow_121 : decode cX67_follow 121 = .ok (.bipush 8, 2) := by decide +kernel
theorem dX67_follow_123 : decode cX67_follow 123 = .ok (.if_icmp .ge 10, 3) := by decide +kernel
theorem dX67_follow_126 : decode cX67_follow 126 = .ok (.aload_n 0, 1) := by decide +kernel
theorem dX67_follow_127 : decode cX67_follow 127 = .ok (.getfield 555, 3) := by decide +kernel
theorem dX67_follow_130 : decode cX67_follow 130 = .ok (.goto 24, 3) := by decide +kernel
theorem dX67_follow_133 : decode cX67_follow 133 = .ok (.aload_n 0, 1) := by decide +kernel
theorem dX67_follow_134 : decode cX67_follow 134 = .ok (.getfield 23, 3) := by decide +kernel
theorem dX67_follow_137 : decode cX67_follow 137 = .ok (.iconst 3, 1) := by decide +kernel
theorem dX67_follow_138 : decode cX67_follow 138 = .ok (.aload_n 0, 1) := by decide +kernel
theorem dX67_follow_139 : decode cX67_follow 139 = .ok (.getfield 125, 3) := by decide +kernel
theorem dX67_follow_142 : decode cX67_follow 142 = .ok (.bipush 32, 2) := by decide +kernel
theorem dX67_follow_144 : decode cX67_follow 144 = .ok (.iload_n 1, 1) := by decide +kernel
theorem dX67_follow_145 : decode cX67_follow 145 = .ok (.imul, 1) := by decide +kernel
theorem dX67_follow_146 : decode cX67_follow 146 = .ok (.aload_n 0, 1) := by decide +kernel
theorem dX67_follow_147 : decode cX67_follow 147 = .ok (.getfield 555, 3) := by decide +kernel
theorem dX67_follow_150 : decode cX67_follow 150 = .ok (.iadd, 1) := by decide +kernel
theorem dX67_follow_151 : decode cX67_follow 151 = .ok (.iaload, 1) := by decide +kernel
theorem dX67_follow_152 : decode cX67_follow 152 = .ok (.imul, 1) := by decide +kernel
theorem dX67_follow_153 : decode cX67_follow 153 = .ok (.iaload, 1) := by decide +kernel
theorem dX67_follow_154 : decode cX67_follow 154 = .ok (.istore 6, 2) := by decide +kernel
theorem dX67_follow_156 : decode cX67_follow 156 = .ok (.lload 4, 2) := by decide +kernel
theorem dX67_follow_158 : decode cX67_follow 158 = .ok (.bipush 30, 2) := by decide +kernel
theorem dX67_follow_160 : decode cX67_follow 160 = .ok (.lshr, 1) := by decide +kernel
theorem dX67_follow_161 : decode cX67_follow 161 = .ok (.ldc2_w 476, 3) := by decide +kernel
theorem dX67_follow_164 : decode cX67_follow 164 = .ok (.land, 1) := by decide +kernel
theorem dX67_follow_165 : decode cX67_follow 165 = .ok (.l2i, 1) := by decide +kernel
theorem dX67_follow_166 : decode cX67_follow 166 = .ok (.istore 7, 2) := by decide +kernel
theorem dX67_follow_168 : decode cX67_follow 168 = .ok (.aload_n 0, 1) := by decide +kernel
theorem dX67_follow_169 : decode cX67_follow 169 = .ok (.iload 7, 2) := by decide +kernel
theorem dX67_follow_171 : decode cX67_follow 171 = .ok (.aload_n 0, 1) := by decide +kernel
theorem dX67_follow_172 : decode cX67_follow 172 = .ok (.getfield 561, 3) := by decide +kernel
theorem dX67_follow_175 : decode cX67_follow 175 = .ok (.if_icmp .le 8, 3) := by decide +kernel
theorem dX67_follow_178 : decode cX67_follow 178 = .ok (.iload 7, 2) := by decide +kernel
theorem dX67_follow_180 : decode cX67_follow 180 = .ok (.goto 7, 3) := by decide +kernel
theorem dX67_follow_183 : decode cX67_follow 183 = .ok (.aload_n 0, 1) := by decide +kernel
theorem dX67_follow_184 : decode cX67_follow 184 = .ok (.getfield 561, 3) := by decide +kernel
theorem dX67_follow_187 : decode cX67_follow 187 = .ok (.putfield 561, 3) := by decide +kernel
theorem dX67_follow_190 : decode cX67_follow 190 = .ok (.aload_n 0, 1) := by decide +kernel
theorem dX67_follow_191 : decode cX67_follow 191 = .ok (.iload 6, 2) := by decide +kernel
theorem dX67_follow_193 : decode cX67_follow 193 = .ok (.aload_n 0, 1) := by decide +kernel
theorem dX67_follow_194 : decode cX67_follow 194 = .ok (.getfield 561, 3) := by decide +kernel
theorem dX67_follow_197 : decode cX67_follow 197 = .ok (.if_icmp .le 8, 3) := by decide +kernel
theorem dX67_follow_200 : decode cX67_follow 200 = .ok (.iload 6, 2) := by decide +kernel
theorem dX67_follow_202 : decode cX67_follow 202 = .ok (.goto 7, 3) := by decide +kernel
theorem dX67_follow_205 : decode cX67_follow 205 = .ok (.aload_n 0, 1) := by decide +kernel
theorem dX67_follow_206 : decode cX67_follow 206 = .ok (.getfield 561, 3) := by decide +kernel
theorem dX67_follow_209 : decode cX67_follow 209 = .ok (.putfield 561, 3) := by decide +kernel
theorem dX67_follow_212 : decode cX67_follow 212 = .ok (.aload_n 0, 1) := by decide +kernel
theorem dX67_follow_213 : decode cX67_follow 213 = .ok (.lload 4, 2) := by decide +kernel
theorem dX67_follow_215 : decode cX67_follow 215 = .ok (.bipush 24, 2) := by decide +kernel
theorem dX67_follow_217 : decode cX67_follow 217 = .ok (.lshr, 1) := by decide +kernel
theorem dX67_follow_218 : decode cX67_follow 218 = .ok (.ldc2_w 445, 3) := by decide +kernel
theorem dX67_follow_221 : decode cX67_follow 221 = .ok (.land, 1) := by decide +kernel
theorem dX67_follow_222 : decode cX67_follow 222 = .ok (.l2i, 1) := by decide +kernel
theorem dX67_follow_223 : decode cX67_follow 223 = .ok (.putfield 555, 3) := by decide +kernel
theorem dX67_follow_226 : decode cX67_follow 226 = .ok (.aload_n 0, 1) := by decide +kernel
theorem dX67_follow_227 : decode cX67_follow 227 = .ok (.lload 4, 2) := by decide +kernel
theorem dX67_follow_229 : decode cX67_follow 229 = .ok (.ldc2_w 582, 3) := by decide +kernel
theorem dX67_follow_232 : decode cX67_follow 232 = .ok (.land, 1) := by decide +kernel
theorem dX67_follow_233 : decode cX67_follow 233 = .ok (.l2i, 1) := by decide +kernel
theorem dX67_follow_234 : decode cX67_follow 234 = .ok (.putfield 558, 3) := by decide +kernel
theorem dX67_follow_237 : decode cX67_follow 237 = .ok (.lload 4, 2) := by decide +kernel
theorem dX67_follow_239 : decode cX67_follow 239 = .ok (.bipush 29, 2) := by decide +kernel
theorem dX67_follow_241 : decode cX67_follow 241 = .ok (.lshr, 1) := by decide +kernel
theorem dX67_follow_242 : decode cX67_follow 242 = .ok (.lconst 1, 1) := by decide +kernel
theorem dX67_follow_243 : decode cX67_follow 243 = .ok (.land, 1) := by decide +kernel
theorem dX67_follow_244 : decode cX67_follow 244 = .ok (.lconst 1, 1) := by decide +kernel
theorem dX67_follow_245 : decode cX67_follow 245 = .ok (.lcmp, 1) := by decide +kernel
theorem dX67_follow_246 : decode cX67_follow 246 = .ok (.ifCond .ne 7, 3) := by decide +kernel
theorem dX67_follow_249 : decode cX67_follow 249 = .ok (.iconst 1, 1) := by decide +kernel
theorem dX67_follow_250 : decode cX67_follow 250 = .ok (.goto 4, 3) := by decide +kernel
theorem dX67_follow_253 : decode cX67_follow 253 = .ok (.iconst 0, 1) := by decide +kernel
theorem dX67_follow_254 : decode cX67_follow 254 = .ok (.istore_n 2, 1) := by decide +kernel
theorem dX67_follow_255 : decode cX67_follow 255 = .ok (.iinc 3 1, 3) := by decide +kernel
theorem dX67_follow_258 : decode cX67_follow 258 = .ok (.goto (-254), 3) := by decide +kernel
theorem dX67_follow_261 : decode cX67_follow 261 = .ok (.iconst 1, 1) := by decide +kernel
theorem dX67_follow_262 : decode cX67_follow 262 = .ok (.ireturn, 1) := by decide +kernel
theorem zy_X67_follow : yX67_follow.cls ≠ "java/lang/invoke/MethodHandle" ∧ yX67_follow.cls ≠ "java/lang/invoke/VarHandle" ∧ (parseMethodDescriptor yX67_follow.desc).map (fun d => d.parameters.length) = some 1 := by decide +kernel
theorem w_fX67_follow_J97 {K : zK} (E : zE K cX67_follow "RingHouseModel" (some .boolean) 3) (hN : zNl K = 8) (hT : zTr K = (some 0)) : zR K 97 [(0, 69, 0)] [] (fX67_follow_J97) := by
  refine r_aload_n E dX67_follow_97 rfl 0 rfl ?_
  refine r_bipush E dX67_follow_98 (by decide) (zkI (by decide) (by decide)) ?_
  refine r_aload_n E dX67_follow_100 rfl 0 rfl ?_
  refine r_get E zc_69 zt_6878 dX67_follow_101 q3293 zr_69 (zg_6878 _) (by decide) (fun v8 => ?_)
  refine r_aload_n E dX67_follow_104 rfl 0 rfl ?_
  refine r_get E zc_69 zt_6879 dX67_follow_105 q3294 zr_69 (zg_6879 _) (by decide) (fun v9 => ?_)
  refine r_aload_n E dX67_follow_108 rfl 0 rfl ?_
  refine r_get E zc_69 zt_6880 dX67_follow_109 q3295 zr_69 (zg_6880 _) (by decide) (fun v10 => ?_)
  refine r_callV E [(0, 9), (0, v8), (0, v9), (0, v10)] [] rfl zc_69 zr_69 (fun o _ => ⟨_, zw_X67.1 o, rfl⟩) (lw_V q3851 q3853 qs123 q294 q3854) dX67_follow_112 zy_X67_fail rfl (by omega) (by decide) (Nat.le_of_ble_eq_true rfl) (by decide) (fun l G => k_fX67_fail l G 9 v8 v9 v10) (fun _ => ?_)
  refine r_iconst E dX67_follow_115 (zkI (by decide) (by decide)) ?_
  exact r_zreturn E rfl hT (by decide) dX67_follow_116
theorem w_fX67_follow_J254 {K : zK} (E : zE K cX67_follow "RingHouseModel" (some .boolean) 3) (hN : zNl K = 8) (hT : zTr K = (some 0)) (x1 : Int) (x3 : Int) (s0 : Int) {r4 : Int × Int → zX} (hr4 : ∀ s : Int × Int, zR K 4 [(0, 69, 0), (1, 0, x1), (2, 0, s.1), (3, 0, s.2)] [] (r4 s)) : zR K 254 [(0, 69, 0), (1, 0, x1), (3, 0, x3)] [(0, s0)] (fX67_follow_J254 r4 x1 x3 s0) := by
  refine r_istore_n (ls' := [(2, 0, s0), (0, 69, 0), (1, 0, x1), (3, 0, x3)]) E dX67_follow_254 rfl (by rw [hN]; decide) rfl ?_
  refine r_iinc (ls' := fun v21 => [(3, 0, v21), (2, 0, s0), (0, 69, 0), (1, 0, x1)]) E 3 rfl (by rw [hN]; decide) (fun _ => rfl) dX67_follow_255 (fun v21 _ => ?_)
  refine r_goto E 4 (by decide) dX67_follow_258 ?_
  refine r_pick E [2, 3, 1, 0] rfl ?_
  exact hr4 (s0, v21)
theorem w_fX67_follow_J209 {K : zK} (E : zE K cX67_follow "RingHouseModel" (some .boolean) 3) (hN : zNl K = 8) (hT : zTr K = (some 0)) (x1 : Int) (x3 : Int) (x4 : Int) (s1 : Int) {r4 : Int × Int → zX} (hr4 : ∀ s : Int × Int, zR K 4 [(0, 69, 0), (1, 0, x1), (2, 0, s.1), (3, 0, s.2)] [] (r4 s)) : zR K 209 [(0, 69, 0), (1, 0, x1), (3, 0, x3), (4, 1, x4)] [(0, s1), (69, 0)] (fX67_follow_J209 r4 x1 x3 x4 s1) := by
  refine r_put E zc_69 zt_6880 zo_6880 dX67_follow_209 q3295 zr_69 zw_X67 zp_6880 (fun _ => rfl) (fun _ => rfl) (by decide) ?_
  refine r_aload_n E dX67_follow_212 rfl 0 rfl ?_
  refine r_lload E dX67_follow_213 3 rfl ?_
  refine r_bipush E dX67_follow_215 (by decide) (zkI (by decide) (by decide)) ?_
  refine r_lshr (P := 16777216) E (by decide) dX67_follow_217 ?_
  refine r_ldc2 (v := 31) E dX67_follow_218 q3631 (by decide) (zkJ (by decide) (by decide)) ?_
  refine r_lmask (P := 32) E 5 (by decide) (by decide) (by decide) dX67_follow_221 ?_
  refine r_l2i E dX67_follow_222 ?_
  refine r_put E zc_69 zt_6878 zo_6878 dX67_follow_223 q3293 zr_69 zw_X67 zp_6878 (fun _ => rfl) (fun _ => rfl) (by decide) ?_
  refine r_aload_n E dX67_follow_226 rfl 0 rfl ?_
  refine r_lload E dX67_follow_227 3 rfl ?_
  refine r_ldc2 (v := 262143) E dX67_follow_229 q3807 (by decide) (zkJ (by decide) (by decide)) ?_
  refine r_lmask (P := 262144) E 18 (by decide) (by decide) (by decide) dX67_follow_232 ?_
  refine r_l2i E dX67_follow_233 ?_
  refine r_put E zc_69 zt_6879 zo_6879 dX67_follow_234 q3294 zr_69 zw_X67 zp_6879 (fun _ => rfl) (fun _ => rfl) (by decide) ?_
  refine r_lload E dX67_follow_237 3 rfl ?_
  refine r_bipush E dX67_follow_239 (by decide) (zkI (by decide) (by decide)) ?_
  refine r_lshr (P := 536870912) E (by decide) dX67_follow_241 ?_
  refine r_lconst (v := 1) E dX67_follow_242 (by decide) (zkJ (by decide) (by decide)) ?_
  refine r_lmask (P := 2) E 1 (by decide) (by decide) (by decide) dX67_follow_243 ?_
  refine r_lconst (v := 1) E dX67_follow_244 (by decide) (zkJ (by decide) (by decide)) ?_
  refine r_lcmp_ne E 253 (by decide) dX67_follow_245 dX67_follow_246 (fun _ => ?_) (fun _ => ?_)
  · refine r_iconst E dX67_follow_253 (zkI (by decide) (by decide)) ?_
    refine r_pick E [0, 1, 2] rfl ?_
    exact w_fX67_follow_J254 E hN hT x1 x3 0 hr4
  · refine r_iconst E dX67_follow_249 (zkI (by decide) (by decide)) ?_
    refine r_goto E 254 (by decide) dX67_follow_250 ?_
    refine r_pick E [0, 1, 2] rfl ?_
    exact w_fX67_follow_J254 E hN hT x1 x3 1 hr4
theorem w_fX67_follow_J187 {K : zK} (E : zE K cX67_follow "RingHouseModel" (some .boolean) 3) (hN : zNl K = 8) (hT : zTr K = (some 0)) (x1 : Int) (x3 : Int) (x4 : Int) (x6 : Int) (s1 : Int) {r4 : Int × Int → zX} (hr4 : ∀ s : Int × Int, zR K 4 [(0, 69, 0), (1, 0, x1), (2, 0, s.1), (3, 0, s.2)] [] (r4 s)) : zR K 187 [(0, 69, 0), (1, 0, x1), (3, 0, x3), (4, 1, x4), (6, 0, x6)] [(0, s1), (69, 0)] (fX67_follow_J187 r4 x1 x3 x4 x6 s1) := by
  refine r_put E zc_69 zt_6880 zo_6880 dX67_follow_187 q3295 zr_69 zw_X67 zp_6880 (fun _ => rfl) (fun _ => rfl) (by decide) ?_
  refine r_aload_n E dX67_follow_190 rfl 0 rfl ?_
  refine r_iload E dX67_follow_191 4 rfl ?_
  refine r_aload_n E dX67_follow_193 rfl 0 rfl ?_
  refine r_get E zc_69 zt_6880 dX67_follow_194 q3295 zr_69 (zg_6880 _) (by decide) (fun v19 => ?_)
  refine r_icmp_le E 205 (by decide) dX67_follow_197 (fun _ => ?_) (fun _ => ?_)
  · refine r_aload_n E dX67_follow_205 rfl 0 rfl ?_
    refine r_get E zc_69 zt_6880 dX67_follow_206 q3295 zr_69 (zg_6880 _) (by decide) (fun v20 => ?_)
    refine r_pick E [0, 1, 2, 3] rfl ?_
    exact w_fX67_follow_J209 E hN hT x1 x3 x4 v20 hr4
  · refine r_iload E dX67_follow_200 4 rfl ?_
    refine r_goto E 209 (by decide) dX67_follow_202 ?_
    refine r_pick E [0, 1, 2, 3] rfl ?_
    exact w_fX67_follow_J209 E hN hT x1 x3 x4 x6 hr4
theorem w_fX67_follow_J154 {K : zK} (E : zE K cX67_follow "RingHouseModel" (some .boolean) 3) (hN : zNl K = 8) (hT : zTr K = (some 0)) (x1 : Int) (x3 : Int) (x4 : Int) (s0 : Int) {r4 : Int × Int → zX} (hr4 : ∀ s : Int × Int, zR K 4 [(0, 69, 0), (1, 0, x1), (2, 0, s.1), (3, 0, s.2)] [] (r4 s)) : zR K 154 [(0, 69, 0), (1, 0, x1), (3, 0, x3), (4, 1, x4)] [(0, s0)] (fX67_follow_J154 r4 x1 x3 x4 s0) := by
  refine r_istore (ls' := [(6, 0, s0), (0, 69, 0), (1, 0, x1), (3, 0, x3), (4, 1, x4)]) E dX67_follow_154 (by rw [hN]; decide) rfl ?_
  refine r_lload E dX67_follow_156 4 rfl ?_
  refine r_bipush E dX67_follow_158 (by decide) (zkI (by decide) (by decide)) ?_
  refine r_lshr (P := 1073741824) E (by decide) dX67_follow_160 ?_
  refine r_ldc2 (v := 7) E dX67_follow_161 q3709 (by decide) (zkJ (by decide) (by decide)) ?_
  refine r_lmask (P := 8) E 3 (by decide) (by decide) (by decide) dX67_follow_164 ?_
  refine r_l2i E dX67_follow_165 ?_
  refine r_let E (fun v16 ev16 => ?_)
  refine r_istore (ls' := [(7, 0, v16), (6, 0, s0), (0, 69, 0), (1, 0, x1), (3, 0, x3), (4, 1, x4)]) E dX67_follow_166 (by rw [hN]; decide) rfl ?_
  refine r_aload_n E dX67_follow_168 rfl 2 rfl ?_
  refine r_iload E dX67_follow_169 0 rfl ?_
  refine r_aload_n E dX67_follow_171 rfl 2 rfl ?_
  refine r_get E zc_69 zt_6880 dX67_follow_172 q3295 zr_69 (zg_6880 _) (by decide) (fun v17 => ?_)
  refine r_icmp_le E 183 (by decide) dX67_follow_175 (fun _ => ?_) (fun _ => ?_)
  · refine r_aload_n E dX67_follow_183 rfl 2 rfl ?_
    refine r_get E zc_69 zt_6880 dX67_follow_184 q3295 zr_69 (zg_6880 _) (by decide) (fun v18 => ?_)
    refine r_pick E [2, 3, 4, 5, 1] rfl ?_
    exact w_fX67_follow_J187 E hN hT x1 x3 x4 s0 v18 hr4
  · refine r_iload E dX67_follow_178 0 rfl ?_
    refine r_goto E 187 (by decide) dX67_follow_180 ?_
    refine r_pick E [2, 3, 4, 5, 1] rfl ?_
    exact w_fX67_follow_J187 E hN hT x1 x3 x4 s0 v16 hr4
theorem w_fX67_follow_J13 {K : zK} (E : zE K cX67_follow "RingHouseModel" (some .boolean) 3) (hN : zNl K = 8) (hT : zTr K = (some 0)) : zR K 13 [(0, 69, 0)] [] (fX67_follow_J13) := by
  refine r_aload_n E dX67_follow_13 rfl 0 rfl ?_
  refine r_bipush E dX67_follow_14 (by decide) (zkI (by decide) (by decide)) ?_
  refine r_aload_n E dX67_follow_16 rfl 0 rfl ?_
  refine r_get E zc_69 zt_6878 dX67_follow_17 q3293 zr_69 (zg_6878 _) (by decide) (fun v23 => ?_)
  refine r_aload_n E dX67_follow_20 rfl 0 rfl ?_
  refine r_get E zc_69 zt_6879 dX67_follow_21 q3294 zr_69 (zg_6879 _) (by decide) (fun v24 => ?_)
  refine r_aload_n E dX67_follow_24 rfl 0 rfl ?_
  refine r_get E zc_69 zt_6880 dX67_follow_25 q3295 zr_69 (zg_6880 _) (by decide) (fun v25 => ?_)
  refine r_callV E [(0, 10), (0, v23), (0, v24), (0, v25)] [] rfl zc_69 zr_69 (fun o _ => ⟨_, zw_X67.1 o, rfl⟩) (lw_V q3851 q3853 qs123 q294 q3854) dX67_follow_28 zy_X67_fail rfl (by omega) (by decide) (Nat.le_of_ble_eq_true rfl) (by decide) (fun l G => k_fX67_fail l G 10 v23 v24 v25) (fun _ => ?_)
  refine r_iconst E dX67_follow_31 (zkI (by decide) (by decide)) ?_
  exact r_zreturn E rfl hT (by decide) dX67_follow_32
theorem w_fX67_follow_B4 {K : zK} (E : zE K cX67_follow "RingHouseModel" (some .boolean) 3) (hN : zNl K = 8) (hT : zTr K = (some 0)) (x1 : Int) : ∀ r4 : Int × Int → zX, (∀ s : Int × Int, zR K 4 [(0, 69, 0), (1, 0, x1), (2, 0, s.1), (3, 0, s.2)] [] (r4 s)) → ∀ s : Int × Int, zR K 4 [(0, 69, 0), (1, 0, x1), (2, 0, s.1), (3, 0, s.2)] [] (fX67_follow_B4 x1 r4 s) := by
  intro r4 hr4 s
  obtain ⟨x2, x3⟩ := s
  refine r_iload_n E dX67_follow_4 rfl 2 rfl ?_
  refine r_if_eq E 261 (by decide) dX67_follow_5 (fun _ => ?_) (fun _ => ?_)
  · refine r_iconst E dX67_follow_261 (zkI (by decide) (by decide)) ?_
    exact r_zreturn E rfl hT (by decide) dX67_follow_262
  · refine r_iload_n E dX67_follow_8 rfl 3 rfl ?_
    refine r_iconst E dX67_follow_9 (zkI (by decide) (by decide)) ?_
    refine r_icmp_ne E 33 (by decide) dX67_follow_10 (fun _ => ?_) (fun _ => ?_)
    · refine r_aload_n E dX67_follow_33 rfl 0 rfl ?_
      refine r_iload_n E dX67_follow_34 rfl 1 rfl ?_
      refine r_aload_n E dX67_follow_35 rfl 0 rfl ?_
      refine r_get E zc_69 zt_6878 dX67_follow_36 q3293 zr_69 (zg_6878 _) (by decide) (fun v1 => ?_)
      refine r_aload_n E dX67_follow_39 rfl 0 rfl ?_
      refine r_get E zc_69 zt_6879 dX67_follow_40 q3294 zr_69 (zg_6879 _) (by decide) (fun v2 => ?_)
      refine r_aload_n E dX67_follow_43 rfl 0 rfl ?_
      refine r_get E zc_69 zt_6880 dX67_follow_44 q3295 zr_69 (zg_6880 _) (by decide) (fun v3 => ?_)
      refine r_iconst E dX67_follow_47 (zkI (by decide) (by decide)) ?_
      refine r_callV E [(0, x1), (0, v1), (0, v2), (0, v3), (0, 1)] [] rfl zc_69 zr_69 (fun o _ => ⟨_, zw_X67.1 o, rfl⟩) (lw_V q3839 q3841 qs120 q294 q3842) dX67_follow_48 zy_X67_access rfl (by omega) (by decide) (Nat.le_of_ble_eq_true rfl) (by decide) (fun l G => k_fX67_access l G x1 v1 v2 v3 1) (fun v4 => ?_)
      refine r_if_ne E 56 (by decide) dX67_follow_51 (fun _ => ?_) (fun _ => ?_)
      · refine r_aload_n E dX67_follow_56 rfl 0 rfl ?_
        refine r_iload_n E dX67_follow_57 rfl 1 rfl ?_
        refine r_aload_n E dX67_follow_58 rfl 0 rfl ?_
        refine r_get E zc_69 zt_6878 dX67_follow_59 q3293 zr_69 (zg_6878 _) (by decide) (fun v5 => ?_)
        refine r_aload_n E dX67_follow_62 rfl 0 rfl ?_
        refine r_get E zc_69 zt_6879 dX67_follow_63 q3294 zr_69 (zg_6879 _) (by decide) (fun v6 => ?_)
        refine r_callV E [(0, x1), (0, v5), (0, v6)] [] rfl zc_69 zr_69 (fun o _ => ⟨_, zw_X67.1 o, rfl⟩) (lw_V q3855 q3857 qs124 q294 q3858) dX67_follow_66 zy_X67_wordAt rfl (by omega) (by decide) (Nat.le_of_ble_eq_true rfl) (by decide) (fun l G => k_fX67_wordAt l G x1 v5 v6) (fun v7 => ?_)
        refine r_lstore (ls' := [(4, 1, v7), (0, 69, 0), (1, 0, x1), (2, 0, x2), (3, 0, x3)]) E dX67_follow_69 (by rw [hN]; decide) rfl ?_
        refine r_lload E dX67_follow_71 0 rfl ?_
        refine r_bipush E dX67_follow_73 (by decide) (zkI (by decide) (by decide)) ?_
        refine r_lshr (P := 8589934592) E (by decide) dX67_follow_75 ?_
        refine r_ldc2 (v := 5) E dX67_follow_76 q3912 (by decide) (zkJ (by decide) (by decide)) ?_
        refine r_lcmp_ne E 97 (by decide) dX67_follow_79 dX67_follow_80 (fun _ => ?_) (fun _ => ?_)
        · refine r_pick E [1] rfl ?_
          exact w_fX67_follow_J97 E hN hT
        · refine r_lload E dX67_follow_83 0 rfl ?_
          refine r_bipush E dX67_follow_85 (by decide) (zkI (by decide) (by decide)) ?_
          refine r_lshr (P := 262144) E (by decide) dX67_follow_87 ?_
          refine r_ldc2 (v := 63) E dX67_follow_88 q3629 (by decide) (zkJ (by decide) (by decide)) ?_
          refine r_lmask (P := 64) E 6 (by decide) (by decide) (by decide) dX67_follow_91 ?_
          refine r_lconst (v := 0) E dX67_follow_92 (by decide) (zkJ (by decide) (by decide)) ?_
          refine r_lcmp_eq E 117 (by decide) dX67_follow_93 dX67_follow_94 (fun _ => ?_) (fun _ => ?_)
          · refine r_aload_n E dX67_follow_117 rfl 1 rfl ?_
            refine r_get E zc_69 zt_6878 dX67_follow_118 q3293 zr_69 (zg_6878 _) (by decide) (fun v12 => ?_)
            refine r_bipush E dX67_follow_121 (by decide) (zkI (by decide) (by decide)) ?_
            refine r_icmp_ge E 133 (by decide) dX67_follow_123 (fun _ => ?_) (fun _ => ?_)
            · refine r_aload_n E dX67_follow_133 rfl 1 rfl ?_
              refine r_gec (y := 0) E zc_69 dX67_follow_134 q3219 zr_69 (zh_6804 (by decide)) (by decide) ?_
              refine r_iconst E dX67_follow_137 (zkI (by decide) (by decide)) ?_
              refine r_aload_n E dX67_follow_138 rfl 1 rfl ?_
              refine r_gec (y := 0) E zc_69 dX67_follow_139 q3253 zr_69 (zh_6838 (by decide)) (by decide) ?_
              refine r_bipush E dX67_follow_142 (by decide) (zkI (by decide) (by decide)) ?_
              refine r_iload_n E dX67_follow_144 rfl 2 rfl ?_
              refine r_imul E dX67_follow_145 ?_
              refine r_aload_n E dX67_follow_146 rfl 1 rfl ?_
              refine r_get E zc_69 zt_6878 dX67_follow_147 q3293 zr_69 (zg_6878 _) (by decide) (fun v13 => ?_)
              refine r_iadd E dX67_follow_150 ?_
              refine r_iaload E zc_6838 za_6838 zt_6838 zx_6838 rfl rfl dX67_follow_151 (by decide) (fun v14 => ?_)
              refine r_imul E dX67_follow_152 ?_
              refine r_iaload E zc_6804 za_6804 zt_6804 zx_6804 rfl rfl dX67_follow_153 (by decide) (fun v15 => ?_)
              refine r_pick E [1, 2, 4, 0] rfl ?_
              exact w_fX67_follow_J154 E hN hT x1 x3 v7 v15 hr4
            · refine r_aload_n E dX67_follow_126 rfl 1 rfl ?_
              refine r_get E zc_69 zt_6878 dX67_follow_127 q3293 zr_69 (zg_6878 _) (by decide) (fun v22 => ?_)
              refine r_goto E 154 (by decide) dX67_follow_130 ?_
              refine r_pick E [1, 2, 4, 0] rfl ?_
              exact w_fX67_follow_J154 E hN hT x1 x3 v7 v22 hr4
          · refine r_pick E [1] rfl ?_
            exact w_fX67_follow_J97 E hN hT
      · refine r_iconst E dX67_follow_54 (zkI (by decide) (by decide)) ?_
        exact r_zreturn E rfl hT (by decide) dX67_follow_55
    · refine r_pick E [0] rfl ?_
      exact w_fX67_follow_J13 E hN hT
theorem w_fX67_follow {K : zK} (E : zE K cX67_follow "RingHouseModel" (some .boolean) 3) (hN : zNl K = 8) (hT : zTr K = (some 0)) (x1 : Int) : zR K 0 [(0, 69, 0), (1, 0, x1)] [] (fX67_follow x1) := by
  refine r_iconst E dX67_follow_0 (zkI (by decide) (by decide)) ?_
  refine r_istore_n (ls' := [(2, 0, 1), (0, 69, 0), (1, 0, x1)]) E dX67_follow_1 rfl (by rw [hN]; decide) rfl ?_
  refine r_iconst E dX67_follow_2 (zkI (by decide) (by decide)) ?_
  refine r_istore_n (ls' := [(3, 0, 0), (2, 0, 1), (0, 69, 0), (1, 0, x1)]) E dX67_follow_3 rfl (by rw [hN]; decide) rfl ?_
  refine r_pick E [2, 3, 1, 0] rfl ?_
  exact r_loop (L := fun s => [(0, 69, 0), (1, 0, x1), (2, 0, s.1), (3, 0, s.2)]) (w_fX67_follow_B4 E hN hT x1) zBIG (1, 0)
theorem k_fX67_follow (l : Launch) (G : zG) (x1 : Int) : zCt l G yX67_follow cX67_follow 8 (some .boolean) 3 [(69, 0), (0, x1)] (some 0) (fX67_follow x1) := zCt.of (by decide) (Nat.le_of_ble_eq_true rfl) (fun K E _ _ hN hT => w_fX67_follow E hN hT x1)
theorem dX67_find_2_0 : decode cX67_find_2 0 = .ok (.aload_n 0, 1) := by decide +kernel
theorem dX67_find_2_1 : decode cX67_find_2 1 = .ok (.getfield 549, 3) := by decide +kernel
theorem dX67_find_2_4 : decode cX67_find_2 4 = .ok (.ifCond .le 29, 3) := by decide +kernel
theorem dX67_find_2_7 : decode cX67_find_2 7 = .ok (.aload_n 0, 1) := by decide +kernel
theorem dX67_find_2_8 : decode cX67_find_2 8 = .ok (.getfield 552, 3) := by decide +kernel
theorem dX67_find_2_11 : decode cX67_find_2 11 = .ok (.aload_n 0, 1) := by decide +kernel
theorem dX67_find_2_12 : decode cX67_find_2 12 = .ok (.getfield 92, 3) := by decide +kernel
theorem dX67_find_2_15 : decode cX67_find_2 15 = .ok (.iconst 4, 1) := by decide +kernel
theorem dX67_find_2_16 : decode cX67_find_2 16 = .ok (.iload_n 1, 1) := by decide +kernel
theorem dX67_find_2_17 : decode cX67_find_2 17 = .ok (.imul, 1) := by decide +kernel
theorem dX67_find_2_18 : decode cX67_find_2 18 = .ok (.aload_n 0, 1) := by decide +kernel
theorem dX67_find_2_19 : decode cX67_find_2 19 = .ok (.getfield 549, 3) := by decide +kernel
theorem dX67_find_2_22 : decode cX67_find_2 22 = .ok (.iadd, 1) := by decide +kernel
theorem dX67_find_2_23 : decode cX67_find_2 23 = .ok (.iconst 1, 1) := by decide +kernel
theorem dX67_find_2_24 : decode cX67_find_2 24 = .ok (.isub, 1) := by decide +kernel
theorem dX67_find_2_25 : decode cX67_find_2 25 = .ok (.iaload, 1) := by decide +kernel
theorem dX67_find_2_26 : decode cX67_find_2 26 = .ok (.iadd, 1) := by decide +kernel
theorem dX67_find_2_27 : decode cX67_find_2 27 = .ok (.ldc 56, 2) := by decide +kernel
theorem dX67_find_2_29 : decode cX67_find_2 29 = .ok (.irem, 1) := by decide +kernel
theorem dX67_find_2_30 : decode cX67_find_2 30 = .ok (.goto 7, 3) := by decide +kernel
theorem dX67_find_2_33 : decode cX67_find_2 33 = .ok (.aload_n 0, 1) := by decide +kernel
theorem dX67_find_2_34 : decode cX67_find_2 34 = .ok (.getfield 552, 3) := by decide +kernel
theorem dX67_find_2_37 : decode cX67_find_2 37 = .ok (.istore_n 2, 1) := by decide +kernel
theorem dX67_find_2_38 : decode cX67_find_2 38 = .ok (.aload_n 0, 1) := by decide +kernel
theorem dX67_find_2_39 : decode cX67_find_2 39 = .ok (.getfield 546, 3) := by decide +kernel
theorem dX67_find_2_42 : decode cX67_find_2 42 = .ok (.iconst 3, 1) := by decide +kernel
theorem dX67_find_2_43 : decode cX67_find_2 43 = .ok (.if_icmp .le 12, 3) := by decide +kernel
theorem dX67_find_2_46 : decode cX67_find_2 46 = .ok (.aload_n 0, 1) := by decide +kernel
theorem dX67_find_2_47 : decode cX67_find_2 47 = .ok (.getfield 546, 3) := by decide +kernel
theorem dX67_find_2_50 : decode cX67_find_2 50 = .ok (.iconst 4, 1) := by decide +kernel
theorem dX67_find_2_51 : decode cX67_find_2 51 = .ok (.isub, 1) := by decide +kernel
theorem dX67_find_2_52 : decode cX67_find_2 52 = .ok (.goto 7, 3) := by decide +kernel
theorem dX67_find_2_55 : decode cX67_find_2 55 = .ok (.aload_n 0, 1) := by decide +kernel
theorem dX67_find_2_56 : decode cX67_find_2 56 = .ok (.getfield 546, 3) := by decide +kernel
theorem dX67_find_2_59 : decode cX67_find_2 59 = .ok (.istore_n 3, 1) := by decide +kernel
theorem dX67_find_2_60 : decode cX67_find_2 60 = .ok (.aload_n 0, 1) := by decide +kernel
theorem dX67_find_2_61 : decode cX67_find_2 61 = .ok (.aload_n 0, 1) := by decide +kernel
theorem dX67_find_2_62 : decode cX67_find_2 62 = .ok (.getfield 104, 3) := by decide +kernel
theorem dX67_find_2_65 : decode cX67_find_2 65 = .ok (.iload_n 1, 1) := by decide +kernel
theorem dX67_find_2_66 : decode cX67_find_2 66 = .ok (.iaload, 1) := by decide +kernel
theorem dX67_find_2_67 : decode cX67_find_2 67 = .ok (.putfield 555, 3) := by decide +kernel
theorem dX67_find_2_70 : decode cX67_find_2 70 = .ok (.aload_n 0, 1) := by decide +kernel
theorem dX67_find_2_71 : decode cX67_find_2 71 = .ok (.iload_n 2, 1) := by decide +kernel
theorem dX67_find_2_72 : decode cX67_find_2 72 = .ok (.putfield 558, 3) := by decide +kernel
theorem dX67_find_2_75 : decode cX67_find_2 75 = .ok (.aload_n 0, 1) := by decide +kernel
theorem dX67_find_2_76 : decode cX67_find_2 76 = .ok (.aload_n 0, 1) := by decide +kernel
theorem dX67_find_2_77 : decode cX67_find_2 77 = .ok (.getfield 110, 3) := by decide +kernel
theorem dX67_find_2_80 : decode cX67_find_2 80 = .ok (.iload_n 1, 1) := by decide +kernel
theorem dX67_find_2_81 : decode cX67_find_2 81 = .ok (.iaload, 1) := by decide +kernel
theorem dX67_find_2_82 : decode cX67_find_2 82 = .ok (.putfield 561, 3) := by decide +kernel
theorem dX67_find_2_85 : decode cX67_find_2 85 = .ok (.aload_n 0, 1) := by decide +kernel
theorem dX67_find_2_86 : decode cX67_find_2 86 = .ok (.getfield 546, 3) := by decide +kernel
theorem dX67_find_2_89 : decode cX67_find_2 89 = .ok (.iconst 2, 1) := by decide +kernel
theorem dX67_find_2_90 : decode cX67_find_2 90 = .ok (.if_icmp .ne 5, 3) := by decide +kernel
theorem dX67_find_2_93 : decode cX67_find_2 93 = .ok (.iconst 1, 1) := by decide +kernel
theorem dX67_find_2_94 : decode cX67_find_2 94 = .ok (.ireturn, 1) := by decide +kernel
theorem dX67_find_2_95 : decode cX67_find_2 95 = .ok (.iload_n 3, 1) := by decide +kernel
theorem dX67_find_2_96 : decode cX67_find_2 96 = .ok (.iconst 1, 1) := by decide +kernel
theorem dX67_find_2_97 : decode cX67_find_2 97 = .ok (.if_icmp .ne 80, 3) := by decide +kernel
theorem dX67_find_2_100 : decode cX67_find_2 100 = .ok (.bipush 8, 2) := by decide +kernel
theorem dX67_find_2_102 : decode cX67_find_2 102 = .ok (.iload_n 1, 1) := by decide +kernel
theorem dX67_find_2_103 : decode cX67_find_2 103 = .ok (.imul, 1) := by decide +kernel
theorem dX67_find_2_104 : decode cX67_find_2 104 = .ok (.aload_n 0, 1) := by decide +kernel
theorem dX67_find_2_105 : decode cX67_find_2 105 = .ok (.getfield 564, 3) := by decide +kernel
theorem dX67_find_2_108 : decode cX67_find_2 108 = .ok (.iadd, 1) := by decide +kernel
theorem dX67_find_2_109 : decode cX67_find_2 109 = .ok (.istore 4, 2) := by decide +kernel
theorem dX67_find_2_111 : decode cX67_find_2 111 = .ok (.aload_n 0, 1) := by decide +kernel
theorem dX67_find_2_112 : decode cX67_find_2 112 = .ok (.aload_n 0, 1) := by decide +kernel
theorem dX67_find_2_113 : decode cX67_find_2 113 = .ok (.getfield 95, 3) := by decide +kernel
theorem dX67_find_2_116 : decode cX67_find_2 116 = .ok (.iload 4, 2) := by decide +kernel
theorem dX67_find_2_118 : decode cX67_find_2 118 = .ok (.iaload, 1) := by decide +kernel
theorem dX67_find_2_119 : decode cX67_find_2 119 = .ok (.putfield 555, 3) := by decide +kernel
theorem dX67_find_2_122 : decode cX67_find_2 122 = .ok (.aload_n 0, 1) := by decide +kernel
theorem dX67_find_2_123 : decode cX67_find_2 123 = .ok (.aload_n 0, 1) := by decide +kernel
theorem dX67_find_2_124 : decode cX67_find_2 124 = .ok (.getfield 98, 3) := by decide +kernel
theorem dX67_find_2_127 : decode cX67_find_2 127 = .ok (.iload 4, 2) := by decide +kernel
theorem dX67_find_2_129 : decode cX67_find_2 129 = .ok (.iaload, 1) := by decide +kernel
theorem dX67_find_2_130 : decode cX67_find_2 130 = .ok (.iload_n 2, 1) := by decide +kernel
theorem dX67_find_2_131 : decode cX67_find_2 131 = .ok (.iadd, 1) := by decide +kernel
theorem dX67_find_2_132 : decode cX67_find_2 132 = .ok (.ldc 56, 2) := by decide +kernel
theorem dX67_find_2_134 : decode cX67_find_2 134 = .ok (.irem, 1) := by decide +kernel
theorem dX67_find_2_135 : decode cX67_find_2 135 = .ok (.putfield 558, 3) := by decide +kernel
theorem dX67_find_2_138 : decode cX67_find_2 138 = .ok (.aload_n 0, 1) := by decide +kernel
theorem dX67_find_2_139 : decode cX67_find_2 139 = .ok (.aload_n 0, 1) := by decide +kernel
theorem dX67_find_2_140 : decode cX67_find_2 140 = .ok (.getfield 101, 3) := by decide +kernel
theorem dX67_find_2_143 : decode cX67_find_2 143 = .ok (.iload 4, 2) := by decide +kernel
theorem dX67_find_2_145 : decode cX67_find_2 145 = .ok (.iaload, 1) := by decide +kernel
theorem dX67_find_2_146 : decode cX67_find_2 146 = .ok (.aload_n 0, 1) := by decide +kernel
theorem dX67_find_2_147 : decode cX67_find_2 147 = .ok (.getfield 110, 3) := by decide +kernel
theorem dX67_find_2_150 : decode cX67_find_2 150 = .ok (.iload_n 1, 1) := by decide +kernel
theorem dX67_find_2_151 : decode cX67_find_2 151 = .ok (.iaload, 1) := by decide +kernel
theorem dX67_find_2_152 : decode cX67_find_2 152 = .ok (.if_icmp .le 13, 3) := by decide +kernel
theorem dX67_find_2_155 : decode cX67_find_2 155 = .ok (.aload_n 0, 1) := by decide +kernel
theorem dX67_find_2_156 : decode cX67_find_2 156 = .ok (.getfield 101, 3) := by decide +kernel
theorem dX67_find_2_159 : decode cX67_find_2 159 = .ok (.iload 4, 2) := by decide +kernel
theorem dX67_find_2_161 : decode cX67_find_2 161 = .ok (.iaload, 1) := by decide +kernel
theorem dX67_find_2_162 : decode cX67_find_2 162 = .ok (.goto 9, 3) := by decide +kernel
theorem dX67_find_2_165 : decode cX67_find_2 165 = .ok (.aload_n 0, 1) := by decide +kernel
theorem dX67_find_2_166 : decode cX67_find_2 166 = .ok (.getfield 110, 3) := by decide +kernel
theorem dX67_find_2_169 : decode cX67_find_2 169 = .ok (.iload_n 1, 1) := by decide +kernel
theorem dX67_find_2_170 : decode cX67_find_2 170 = .ok (.iaload, 1) := by decide +kernel
theorem dX67_find_2_171 : decode cX67_find_2 171 = .ok (.putfield 561, 3) := by decide +kernel
theorem dX67_find_2_174 : decode cX67_find_2 174 = .ok (.goto 27, 3) := by decide +kernel
theorem dX67_find_2_177 : decode cX67_find_2 177 = .ok (.iload_n 3, 1) := by decide +kernel
theorem dX67_find_2_178 : decode cX67_find_2 178 = .ok (.iconst 2, 1) := by decide +kernel
theorem dX67_find_2_179 : decode cX67_find_2 179 = .ok (.if_icmp .eq 11, 3) := by decide +kernel
theorem dX67_find_2_182 : decode cX67_find_2 182 = .ok (.aload_n 0, 1) := by decide +kernel
theorem dX67_find_2_183 : decode cX67_find_2 183 = .ok (.getfield 546, 3) := by decide +kernel
theorem dX67_find_2_186 : decode cX67_find_2 186 = .ok (.iconst 3, 1) := by decide +kernel
theorem dX67_find_2_187 : decode cX67_find_2 187 = .ok (.if_icmp .ne 14, 3) := by decide +kernel
theorem dX67_find_2_190 : decode cX67_find_2 190 = .ok (.aload_n 0, 1) := by decide +kernel
theorem dX67_find_2_191 : decode cX67_find_2 191 = .ok (.iload_n 1, 1) := by decide +kernel
theorem dX67_find_2_192 : decode cX67_find_2 192 = .ok (.iload_n 2, 1) := by decide +kernel
theorem dX67_find_2_193 : decode cX67_find_2 193 = .ok (.invokevirtual 567, 3) := by decide +kernel
theorem dX67_find_2_196 : decode cX67_find_2 196 = .ok (.ifCond .ne 5, 3) := by decide +kernel
theorem dX67_find_2_199 : decode cX67_find_2 199 = .ok (.iconst 0, 1) := by decide +kernel
theorem dX67_find_2_200 : decode cX67_find_2 200 = .ok (.ireturn, 1) := by decide +kernel
theorem dX67_find_2_201 : decode cX67_find_2 201 = .ok (.aload_n 0, 1) := by decide +kernel
theorem dX67_find_2_202 : decode cX67_find_2 202 = .ok (.getfield 546, 3) := by decide +kernel
theorem dX67_find_2_205 : decode cX67_find_2 205 = .ok (.iconst 4, 1) := by decide +kernel
theorem dX67_find_2_206 : decode cX67_find_2 206 = .ok (.if_icmp .lt 11, 3) := by decide +kernel
theorem dX67_find_2_209 : decode cX67_find_2 209 = .ok (.aload_n 0, 1) := by decide +kernel
theorem dX67_find_2_210 : decode cX67_find_2 210 = .ok (.iload_n 1, 1) := by decide +kernel
theorem dX67_find_2_211 : decode cX67_find_2 211 = .ok (.invokevirtual 570, 3) := by decide +kernel
theorem dX67_find_2_214 : decode cX67_find_2 214 = .ok (.ifCond .eq 7, 3) := by decide +kernel
theorem dX67_find_2_217 : decode cX67_find_2 217 = .ok (.iconst 1, 1) := by decide +kernel
theorem dX67_find_2_218 : decode cX67_find_2 218 = .ok (.goto 4, 3) := by decide +kernel
theorem dX67_find_2_221 : decode cX67_find_2 221 = .ok (.iconst 0, 1) := by decide +kernel
theorem dX67_find_2_222 : decode cX67_find_2 222 = .ok (.ireturn, 1) := by decide +kernel
theorem zy_X67_find_2 : yX67_find_2.cls ≠ "java/lang/invoke/MethodHandle" ∧ yX67_find_2.cls ≠ "java/lang/invoke/VarHandle" ∧ (parseMethodDescriptor yX67_find_2.desc).map (fun d => d.parameters.length) = some 1 := by decide +kernel
theorem w_fX67_find_2_J201 {K : zK} (E : zE K cX67_find_2 "RingHouseModel" (some .boolean) 5) (hN : zNl K = 5) (hT : zTr K = (some 0)) (x1 : Int) : zR K 201 [(0, 69, 0), (1, 0, x1)] [] (fX67_find_2_J201 x1) := by
  refine r_aload_n E dX67_find_2_201 rfl 0 rfl ?_
  refine r_get E zc_69 zt_6882 dX67_find_2_202 q3297 zr_69 (zg_6882 _) (by decide) (fun v9 => ?_)
  refine r_iconst E dX67_find_2_205 (zkI (by decide) (by decide)) ?_
  refine r_icmp_lt E 217 (by decide) dX67_find_2_206 (fun _ => ?_) (fun _ => ?_)
  · refine r_iconst E dX67_find_2_217 (zkI (by decide) (by decide)) ?_
    refine r_goto E 222 (by decide) dX67_find_2_218 ?_
    exact r_zreturn E rfl hT (by decide) dX67_find_2_222
  · refine r_aload_n E dX67_find_2_209 rfl 0 rfl ?_
    refine r_iload_n E dX67_find_2_210 rfl 1 rfl ?_
    refine r_callV E [(0, x1)] [] rfl zc_69 zr_69 (fun o _ => ⟨_, zw_X67.1 o, rfl⟩) (lw_V q3908 q3910 qs136 q294 q3911) dX67_find_2_211 zy_X67_follow rfl (by omega) (by decide) (Nat.le_of_ble_eq_true rfl) (by decide) (fun l G => k_fX67_follow l G x1) (fun v10 => ?_)
    refine r_if_eq E 221 (by decide) dX67_find_2_214 (fun _ => ?_) (fun _ => ?_)
    · refine r_iconst E dX67_find_2_221 (zkI (by decide) (by decide)) ?_
      exact r_zreturn E rfl hT (by decide) dX67_find_2_222
    · refine r_iconst E dX67_find_2_217 (zkI (by decide) (by decide)) ?_
      refine r_goto E 222 (by decide) dX67_find_2_218 ?_
      exact r_zreturn E rfl hT (by decide) dX67_find_2_222
theorem w_fX67_find_2_J190 {K : zK} (E : zE K cX67_find_2 "RingHouseModel" (some .boolean) 5) (hN : zNl K = 5) (hT : zTr K = (some 0)) (x1 : Int) (x2 : Int) : zR K 190 [(0, 69, 0), (1, 0, x1), (2, 0, x2)] [] (fX67_find_2_J190 x1 x2) := by
  refine r_aload_n E dX67_find_2_190 rfl 0 rfl ?_
  refine r_iload_n E dX67_find_2_191 rfl 1 rfl ?_
  refine r_iload_n E dX67_find_2_192 rfl 2 rfl ?_
  refine r_callV E [(0, x1), (0, x2)] [] rfl zc_69 zr_69 (fun o _ => ⟨_, zw_X67.1 o, rfl⟩) (lw_V q3870 q3872 qs127 q294 q3873) dX67_find_2_193 zy_X67_bind rfl (by omega) (by decide) (Nat.le_of_ble_eq_true rfl) (by decide) (fun l G => k_fX67_bind l G x1 x2) (fun v8 => ?_)
  refine r_if_ne E 201 (by decide) dX67_find_2_196 (fun _ => ?_) (fun _ => ?_)
  · refine r_pick E [0, 1] rfl ?_
    exact w_fX67_find_2_J201 E hN hT x1
  · refine r_iconst E dX67_find_2_199 (zkI (by decide) (by decide)) ?_
    exact r_zreturn E rfl hT (by decide) dX67_find_2_200
theorem w_fX67_find_2_J171 {K : zK} (E : zE K cX67_find_2 "RingHouseModel" (some .boolean) 5) (hN : zNl K = 5) (hT : zTr K = (some 0)) (x1 : Int) (s1 : Int) : zR K 171 [(0, 69, 0), (1, 0, x1)] [(0, s1), (69, 0)] (fX67_find_2_J171 x1 s1) := by
  refine r_put E zc_69 zt_6880 zo_6880 dX67_find_2_171 q3295 zr_69 zw_X67 zp_6880 (fun _ => rfl) (fun _ => rfl) (by decide) ?_
  refine r_goto E 201 (by decide) dX67_find_2_174 ?_
  exact w_fX67_find_2_J201 E hN hT x1
theorem w_fX67_find_2_J59 {K : zK} (E : zE K cX67_find_2 "RingHouseModel" (some .boolean) 5) (hN : zNl K = 5) (hT : zTr K = (some 0)) (x1 : Int) (x2 : Int) (s0 : Int) : zR K 59 [(0, 69, 0), (1, 0, x1), (2, 0, x2)] [(0, s0)] (fX67_find_2_J59 x1 x2 s0) := by
  refine r_istore_n (ls' := [(3, 0, s0), (0, 69, 0), (1, 0, x1), (2, 0, x2)]) E dX67_find_2_59 rfl (by rw [hN]; decide) rfl ?_
  refine r_aload_n E dX67_find_2_60 rfl 1 rfl ?_
  refine r_aload_n E dX67_find_2_61 rfl 1 rfl ?_
  refine r_gec (y := 0) E zc_69 dX67_find_2_62 q3246 zr_69 (zh_6831 (by decide)) (by decide) ?_
  refine r_iload_n E dX67_find_2_65 rfl 2 rfl ?_
  refine r_iaload E zc_6831 za_6831 zt_6831 zx_6831 rfl rfl dX67_find_2_66 (by decide) (fun v5 => ?_)
  refine r_put E zc_69 zt_6878 zo_6878 dX67_find_2_67 q3293 zr_69 zw_X67 zp_6878 (fun _ => rfl) (fun _ => rfl) (by decide) ?_
  refine r_aload_n E dX67_find_2_70 rfl 1 rfl ?_
  refine r_iload_n E dX67_find_2_71 rfl 3 rfl ?_
  refine r_put E zc_69 zt_6879 zo_6879 dX67_find_2_72 q3294 zr_69 zw_X67 zp_6879 (fun _ => rfl) (fun _ => rfl) (by decide) ?_
  refine r_aload_n E dX67_find_2_75 rfl 1 rfl ?_
  refine r_aload_n E dX67_find_2_76 rfl 1 rfl ?_
  refine r_gec (y := 0) E zc_69 dX67_find_2_77 q3248 zr_69 (zh_6833 (by decide)) (by decide) ?_
  refine r_iload_n E dX67_find_2_80 rfl 2 rfl ?_
  refine r_iaload E zc_6833 za_6833 zt_6833 zx_6833 rfl rfl dX67_find_2_81 (by decide) (fun v6 => ?_)
  refine r_put E zc_69 zt_6880 zo_6880 dX67_find_2_82 q3295 zr_69 zw_X67 zp_6880 (fun _ => rfl) (fun _ => rfl) (by decide) ?_
  refine r_aload_n E dX67_find_2_85 rfl 1 rfl ?_
  refine r_get E zc_69 zt_6882 dX67_find_2_86 q3297 zr_69 (zg_6882 _) (by decide) (fun v7 => ?_)
  refine r_iconst E dX67_find_2_89 (zkI (by decide) (by decide)) ?_
  refine r_icmp_ne E 95 (by decide) dX67_find_2_90 (fun _ => ?_) (fun _ => ?_)
  · refine r_iload_n E dX67_find_2_95 rfl 0 rfl ?_
    refine r_iconst E dX67_find_2_96 (zkI (by decide) (by decide)) ?_
    refine r_icmp_ne E 177 (by decide) dX67_find_2_97 (fun _ => ?_) (fun _ => ?_)
    · refine r_iload_n E dX67_find_2_177 rfl 0 rfl ?_
      refine r_iconst E dX67_find_2_178 (zkI (by decide) (by decide)) ?_
      refine r_icmp_eq E 190 (by decide) dX67_find_2_179 (fun _ => ?_) (fun _ => ?_)
      · refine r_pick E [1, 2, 3] rfl ?_
        exact w_fX67_find_2_J190 E hN hT x1 x2
      · refine r_aload_n E dX67_find_2_182 rfl 1 rfl ?_
        refine r_get E zc_69 zt_6882 dX67_find_2_183 q3297 zr_69 (zg_6882 _) (by decide) (fun v11 => ?_)
        refine r_iconst E dX67_find_2_186 (zkI (by decide) (by decide)) ?_
        refine r_icmp_ne E 201 (by decide) dX67_find_2_187 (fun _ => ?_) (fun _ => ?_)
        · refine r_pick E [1, 2] rfl ?_
          exact w_fX67_find_2_J201 E hN hT x1
        · refine r_pick E [1, 2, 3] rfl ?_
          exact w_fX67_find_2_J190 E hN hT x1 x2
    · refine r_bipush E dX67_find_2_100 (by decide) (zkI (by decide) (by decide)) ?_
      refine r_iload_n E dX67_find_2_102 rfl 2 rfl ?_
      refine r_imul E dX67_find_2_103 ?_
      refine r_aload_n E dX67_find_2_104 rfl 1 rfl ?_
      refine r_get E zc_69 zt_6883 dX67_find_2_105 q3298 zr_69 (zg_6883 _) (by decide) (fun v12 => ?_)
      refine r_iadd E dX67_find_2_108 ?_
      refine r_let E (fun v13 ev13 => ?_)
      refine r_istore (ls' := [(4, 0, v13), (3, 0, s0), (0, 69, 0), (1, 0, x1), (2, 0, x2)]) E dX67_find_2_109 (by rw [hN]; decide) rfl ?_
      refine r_aload_n E dX67_find_2_111 rfl 2 rfl ?_
      refine r_aload_n E dX67_find_2_112 rfl 2 rfl ?_
      refine r_gec (y := 0) E zc_69 dX67_find_2_113 q3243 zr_69 (zh_6828 (by decide)) (by decide) ?_
      refine r_iload E dX67_find_2_116 0 rfl ?_
      refine r_iaload E zc_6828 za_6828 zt_6828 zx_6828 rfl rfl dX67_find_2_118 (by decide) (fun v14 => ?_)
      refine r_put E zc_69 zt_6878 zo_6878 dX67_find_2_119 q3293 zr_69 zw_X67 zp_6878 (fun _ => rfl) (fun _ => rfl) (by decide) ?_
      refine r_aload_n E dX67_find_2_122 rfl 2 rfl ?_
      refine r_aload_n E dX67_find_2_123 rfl 2 rfl ?_
      refine r_gec (y := 0) E zc_69 dX67_find_2_124 q3244 zr_69 (zh_6829 (by decide)) (by decide) ?_
      refine r_iload E dX67_find_2_127 0 rfl ?_
      refine r_iaload E zc_6829 za_6829 zt_6829 zx_6829 rfl rfl dX67_find_2_129 (by decide) (fun v15 => ?_)
      refine r_iload_n E dX67_find_2_130 rfl 4 rfl ?_
      refine r_iadd E dX67_find_2_131 ?_
      refine r_ldc (v := 262144) E dX67_find_2_132 q3170 (by decide) (zkI (by decide) (by decide)) ?_
      refine r_irem E (by decide) dX67_find_2_134 ?_
      refine r_put E zc_69 zt_6879 zo_6879 dX67_find_2_135 q3294 zr_69 zw_X67 zp_6879 (fun _ => rfl) (fun _ => rfl) (by decide) ?_
      refine r_aload_n E dX67_find_2_138 rfl 2 rfl ?_
      refine r_aload_n E dX67_find_2_139 rfl 2 rfl ?_
      refine r_gec (y := 0) E zc_69 dX67_find_2_140 q3245 zr_69 (zh_6830 (by decide)) (by decide) ?_
      refine r_iload E dX67_find_2_143 0 rfl ?_
      refine r_iaload E zc_6830 za_6830 zt_6830 zx_6830 rfl rfl dX67_find_2_145 (by decide) (fun v16 => ?_)
      refine r_aload_n E dX67_find_2_146 rfl 2 rfl ?_
      refine r_gec (y := 0) E zc_69 dX67_find_2_147 q3248 zr_69 (zh_6833 (by decide)) (by decide) ?_
      refine r_iload_n E dX67_find_2_150 rfl 3 rfl ?_
      refine r_iaload E zc_6833 za_6833 zt_6833 zx_6833 rfl rfl dX67_find_2_151 (by decide) (fun v17 => ?_)
      refine r_icmp_le E 165 (by decide) dX67_find_2_152 (fun _ => ?_) (fun _ => ?_)
      · refine r_aload_n E dX67_find_2_165 rfl 2 rfl ?_
        refine r_gec (y := 0) E zc_69 dX67_find_2_166 q3248 zr_69 (zh_6833 (by decide)) (by decide) ?_
        refine r_iload_n E dX67_find_2_169 rfl 3 rfl ?_
        refine r_iaload E zc_6833 za_6833 zt_6833 zx_6833 rfl rfl dX67_find_2_170 (by decide) (fun v18 => ?_)
        refine r_pick E [2, 3] rfl ?_
        exact w_fX67_find_2_J171 E hN hT x1 v18
      · refine r_aload_n E dX67_find_2_155 rfl 2 rfl ?_
        refine r_gec (y := 0) E zc_69 dX67_find_2_156 q3245 zr_69 (zh_6830 (by decide)) (by decide) ?_
        refine r_iload E dX67_find_2_159 0 rfl ?_
        refine r_iaload E zc_6830 za_6830 zt_6830 zx_6830 rfl rfl dX67_find_2_161 (by decide) (fun v19 => ?_)
        refine r_goto E 171 (by decide) dX67_find_2_162 ?_
        refine r_pick E [2, 3] rfl ?_
        exact w_fX67_find_2_J171 E hN hT x1 v19
  · refine r_iconst E dX67_find_2_93 (zkI (by decide) (by decide)) ?_
    exact r_zreturn E rfl hT (by decide) dX67_find_2_94
theorem w_fX67_find_2_J37 {K : zK} (E : zE K cX67_find_2 "RingHouseModel" (some .boolean) 5) (hN : zNl K = 5) (hT : zTr K = (some 0)) (x1 : Int) (s0 : Int) : zR K 37 [(0, 69, 0), (1, 0, x1)] [(0, s0)] (fX67_find_2_J37 x1 s0) := by
  refine r_istore_n (ls' := [(2, 0, s0), (0, 69, 0), (1, 0, x1)]) E dX67_find_2_37 rfl (by rw [hN]; decide) rfl ?_
  refine r_aload_n E dX67_find_2_38 rfl 1 rfl ?_
  refine r_get E zc_69 zt_6882 dX67_find_2_39 q3297 zr_69 (zg_6882 _) (by decide) (fun v3 => ?_)
  refine r_iconst E dX67_find_2_42 (zkI (by decide) (by decide)) ?_
  refine r_icmp_le E 55 (by decide) dX67_find_2_43 (fun _ => ?_) (fun _ => ?_)
  · refine r_aload_n E dX67_find_2_55 rfl 1 rfl ?_
    refine r_get E zc_69 zt_6882 dX67_find_2_56 q3297 zr_69 (zg_6882 _) (by decide) (fun v4 => ?_)
    refine r_pick E [1, 2, 0] rfl ?_
    exact w_fX67_find_2_J59 E hN hT x1 s0 v4
  · refine r_aload_n E dX67_find_2_46 rfl 1 rfl ?_
    refine r_get E zc_69 zt_6882 dX67_find_2_47 q3297 zr_69 (zg_6882 _) (by decide) (fun v20 => ?_)
    refine r_iconst E dX67_find_2_50 (zkI (by decide) (by decide)) ?_
    refine r_isub E dX67_find_2_51 ?_
    refine r_goto E 59 (by decide) dX67_find_2_52 ?_
    refine r_pick E [1, 2, 0] rfl ?_
    exact w_fX67_find_2_J59 E hN hT x1 s0 (zi (v20 - 4))
theorem w_fX67_find_2 {K : zK} (E : zE K cX67_find_2 "RingHouseModel" (some .boolean) 5) (hN : zNl K = 5) (hT : zTr K = (some 0)) (x1 : Int) : zR K 0 [(0, 69, 0), (1, 0, x1)] [] (fX67_find_2 x1) := by
  refine r_aload_n E dX67_find_2_0 rfl 0 rfl ?_
  refine r_get E zc_69 zt_6884 dX67_find_2_1 q3299 zr_69 (zg_6884 _) (by decide) (fun v1 => ?_)
  refine r_if_le E 33 (by decide) dX67_find_2_4 (fun _ => ?_) (fun _ => ?_)
  · refine r_aload_n E dX67_find_2_33 rfl 0 rfl ?_
    refine r_get E zc_69 zt_6885 dX67_find_2_34 q3300 zr_69 (zg_6885 _) (by decide) (fun v2 => ?_)
    exact w_fX67_find_2_J37 E hN hT x1 v2
  · refine r_aload_n E dX67_find_2_7 rfl 0 rfl ?_
    refine r_get E zc_69 zt_6885 dX67_find_2_8 q3300 zr_69 (zg_6885 _) (by decide) (fun v21 => ?_)
    refine r_aload_n E dX67_find_2_11 rfl 0 rfl ?_
    refine r_gec (y := 0) E zc_69 dX67_find_2_12 q3242 zr_69 (zh_6827 (by decide)) (by decide) ?_
    refine r_iconst E dX67_find_2_15 (zkI (by decide) (by decide)) ?_
    refine r_iload_n E dX67_find_2_16 rfl 1 rfl ?_
    refine r_imul E dX67_find_2_17 ?_
    refine r_aload_n E dX67_find_2_18 rfl 0 rfl ?_
    refine r_get E zc_69 zt_6884 dX67_find_2_19 q3299 zr_69 (zg_6884 _) (by decide) (fun v22 => ?_)
    refine r_iadd E dX67_find_2_22 ?_
    refine r_iconst E dX67_find_2_23 (zkI (by decide) (by decide)) ?_
    refine r_isub E dX67_find_2_24 ?_
    refine r_iaload E zc_6827 za_6827 zt_6827 zx_6827 rfl rfl dX67_find_2_25 (by decide) (fun v23 => ?_)
    refine r_iadd E dX67_find_2_26 ?_
    refine r_ldc (v := 262144) E dX67_find_2_27 q3170 (by decide) (zkI (by decide) (by decide)) ?_
    refine r_irem E (by decide) dX67_find_2_29 ?_
    refine r_goto E 37 (by decide) dX67_find_2_30 ?_
    exact w_fX67_find_2_J37 E hN hT x1 (Int.tmod (zi (v21 + v23)) 262144)
theorem k_fX67_find_2 (l : Launch) (G : zG) (x1 : Int) : zCt l G yX67_find_2 cX67_find_2 5 (some .boolean) 5 [(69, 0), (0, x1)] (some 0) (fX67_find_2 x1) := zCt.of (by decide) (Nat.le_of_ble_eq_true rfl) (fun K E _ _ hN hT => w_fX67_find_2 E hN hT x1)
