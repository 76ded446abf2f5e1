/-! decode rows (by a program) -/
set_option maxRecDepth 100000
theorem dX13_step_0 : decode cX13_step 0 = .ok (.aload_n 0, 1) := by decide +kernel
theorem dX13_step_1 : decode cX13_step 1 = .ok (.getfield 351, 3) := by decide +kernel
theorem dX13_step_4 : decode cX13_step 4 = .ok (.istore_n 1, 1) := by decide +kernel
theorem dX13_step_5 : decode cX13_step 5 = .ok (.iload_n 1, 1) := by decide +kernel
theorem dX13_step_6 : decode cX13_step 6 = .ok (.ifCond .ge 5, 3) := by decide +kernel
theorem dX13_step_9 : decode cX13_step 9 = .ok (.iconst 4, 1) := by decide +kernel
theorem dX13_step_10 : decode cX13_step 10 = .ok (.ireturn, 1) := by decide +kernel
theorem dX13_step_11 : decode cX13_step 11 = .ok (.aload_n 0, 1) := by decide +kernel
theorem dX13_step_12 : decode cX13_step 12 = .ok (.iconst 0, 1) := by decide +kernel
theorem dX13_step_13 : decode cX13_step 13 = .ok (.putfield 329, 3) := by decide +kernel
theorem dX13_step_16 : decode cX13_step 16 = .ok (.aload_n 0, 1) := by decide +kernel
theorem dX13_step_17 : decode cX13_step 17 = .ok (.getfield 45, 3) := by decide +kernel
theorem dX13_step_20 : decode cX13_step 20 = .ok (.iload_n 1, 1) := by decide +kernel
theorem dX13_step_21 : decode cX13_step 21 = .ok (.iaload, 1) := by decide +kernel
theorem dX13_step_22 : decode cX13_step 22 = .ok (.ifCond .lt 28, 3) := by decide +kernel
theorem dX13_step_25 : decode cX13_step 25 = .ok (.aload_n 0, 1) := by decide +kernel
theorem dX13_step_26 : decode cX13_step 26 = .ok (.getfield 33, 3) := by decide +kernel
theorem dX13_step_29 : decode cX13_step 29 = .ok (.iload_n 1, 1) := by decide +kernel
theorem dX13_step_30 : decode cX13_step 30 = .ok (.iaload, 1) := by decide +kernel
theorem dX13_step_31 : decode cX13_step 31 = .ok (.bipush 9, 2) := by decide +kernel
theorem dX13_step_33 : decode cX13_step 33 = .ok (.if_icmp .eq 17, 3) := by decide +kernel
theorem dX13_step_36 : decode cX13_step 36 = .ok (.aload_n 0, 1) := by decide +kernel
theorem dX13_step_37 : decode cX13_step 37 = .ok (.aload_n 0, 1) := by decide +kernel
theorem dX13_step_38 : decode cX13_step 38 = .ok (.getfield 45, 3) := by decide +kernel
theorem dX13_step_41 : decode cX13_step 41 = .ok (.iload_n 1, 1) := by decide +kernel
theorem dX13_step_42 : decode cX13_step 42 = .ok (.iaload, 1) := by decide +kernel
theorem dX13_step_43 : decode cX13_step 43 = .ok (.iconst 0, 1) := by decide +kernel
theorem dX13_step_44 : decode cX13_step 44 = .ok (.invokevirtual 357, 3) := by decide +kernel
theorem dX13_step_47 : decode cX13_step 47 = .ok (.goto 4, 3) := by decide +kernel
theorem dX13_step_50 : decode cX13_step 50 = .ok (.lconst 0, 1) := by decide +kernel
theorem dX13_step_51 : decode cX13_step 51 = .ok (.lstore_n 2, 1) := by decide +kernel
theorem dX13_step_52 : decode cX13_step 52 = .ok (.aload_n 0, 1) := by decide +kernel
theorem dX13_step_53 : decode cX13_step 53 = .ok (.getfield 329, 3) := by decide +kernel
theorem dX13_step_56 : decode cX13_step 56 = .ok (.iconst 2, 1) := by decide +kernel
theorem dX13_step_57 : decode cX13_step 57 = .ok (.if_icmp .ne 5, 3) := by decide +kernel
theorem dX13_step_60 : decode cX13_step 60 = .ok (.iconst 1, 1) := by decide +kernel
theorem dX13_step_61 : decode cX13_step 61 = .ok (.ireturn, 1) := by decide +kernel
theorem dX13_step_62 : decode cX13_step 62 = .ok (.aload_n 0, 1) := by decide +kernel
theorem dX13_step_63 : decode cX13_step 63 = .ok (.getfield 329, 3) := by decide +kernel
theorem dX13_step_66 : decode cX13_step 66 = .ok (.iconst 1, 1) := by decide +kernel
theorem dX13_step_67 : decode cX13_step 67 = .ok (.if_icmp .ne 9, 3) := by decide +kernel
theorem dX13_step_70 : decode cX13_step 70 = .ok (.aload_n 0, 1) := by decide +kernel
theorem dX13_step_71 : decode cX13_step 71 = .ok (.iload_n 1, 1) := by decide +kernel
theorem dX13_step_72 : decode cX13_step 72 = .ok (.invokevirtual 361, 3) := by decide +kernel
theorem dX13_step_75 : decode cX13_step 75 = .ok (.ireturn, 1) := by decide +kernel
theorem dX13_step_76 : decode cX13_step 76 = .ok (.aload_n 0, 1) := by decide +kernel
theorem dX13_step_77 : decode cX13_step 77 = .ok (.getfield 33, 3) := by decide +kernel
theorem dX13_step_80 : decode cX13_step 80 = .ok (.iload_n 1, 1) := by decide +kernel
theorem dX13_step_81 : decode cX13_step 81 = .ok (.iaload, 1) := by decide +kernel
theorem dX13_step_82 : decode cX13_step 82 = .ok (.lookupswitch 248 #[(0, 128), (2, 162), (3, 205), (4, 194), (9, 211), (20, 58)], 58) := by decide +kernel
theorem dX13_step_140 : decode cX13_step 140 = .ok (.aload_n 0, 1) := by decide +kernel
theorem dX13_step_141 : decode cX13_step 141 = .ok (.getfield 54, 3) := by decide +kernel
theorem dX13_step_144 : decode cX13_step 144 = .ok (.iload_n 1, 1) := by decide +kernel
theorem dX13_step_145 : decode cX13_step 145 = .ok (.iaload, 1) := by decide +kernel
theorem dX13_step_146 : decode cX13_step 146 = .ok (.bipush 16, 2) := by decide +kernel
theorem dX13_step_148 : decode cX13_step 148 = .ok (.if_icmp .lt 21, 3) := by decide +kernel
theorem dX13_step_151 : decode cX13_step 151 = .ok (.aload_n 0, 1) := by decide +kernel
theorem dX13_step_152 : decode cX13_step 152 = .ok (.getfield 131, 3) := by decide +kernel
theorem dX13_step_155 : decode cX13_step 155 = .ok (.aload_n 0, 1) := by decide +kernel
theorem dX13_step_156 : decode cX13_step 156 = .ok (.getfield 54, 3) := by decide +kernel
theorem dX13_step_159 : decode cX13_step 159 = .ok (.iload_n 1, 1) := by decide +kernel
theorem dX13_step_160 : decode cX13_step 160 = .ok (.iaload, 1) := by decide +kernel
theorem dX13_step_161 : decode cX13_step 161 = .ok (.bipush 16, 2) := by decide +kernel
theorem dX13_step_163 : decode cX13_step 163 = .ok (.isub, 1) := by decide +kernel
theorem dX13_step_164 : decode cX13_step 164 = .ok (.lload_n 2, 1) := by decide +kernel
theorem dX13_step_165 : decode cX13_step 165 = .ok (.lastore, 1) := by decide +kernel
theorem dX13_step_166 : decode cX13_step 166 = .ok (.goto 32, 3) := by decide +kernel
theorem dX13_step_169 : decode cX13_step 169 = .ok (.aload_n 0, 1) := by decide +kernel
theorem dX13_step_170 : decode cX13_step 170 = .ok (.getfield 128, 3) := by decide +kernel
theorem dX13_step_173 : decode cX13_step 173 = .ok (.aload_n 0, 1) := by decide +kernel
theorem dX13_step_174 : decode cX13_step 174 = .ok (.getfield 54, 3) := by decide +kernel
theorem dX13_step_177 : decode cX13_step 177 = .ok (.iload_n 1, 1) := by decide +kernel
theorem dX13_step_178 : decode cX13_step 178 = .ok (.iaload, 1) := by decide +kernel
theorem dX13_step_179 : decode cX13_step 179 = .ok (.lload_n 2, 1) := by decide +kernel
theorem dX13_step_180 : decode cX13_step 180 = .ok (.lastore, 1) := by decide +kernel
theorem dX13_step_181 : decode cX13_step 181 = .ok (.aload_n 0, 1) := by decide +kernel
theorem dX13_step_182 : decode cX13_step 182 = .ok (.aload_n 0, 1) := by decide +kernel
theorem dX13_step_183 : decode cX13_step 183 = .ok (.getfield 322, 3) := by decide +kernel
theorem dX13_step_186 : decode cX13_step 186 = .ok (.iconst 1, 1) := by decide +kernel
theorem dX13_step_187 : decode cX13_step 187 = .ok (.aload_n 0, 1) := by decide +kernel
theorem dX13_step_188 : decode cX13_step 188 = .ok (.getfield 54, 3) := by decide +kernel
theorem dX13_step_191 : decode cX13_step 191 = .ok (.iload_n 1, 1) := by decide +kernel
theorem dX13_step_192 : decode cX13_step 192 = .ok (.iaload, 1) := by decide +kernel
theorem dX13_step_193 : decode cX13_step 193 = .ok (.ishl, 1) := by decide +kernel
theorem dX13_step_194 : decode cX13_step 194 = .ok (.ior, 1) := by decide +kernel
theorem dX13_step_195 : decode cX13_step 195 = .ok (.putfield 322, 3) := by decide +kernel
theorem dX13_step_198 : decode cX13_step 198 = .ok (.aload_n 0, 1) := by decide +kernel
theorem dX13_step_199 : decode cX13_step 199 = .ok (.aload_n 0, 1) := by decide +kernel
theorem dX13_step_200 : decode cX13_step 200 = .ok (.iload_n 1, 1) := by decide +kernel
theorem dX13_step_201 : decode cX13_step 201 = .ok (.invokevirtual 354, 3) := by decide +kernel
theorem dX13_step_204 : decode cX13_step 204 = .ok (.putfield 351, 3) := by decide +kernel
theorem dX13_step_207 : decode cX13_step 207 = .ok (.goto 139, 3) := by decide +kernel
theorem dX13_step_210 : decode cX13_step 210 = .ok (.lload_n 2, 1) := by decide +kernel
theorem dX13_step_211 : decode cX13_step 211 = .ok (.lconst 0, 1) := by decide +kernel
theorem dX13_step_212 : decode cX13_step 212 = .ok (.lcmp, 1) := by decide +kernel
theorem dX13_step_213 : decode cX13_step 213 = .ok (.ifCond .eq 17, 3) := by decide +kernel
theorem dX13_step_216 : decode cX13_step 216 = .ok (.aload_n 0, 1) := by decide +kernel
theorem dX13_step_217 : decode cX13_step 217 = .ok (.iload_n 1, 1) := by decide +kernel
theorem dX13_step_218 : decode cX13_step 218 = .ok (.aload_n 0, 1) := by decide +kernel
theorem dX13_step_219 : decode cX13_step 219 = .ok (.getfield 48, 3) := by decide +kernel
theorem dX13_step_222 : decode cX13_step 222 = .ok (.iload_n 1, 1) := by decide +kernel
theorem dX13_step_223 : decode cX13_step 223 = .ok (.iaload, 1) := by decide +kernel
theorem dX13_step_224 : decode cX13_step 224 = .ok (.invokevirtual 364, 3) := by decide +kernel
theorem dX13_step_227 : decode cX13_step 227 = .ok (.goto 119, 3) := by decide +kernel
theorem dX13_step_230 : decode cX13_step 230 = .ok (.aload_n 0, 1) := by decide +kernel
theorem dX13_step_231 : decode cX13_step 231 = .ok (.iload_n 1, 1) := by decide +kernel
theorem dX13_step_232 : decode cX13_step 232 = .ok (.aload_n 0, 1) := by decide +kernel
theorem dX13_step_233 : decode cX13_step 233 = .ok (.getfield 51, 3) := by decide +kernel
theorem dX13_step_236 : decode cX13_step 236 = .ok (.iload_n 1, 1) := by decide +kernel
theorem dX13_step_237 : decode cX13_step 237 = .ok (.iaload, 1) := by decide +kernel
theorem dX13_step_238 : decode cX13_step 238 = .ok (.invokevirtual 364, 3) := by decide +kernel
theorem dX13_step_241 : decode cX13_step 241 = .ok (.goto 105, 3) := by decide +kernel
theorem dX13_step_244 : decode cX13_step 244 = .ok (.lload_n 2, 1) := by decide +kernel
theorem dX13_step_245 : decode cX13_step 245 = .ok (.lconst 0, 1) := by decide +kernel
theorem dX13_step_246 : decode cX13_step 246 = .ok (.lcmp, 1) := by decide +kernel
theorem dX13_step_247 : decode cX13_step 247 = .ok (.ifCond .eq 17, 3) := by decide +kernel
theorem dX13_step_250 : decode cX13_step 250 = .ok (.aload_n 0, 1) := by decide +kernel
theorem dX13_step_251 : decode cX13_step 251 = .ok (.iload_n 1, 1) := by decide +kernel
theorem dX13_step_252 : decode cX13_step 252 = .ok (.aload_n 0, 1) := by decide +kernel
theorem dX13_step_253 : decode cX13_step 253 = .ok (.getfield 48, 3) := by decide +kernel
theorem dX13_step_256 : decode cX13_step 256 = .ok (.iload_n 1, 1) := by decide +kernel
theorem dX13_step_257 : decode cX13_step 257 = .ok (.iaload, 1) := by decide +kernel
theorem dX13_step_258 : decode cX13_step 258 = .ok (.invokevirtual 364, 3) := by decide +kernel
theorem dX13_step_261 : decode cX13_step 261 = .ok (.goto 85, 3) := by decide +kernel
theorem dX13_step_264 : decode cX13_step 264 = .ok (.aload_n 0, 1) := by decide +kernel
theorem dX13_step_265 : decode cX13_step 265 = .ok (.aload_n 0, 1) := by decide +kernel
theorem dX13_step_266 : decode cX13_step 266 = .ok (.iload_n 1, 1) := by decide +kernel
theorem dX13_step_267 : decode cX13_step 267 = .ok (.invokevirtual 354, 3) := by decide +kernel
theorem dX13_step_270 : decode cX13_step 270 = .ok (.putfield 351, 3) := by decide +kernel
theorem dX13_step_273 : decode cX13_step 273 = .ok (.goto 73, 3) := by decide +kernel
theorem dX13_step_276 : decode cX13_step 276 = .ok (.aload_n 0, 1) := by decide +kernel
theorem dX13_step_277 : decode cX13_step 277 = .ok (.lload_n 2, 1) := by decide +kernel
theorem dX13_step_278 : decode cX13_step 278 = .ok (.putfield 342, 3) := by decide +kernel
theorem dX13_step_281 : decode cX13_step 281 = .ok (.aload_n 0, 1) := by decide +kernel
theorem dX13_step_282 : decode cX13_step 282 = .ok (.iload_n 1, 1) := by decide +kernel
theorem dX13_step_283 : decode cX13_step 283 = .ok (.invokevirtual 361, 3) := by decide +kernel
theorem dX13_step_286 : decode cX13_step 286 = .ok (.ireturn, 1) := by decide +kernel
theorem dX13_step_287 : decode cX13_step 287 = .ok (.aload_n 0, 1) := by decide +kernel
theorem dX13_step_288 : decode cX13_step 288 = .ok (.iload_n 1, 1) := by decide +kernel
theorem dX13_step_289 : decode cX13_step 289 = .ok (.invokevirtual 367, 3) := by decide +kernel
theorem dX13_step_292 : decode cX13_step 292 = .ok (.ireturn, 1) := by decide +kernel
theorem dX13_step_293 : decode cX13_step 293 = .ok (.aload_n 0, 1) := by decide +kernel
theorem dX13_step_294 : decode cX13_step 294 = .ok (.getfield 134, 3) := by decide +kernel
theorem dX13_step_297 : decode cX13_step 297 = .ok (.aload_n 0, 1) := by decide +kernel
theorem dX13_step_298 : decode cX13_step 298 = .ok (.getfield 348, 3) := by decide +kernel
theorem dX13_step_301 : decode cX13_step 301 = .ok (.aload_n 0, 1) := by decide +kernel
theorem dX13_step_302 : decode cX13_step 302 = .ok (.getfield 45, 3) := by decide +kernel
theorem dX13_step_305 : decode cX13_step 305 = .ok (.iload_n 1, 1) := by decide +kernel
theorem dX13_step_306 : decode cX13_step 306 = .ok (.iaload, 1) := by decide +kernel
theorem dX13_step_307 : decode cX13_step 307 = .ok (.iastore, 1) := by decide +kernel
theorem dX13_step_308 : decode cX13_step 308 = .ok (.aload_n 0, 1) := by decide +kernel
theorem dX13_step_309 : decode cX13_step 309 = .ok (.dup, 1) := by decide +kernel
theorem dX13_step_310 : decode cX13_step 310 = .ok (.getfield 348, 3) := by decide +kernel
theorem dX13_step_313 : decode cX13_step 313 = .ok (.iconst 1, 1) := by decide +kernel
theorem dX13_step_314 : decode cX13_step 314 = .ok (.iadd, 1) := by decide +kernel
theorem dX13_step_315 : decode cX13_step 315 = .ok (.putfield 348, 3) := by decide +kernel
theorem dX13_step_318 : decode cX13_step 318 = .ok (.aload_n 0, 1) := by decide +kernel
theorem dX13_step_319 : decode cX13_step 319 = .ok (.aload_n 0, 1) := by decide +kernel
theorem dX13_step_320 : decode cX13_step 320 = .ok (.iload_n 1, 1) := by decide +kernel
theorem dX13_step_321 : decode cX13_step 321 = .ok (.invokevirtual 354, 3) := by decide +kernel
theorem dX13_step_324 : decode cX13_step 324 = .ok (.putfield 351, 3) := by decide +kernel
theorem dX13_step_327 : decode cX13_step 327 = .ok (.goto 19, 3) := by decide +kernel
theorem dX13_step_330 : decode cX13_step 330 = .ok (.aload_n 0, 1) := by decide +kernel
theorem dX13_step_331 : decode cX13_step 331 = .ok (.iload_n 1, 1) := by decide +kernel
theorem dX13_step_332 : decode cX13_step 332 = .ok (.invokevirtual 370, 3) := by decide +kernel
theorem dX13_step_335 : decode cX13_step 335 = .ok (.aload_n 0, 1) := by decide +kernel
theorem dX13_step_336 : decode cX13_step 336 = .ok (.iload_n 1, 1) := by decide +kernel
theorem dX13_step_337 : decode cX13_step 337 = .ok (.aload_n 0, 1) := by decide +kernel
theorem dX13_step_338 : decode cX13_step 338 = .ok (.getfield 48, 3) := by decide +kernel
theorem dX13_step_341 : decode cX13_step 341 = .ok (.iload_n 1, 1) := by decide +kernel
theorem dX13_step_342 : decode cX13_step 342 = .ok (.iaload, 1) := by decide +kernel
theorem dX13_step_343 : decode cX13_step 343 = .ok (.invokevirtual 364, 3) := by decide +kernel
theorem dX13_step_346 : decode cX13_step 346 = .ok (.iconst 0, 1) := by decide +kernel
theorem dX13_step_347 : decode cX13_step 347 = .ok (.ireturn, 1) := by decide +kernel
theorem dX13_strength_0 : decode cX13_strength 0 = .ok (.iload_n 0, 1) := by decide +kernel
theorem dX13_strength_1 : decode cX13_strength 1 = .ok (.bipush 42, 2) := by decide +kernel
theorem dX13_strength_3 : decode cX13_strength 3 = .ok (.if_icmp .eq 15, 3) := by decide +kernel
theorem dX13_strength_6 : decode cX13_strength 6 = .ok (.iload_n 0, 1) := by decide +kernel
theorem dX13_strength_7 : decode cX13_strength 7 = .ok (.bipush 47, 2) := by decide +kernel
theorem dX13_strength_9 : decode cX13_strength 9 = .ok (.if_icmp .eq 9, 3) := by decide +kernel
theorem dX13_strength_12 : decode cX13_strength 12 = .ok (.iload_n 0, 1) := by decide +kernel
theorem dX13_strength_13 : decode cX13_strength 13 = .ok (.bipush 37, 2) := by decide +kernel
theorem dX13_strength_15 : decode cX13_strength 15 = .ok (.if_icmp .ne 7, 3) := by decide +kernel
theorem dX13_strength_18 : decode cX13_strength 18 = .ok (.iconst 3, 1) := by decide +kernel
theorem dX13_strength_19 : decode cX13_strength 19 = .ok (.goto 42, 3) := by decide +kernel
theorem dX13_strength_22 : decode cX13_strength 22 = .ok (.iload_n 0, 1) := by decide +kernel
theorem dX13_strength_23 : decode cX13_strength 23 = .ok (.bipush 43, 2) := by decide +kernel
theorem dX13_strength_25 : decode cX13_strength 25 = .ok (.if_icmp .eq 9, 3) := by decide +kernel
theorem dX13_strength_28 : decode cX13_strength 28 = .ok (.iload_n 0, 1) := by decide +kernel
theorem dX13_strength_29 : decode cX13_strength 29 = .ok (.bipush 45, 2) := by decide +kernel
theorem dX13_strength_31 : decode cX13_strength 31 = .ok (.if_icmp .ne 7, 3) := by decide +kernel
theorem dX13_strength_34 : decode cX13_strength 34 = .ok (.iconst 2, 1) := by decide +kernel
theorem dX13_strength_35 : decode cX13_strength 35 = .ok (.goto 26, 3) := by decide +kernel
theorem dX13_strength_38 : decode cX13_strength 38 = .ok (.iload_n 0, 1) := by decide +kernel
theorem dX13_strength_39 : decode cX13_strength 39 = .ok (.bipush 60, 2) := by decide +kernel
theorem dX13_strength_41 : decode cX13_strength 41 = .ok (.if_icmp .eq 15, 3) := by decide +kernel
theorem dX13_strength_44 : decode cX13_strength 44 = .ok (.iload_n 0, 1) := by decide +kernel
theorem dX13_strength_45 : decode cX13_strength 45 = .ok (.bipush 61, 2) := by decide +kernel
theorem dX13_strength_47 : decode cX13_strength 47 = .ok (.if_icmp .eq 9, 3) := by decide +kernel
theorem dX13_strength_50 : decode cX13_strength 50 = .ok (.iload_n 0, 1) := by decide +kernel
theorem dX13_strength_51 : decode cX13_strength 51 = .ok (.bipush 35, 2) := by decide +kernel
theorem dX13_strength_53 : decode cX13_strength 53 = .ok (.if_icmp .ne 7, 3) := by decide +kernel
theorem dX13_strength_56 : decode cX13_strength 56 = .ok (.iconst 1, 1) := by decide +kernel
theorem dX13_strength_57 : decode cX13_strength 57 = .ok (.goto 4, 3) := by decide +kernel
theorem dX13_strength_60 : decode cX13_strength 60 = .ok (.iconst 0, 1) := by decide +kernel
theorem dX13_strength_61 : decode cX13_strength 61 = .ok (.ireturn, 1) := by decide +kernel
theorem dX13_take_0 : decode cX13_take 0 = .ok (.aload_n 0, 1) := by decide +kernel
theorem dX13_take_1 : decode cX13_take 1 = .ok (.iload_n 1, 1) := by decide +kernel
theorem dX13_take_2 : decode cX13_take 2 = .ok (.invokevirtual 244, 3) := by decide +kernel
theorem dX13_take_5 : decode cX13_take 5 = .ok (.ifCond .ne 7, 3) := by decide +kernel
theorem dX13_take_8 : decode cX13_take 8 = .ok (.aload_n 0, 1) := by decide +kernel
theorem dX13_take_9 : decode cX13_take 9 = .ok (.invokevirtual 247, 3) := by decide +kernel
theorem dX13_take_12 : decode cX13_take 12 = .ok (.aload_n 0, 1) := by decide +kernel
theorem dX13_take_13 : decode cX13_take 13 = .ok (.getfield 240, 3) := by decide +kernel
theorem dX13_take_16 : decode cX13_take 16 = .ok (.ifCond .ne 7, 3) := by decide +kernel
theorem dX13_take_19 : decode cX13_take 19 = .ok (.aload_n 0, 1) := by decide +kernel
theorem dX13_take_20 : decode cX13_take 20 = .ok (.invokevirtual 250, 3) := by decide +kernel
theorem dX13_take_23 : decode cX13_take 23 = .ok (.return_, 1) := by decide +kernel
theorem dX13_takeWord_0 : decode cX13_takeWord 0 = .ok (.aload_n 0, 1) := by decide +kernel
theorem dX13_takeWord_1 : decode cX13_takeWord 1 = .ok (.getfield 209, 3) := by decide +kernel
theorem dX13_takeWord_4 : decode cX13_takeWord 4 = .ok (.bipush 10, 2) := by decide +kernel
theorem dX13_takeWord_6 : decode cX13_takeWord 6 = .ok (.iload_n 1, 1) := by decide +kernel
theorem dX13_takeWord_7 : decode cX13_takeWord 7 = .ok (.iadd, 1) := by decide +kernel
theorem dX13_takeWord_8 : decode cX13_takeWord 8 = .ok (.if_icmp .eq 7, 3) := by decide +kernel
theorem dX13_takeWord_11 : decode cX13_takeWord 11 = .ok (.aload_n 0, 1) := by decide +kernel
theorem dX13_takeWord_12 : decode cX13_takeWord 12 = .ok (.invokevirtual 247, 3) := by decide +kernel
theorem dX13_takeWord_15 : decode cX13_takeWord 15 = .ok (.aload_n 0, 1) := by decide +kernel
theorem dX13_takeWord_16 : decode cX13_takeWord 16 = .ok (.getfield 240, 3) := by decide +kernel
theorem dX13_takeWord_19 : decode cX13_takeWord 19 = .ok (.ifCond .ne 7, 3) := by decide +kernel
theorem dX13_takeWord_22 : decode cX13_takeWord 22 = .ok (.aload_n 0, 1) := by decide +kernel
theorem dX13_takeWord_23 : decode cX13_takeWord 23 = .ok (.invokevirtual 250, 3) := by decide +kernel
theorem dX13_takeWord_26 : decode cX13_takeWord 26 = .ok (.return_, 1) := by decide +kernel
theorem dX13_text_0 : decode cX13_text 0 = .ok (.aload_n 0, 1) := by decide +kernel
theorem dX13_text_1 : decode cX13_text 1 = .ok (.iconst 0, 1) := by decide +kernel
theorem dX13_text_2 : decode cX13_text 2 = .ok (.putfield 173, 3) := by decide +kernel
theorem dX13_text_5 : decode cX13_text 5 = .ok (.aload_n 0, 1) := by decide +kernel
theorem dX13_text_6 : decode cX13_text 6 = .ok (.getfield 310, 3) := by decide +kernel
theorem dX13_text_9 : decode cX13_text 9 = .ok (.bipush 12, 2) := by decide +kernel
theorem dX13_text_11 : decode cX13_text 11 = .ok (.if_icmp .ne 5, 3) := by decide +kernel
theorem dX13_text_14 : decode cX13_text 14 = .ok (.iconst (-1), 1) := by decide +kernel
theorem dX13_text_15 : decode cX13_text 15 = .ok (.ireturn, 1) := by decide +kernel
theorem dX13_text_16 : decode cX13_text 16 = .ok (.aload_n 0, 1) := by decide +kernel
theorem dX13_text_17 : decode cX13_text 17 = .ok (.iconst (-1), 1) := by decide +kernel
theorem dX13_text_18 : decode cX13_text 18 = .ok (.putfield 13, 3) := by decide +kernel
theorem dX13_text_21 : decode cX13_text 21 = .ok (.aload_n 0, 1) := by decide +kernel
theorem dX13_text_22 : decode cX13_text 22 = .ok (.aload_n 0, 1) := by decide +kernel
theorem dX13_text_23 : decode cX13_text 23 = .ok (.getfield 310, 3) := by decide +kernel
theorem dX13_text_26 : decode cX13_text 26 = .ok (.putfield 253, 3) := by decide +kernel
theorem dX13_text_29 : decode cX13_text 29 = .ok (.aload_n 0, 1) := by decide +kernel
theorem dX13_text_30 : decode cX13_text 30 = .ok (.getfield 17, 3) := by decide +kernel
theorem dX13_text_33 : decode cX13_text 33 = .ok (.aload_n 0, 1) := by decide +kernel
theorem dX13_text_34 : decode cX13_text 34 = .ok (.getfield 253, 3) := by decide +kernel
theorem dX13_text_37 : decode cX13_text 37 = .ok (.iconst 0, 1) := by decide +kernel
theorem dX13_text_38 : decode cX13_text 38 = .ok (.iastore, 1) := by decide +kernel
theorem dX13_text_39 : decode cX13_text 39 = .ok (.aload_n 0, 1) := by decide +kernel
theorem dX13_text_40 : decode cX13_text 40 = .ok (.getfield 21, 3) := by decide +kernel
theorem dX13_text_43 : decode cX13_text 43 = .ok (.aload_n 0, 1) := by decide +kernel
theorem dX13_text_44 : decode cX13_text 44 = .ok (.getfield 253, 3) := by decide +kernel
theorem dX13_text_47 : decode cX13_text 47 = .ok (.iconst 0, 1) := by decide +kernel
theorem dX13_text_48 : decode cX13_text 48 = .ok (.iastore, 1) := by decide +kernel
theorem dX13_text_49 : decode cX13_text 49 = .ok (.aload_n 0, 1) := by decide +kernel
theorem dX13_text_50 : decode cX13_text 50 = .ok (.getfield 24, 3) := by decide +kernel
theorem dX13_text_53 : decode cX13_text 53 = .ok (.aload_n 0, 1) := by decide +kernel
theorem dX13_text_54 : decode cX13_text 54 = .ok (.getfield 253, 3) := by decide +kernel
theorem dX13_text_57 : decode cX13_text 57 = .ok (.iconst 0, 1) := by decide +kernel
theorem dX13_text_58 : decode cX13_text 58 = .ok (.iastore, 1) := by decide +kernel
theorem dX13_text_59 : decode cX13_text 59 = .ok (.aload_n 0, 1) := by decide +kernel
theorem dX13_text_60 : decode cX13_text 60 = .ok (.getfield 30, 3) := by decide +kernel
theorem dX13_text_63 : decode cX13_text 63 = .ok (.aload_n 0, 1) := by decide +kernel
theorem dX13_text_64 : decode cX13_text 64 = .ok (.getfield 253, 3) := by decide +kernel
theorem dX13_text_67 : decode cX13_text 67 = .ok (.iconst 0, 1) := by decide +kernel
theorem dX13_text_68 : decode cX13_text 68 = .ok (.iastore, 1) := by decide +kernel
theorem dX13_text_69 : decode cX13_text 69 = .ok (.aload_n 0, 1) := by decide +kernel
theorem dX13_text_70 : decode cX13_text 70 = .ok (.iconst 0, 1) := by decide +kernel
theorem dX13_text_71 : decode cX13_text 71 = .ok (.putfield 199, 3) := by decide +kernel
theorem dX13_text_74 : decode cX13_text 74 = .ok (.aload_n 0, 1) := by decide +kernel
theorem dX13_text_75 : decode cX13_text 75 = .ok (.iconst 0, 1) := by decide +kernel
theorem dX13_text_76 : decode cX13_text 76 = .ok (.putfield 240, 3) := by decide +kernel
theorem dX13_text_79 : decode cX13_text 79 = .ok (.aload_n 0, 1) := by decide +kernel
theorem dX13_text_80 : decode cX13_text 80 = .ok (.invokevirtual 313, 3) := by decide +kernel
theorem dX13_text_83 : decode cX13_text 83 = .ok (.aload_n 0, 1) := by decide +kernel
theorem dX13_text_84 : decode cX13_text 84 = .ok (.iconst 0, 1) := by decide +kernel
theorem dX13_text_85 : decode cX13_text 85 = .ok (.putfield 176, 3) := by decide +kernel
theorem dX13_text_88 : decode cX13_text 88 = .ok (.aload_n 0, 1) := by decide +kernel
theorem dX13_text_89 : decode cX13_text 89 = .ok (.getfield 240, 3) := by decide +kernel
theorem dX13_text_92 : decode cX13_text 92 = .ok (.ifCond .eq 6, 3) := by decide +kernel
theorem dX13_text_95 : decode cX13_text 95 = .ok (.bipush (-2), 2) := by decide +kernel
theorem dX13_text_97 : decode cX13_text 97 = .ok (.ireturn, 1) := by decide +kernel
theorem dX13_text_98 : decode cX13_text 98 = .ok (.aload_n 0, 1) := by decide +kernel
theorem dX13_text_99 : decode cX13_text 99 = .ok (.dup, 1) := by decide +kernel
theorem dX13_text_100 : decode cX13_text 100 = .ok (.getfield 310, 3) := by decide +kernel
theorem dX13_text_103 : decode cX13_text 103 = .ok (.iconst 1, 1) := by decide +kernel
theorem dX13_text_104 : decode cX13_text 104 = .ok (.iadd, 1) := by decide +kernel
theorem dX13_text_105 : decode cX13_text 105 = .ok (.putfield 310, 3) := by decide +kernel
theorem dX13_text_108 : decode cX13_text 108 = .ok (.aload_n 0, 1) := by decide +kernel
theorem dX13_text_109 : decode cX13_text 109 = .ok (.getfield 310, 3) := by decide +kernel
theorem dX13_text_112 : decode cX13_text 112 = .ok (.iconst 1, 1) := by decide +kernel
theorem dX13_text_113 : decode cX13_text 113 = .ok (.isub, 1) := by decide +kernel
theorem dX13_text_114 : decode cX13_text 114 = .ok (.ireturn, 1) := by decide +kernel
theorem dX13_throwFrom_0 : decode cX13_throwFrom 0 = .ok (.aload_n 0, 1) := by decide +kernel
theorem dX13_throwFrom_1 : decode cX13_throwFrom 1 = .ok (.iload_n 1, 1) := by decide +kernel
theorem dX13_throwFrom_2 : decode cX13_throwFrom 2 = .ok (.bipush 7, 2) := by decide +kernel
theorem dX13_throwFrom_4 : decode cX13_throwFrom 4 = .ok (.invokevirtual 373, 3) := by decide +kernel
theorem dX13_throwFrom_7 : decode cX13_throwFrom 7 = .ok (.istore_n 2, 1) := by decide +kernel
theorem dX13_throwFrom_8 : decode cX13_throwFrom 8 = .ok (.iload_n 2, 1) := by decide +kernel
theorem dX13_throwFrom_9 : decode cX13_throwFrom 9 = .ok (.ifCond .ge 5, 3) := by decide +kernel
theorem dX13_throwFrom_12 : decode cX13_throwFrom 12 = .ok (.iconst 2, 1) := by decide +kernel
theorem dX13_throwFrom_13 : decode cX13_throwFrom 13 = .ok (.ireturn, 1) := by decide +kernel
theorem dX13_throwFrom_14 : decode cX13_throwFrom 14 = .ok (.aload_n 0, 1) := by decide +kernel
theorem dX13_throwFrom_15 : decode cX13_throwFrom 15 = .ok (.iload_n 2, 1) := by decide +kernel
theorem dX13_throwFrom_16 : decode cX13_throwFrom 16 = .ok (.invokevirtual 377, 3) := by decide +kernel
theorem dX13_throwFrom_19 : decode cX13_throwFrom 19 = .ok (.aload_n 0, 1) := by decide +kernel
theorem dX13_throwFrom_20 : decode cX13_throwFrom 20 = .ok (.getfield 131, 3) := by decide +kernel
theorem dX13_throwFrom_23 : decode cX13_throwFrom 23 = .ok (.aload_n 0, 1) := by decide +kernel
theorem dX13_throwFrom_24 : decode cX13_throwFrom 24 = .ok (.getfield 54, 3) := by decide +kernel
theorem dX13_throwFrom_27 : decode cX13_throwFrom 27 = .ok (.iload_n 2, 1) := by decide +kernel
theorem dX13_throwFrom_28 : decode cX13_throwFrom 28 = .ok (.iaload, 1) := by decide +kernel
theorem dX13_throwFrom_29 : decode cX13_throwFrom 29 = .ok (.bipush 16, 2) := by decide +kernel
theorem dX13_throwFrom_31 : decode cX13_throwFrom 31 = .ok (.isub, 1) := by decide +kernel
theorem dX13_throwFrom_32 : decode cX13_throwFrom 32 = .ok (.aload_n 0, 1) := by decide +kernel
theorem dX13_throwFrom_33 : decode cX13_throwFrom 33 = .ok (.getfield 342, 3) := by decide +kernel
theorem dX13_throwFrom_36 : decode cX13_throwFrom 36 = .ok (.lastore, 1) := by decide +kernel
theorem dX13_throwFrom_37 : decode cX13_throwFrom 37 = .ok (.aload_n 0, 1) := by decide +kernel
theorem dX13_throwFrom_38 : decode cX13_throwFrom 38 = .ok (.iload_n 2, 1) := by decide +kernel
theorem dX13_throwFrom_39 : decode cX13_throwFrom 39 = .ok (.aload_n 0, 1) := by decide +kernel
theorem dX13_throwFrom_40 : decode cX13_throwFrom 40 = .ok (.getfield 51, 3) := by decide +kernel
theorem dX13_throwFrom_43 : decode cX13_throwFrom 43 = .ok (.iload_n 2, 1) := by decide +kernel
theorem dX13_throwFrom_44 : decode cX13_throwFrom 44 = .ok (.iaload, 1) := by decide +kernel
theorem dX13_throwFrom_45 : decode cX13_throwFrom 45 = .ok (.invokevirtual 364, 3) := by decide +kernel
theorem dX13_throwFrom_48 : decode cX13_throwFrom 48 = .ok (.iconst 0, 1) := by decide +kernel
theorem dX13_throwFrom_49 : decode cX13_throwFrom 49 = .ok (.ireturn, 1) := by decide +kernel
theorem dX13_told_0 : decode cX13_told 0 = .ok (.aload_n 0, 1) := by decide +kernel
theorem dX13_told_1 : decode cX13_told 1 = .ok (.iconst 0, 1) := by decide +kernel
theorem dX13_told_2 : decode cX13_told 2 = .ok (.putfield 173, 3) := by decide +kernel
theorem dX13_told_5 : decode cX13_told 5 = .ok (.iload_n 1, 1) := by decide +kernel
theorem dX13_told_6 : decode cX13_told 6 = .ok (.ifCond .lt 11, 3) := by decide +kernel
theorem dX13_told_9 : decode cX13_told 9 = .ok (.iload_n 1, 1) := by decide +kernel
theorem dX13_told_10 : decode cX13_told 10 = .ok (.aload_n 0, 1) := by decide +kernel
theorem dX13_told_11 : decode cX13_told 11 = .ok (.getfield 310, 3) := by decide +kernel
theorem dX13_told_14 : decode cX13_told 14 = .ok (.if_icmp .lt 5, 3) := by decide +kernel
theorem dX13_told_17 : decode cX13_told 17 = .ok (.iconst (-1), 1) := by decide +kernel
theorem dX13_told_18 : decode cX13_told 18 = .ok (.ireturn, 1) := by decide +kernel
theorem dX13_told_19 : decode cX13_told 19 = .ok (.iload_n 2, 1) := by decide +kernel
theorem dX13_told_20 : decode cX13_told 20 = .ok (.ifCond .ne 12, 3) := by decide +kernel
theorem dX13_told_23 : decode cX13_told 23 = .ok (.aload_n 0, 1) := by decide +kernel
theorem dX13_told_24 : decode cX13_told 24 = .ok (.getfield 17, 3) := by decide +kernel
theorem dX13_told_27 : decode cX13_told 27 = .ok (.iload_n 1, 1) := by decide +kernel
theorem dX13_told_28 : decode cX13_told 28 = .ok (.iaload, 1) := by decide +kernel
theorem dX13_told_29 : decode cX13_told 29 = .ok (.goto 32, 3) := by decide +kernel
theorem dX13_told_32 : decode cX13_told 32 = .ok (.iload_n 2, 1) := by decide +kernel
theorem dX13_told_33 : decode cX13_told 33 = .ok (.iconst 1, 1) := by decide +kernel
theorem dX13_told_34 : decode cX13_told 34 = .ok (.if_icmp .ne 12, 3) := by decide +kernel
theorem dX13_told_37 : decode cX13_told 37 = .ok (.aload_n 0, 1) := by decide +kernel
theorem dX13_told_38 : decode cX13_told 38 = .ok (.getfield 21, 3) := by decide +kernel
theorem dX13_told_41 : decode cX13_told 41 = .ok (.iload_n 1, 1) := by decide +kernel
theorem dX13_told_42 : decode cX13_told 42 = .ok (.iaload, 1) := by decide +kernel
theorem dX13_told_43 : decode cX13_told 43 = .ok (.goto 18, 3) := by decide +kernel
theorem dX13_told_46 : decode cX13_told 46 = .ok (.iload_n 2, 1) := by decide +kernel
theorem dX13_told_47 : decode cX13_told 47 = .ok (.iconst 2, 1) := by decide +kernel
theorem dX13_told_48 : decode cX13_told 48 = .ok (.if_icmp .ne 12, 3) := by decide +kernel
theorem dX13_told_51 : decode cX13_told 51 = .ok (.aload_n 0, 1) := by decide +kernel
theorem dX13_told_52 : decode cX13_told 52 = .ok (.getfield 24, 3) := by decide +kernel
theorem dX13_told_55 : decode cX13_told 55 = .ok (.iload_n 1, 1) := by decide +kernel
theorem dX13_told_56 : decode cX13_told 56 = .ok (.iaload, 1) := by decide +kernel
theorem dX13_told_57 : decode cX13_told 57 = .ok (.goto 4, 3) := by decide +kernel
theorem dX13_told_60 : decode cX13_told 60 = .ok (.iconst (-1), 1) := by decide +kernel
theorem dX13_told_61 : decode cX13_told 61 = .ok (.ireturn, 1) := by decide +kernel
theorem dX13_turn_0 : decode cX13_turn 0 = .ok (.aload_n 0, 1) := by decide +kernel
theorem dX13_turn_1 : decode cX13_turn 1 = .ok (.iconst 0, 1) := by decide +kernel
theorem dX13_turn_2 : decode cX13_turn 2 = .ok (.putfield 173, 3) := by decide +kernel
theorem dX13_turn_5 : decode cX13_turn 5 = .ok (.aload_n 0, 1) := by decide +kernel
theorem dX13_turn_6 : decode cX13_turn 6 = .ok (.iload_n 1, 1) := by decide +kernel
theorem dX13_turn_7 : decode cX13_turn 7 = .ok (.invokevirtual 431, 3) := by decide +kernel
theorem dX13_turn_10 : decode cX13_turn 10 = .ok (.ifCond .eq 11, 3) := by decide +kernel
theorem dX13_turn_13 : decode cX13_turn 13 = .ok (.aload_n 0, 1) := by decide +kernel
theorem dX13_turn_14 : decode cX13_turn 14 = .ok (.iload_n 1, 1) := by decide +kernel
theorem dX13_turn_15 : decode cX13_turn 15 = .ok (.invokevirtual 434, 3) := by decide +kernel
theorem dX13_turn_18 : decode cX13_turn 18 = .ok (.goto 4, 3) := by decide +kernel
theorem dX13_turn_21 : decode cX13_turn 21 = .ok (.iconst (-1), 1) := by decide +kernel
theorem dX13_turn_22 : decode cX13_turn 22 = .ok (.ireturn, 1) := by decide +kernel
theorem dX13_turnOf_0 : decode cX13_turnOf 0 = .ok (.aload_n 0, 1) := by decide +kernel
theorem dX13_turnOf_1 : decode cX13_turnOf 1 = .ok (.getfield 98, 3) := by decide +kernel
theorem dX13_turnOf_4 : decode cX13_turnOf 4 = .ok (.iload_n 1, 1) := by decide +kernel
theorem dX13_turnOf_5 : decode cX13_turnOf 5 = .ok (.iaload, 1) := by decide +kernel
theorem dX13_turnOf_6 : decode cX13_turnOf 6 = .ok (.ifCond .ne 5, 3) := by decide +kernel
theorem dX13_turnOf_9 : decode cX13_turnOf 9 = .ok (.iconst 5, 1) := by decide +kernel
theorem dX13_turnOf_10 : decode cX13_turnOf 10 = .ok (.ireturn, 1) := by decide +kernel
theorem dX13_turnOf_11 : decode cX13_turnOf 11 = .ok (.aload_n 0, 1) := by decide +kernel
theorem dX13_turnOf_12 : decode cX13_turnOf 12 = .ok (.getfield 101, 3) := by decide +kernel
theorem dX13_turnOf_15 : decode cX13_turnOf 15 = .ok (.iload_n 1, 1) := by decide +kernel
theorem dX13_turnOf_16 : decode cX13_turnOf 16 = .ok (.iaload, 1) := by decide +kernel
theorem dX13_turnOf_17 : decode cX13_turnOf 17 = .ok (.iconst 2, 1) := by decide +kernel
theorem dX13_turnOf_18 : decode cX13_turnOf 18 = .ok (.if_icmp .ne 29, 3) := by decide +kernel
theorem dX13_turnOf_21 : decode cX13_turnOf 21 = .ok (.aload_n 0, 1) := by decide +kernel
theorem dX13_turnOf_22 : decode cX13_turnOf 22 = .ok (.iconst 0, 1) := by decide +kernel
theorem dX13_turnOf_23 : decode cX13_turnOf 23 = .ok (.putfield 319, 3) := by decide +kernel
theorem dX13_turnOf_26 : decode cX13_turnOf 26 = .ok (.aload_n 0, 1) := by decide +kernel
theorem dX13_turnOf_27 : decode cX13_turnOf 27 = .ok (.iload_n 1, 1) := by decide +kernel
theorem dX13_turnOf_28 : decode cX13_turnOf 28 = .ok (.invokevirtual 389, 3) := by decide +kernel
theorem dX13_turnOf_31 : decode cX13_turnOf 31 = .ok (.aload_n 0, 1) := by decide +kernel
theorem dX13_turnOf_32 : decode cX13_turnOf 32 = .ok (.invokevirtual 325, 3) := by decide +kernel
theorem dX13_turnOf_35 : decode cX13_turnOf 35 = .ok (.ifCond .ne 5, 3) := by decide +kernel
theorem dX13_turnOf_38 : decode cX13_turnOf 38 = .ok (.iconst 4, 1) := by decide +kernel
theorem dX13_turnOf_39 : decode cX13_turnOf 39 = .ok (.ireturn, 1) := by decide +kernel
theorem dX13_turnOf_40 : decode cX13_turnOf 40 = .ok (.aload_n 0, 1) := by decide +kernel
theorem dX13_turnOf_41 : decode cX13_turnOf 41 = .ok (.getfield 101, 3) := by decide +kernel
theorem dX13_turnOf_44 : decode cX13_turnOf 44 = .ok (.iload_n 1, 1) := by decide +kernel
theorem dX13_turnOf_45 : decode cX13_turnOf 45 = .ok (.iconst 0, 1) := by decide +kernel
theorem dX13_turnOf_46 : decode cX13_turnOf 46 = .ok (.iastore, 1) := by decide +kernel
theorem dX13_turnOf_47 : decode cX13_turnOf 47 = .ok (.aload_n 0, 1) := by decide +kernel
theorem dX13_turnOf_48 : decode cX13_turnOf 48 = .ok (.getfield 101, 3) := by decide +kernel
theorem dX13_turnOf_51 : decode cX13_turnOf 51 = .ok (.iload_n 1, 1) := by decide +kernel
theorem dX13_turnOf_52 : decode cX13_turnOf 52 = .ok (.iaload, 1) := by decide +kernel
theorem dX13_turnOf_53 : decode cX13_turnOf 53 = .ok (.ifCond .ne 24, 3) := by decide +kernel
theorem dX13_turnOf_56 : decode cX13_turnOf 56 = .ok (.aload_n 0, 1) := by decide +kernel
theorem dX13_turnOf_57 : decode cX13_turnOf 57 = .ok (.getfield 101, 3) := by decide +kernel
theorem dX13_turnOf_60 : decode cX13_turnOf 60 = .ok (.iload_n 1, 1) := by decide +kernel
theorem dX13_turnOf_61 : decode cX13_turnOf 61 = .ok (.iconst 1, 1) := by decide +kernel
theorem dX13_turnOf_62 : decode cX13_turnOf 62 = .ok (.iastore, 1) := by decide +kernel
theorem dX13_turnOf_63 : decode cX13_turnOf 63 = .ok (.aload_n 0, 1) := by decide +kernel
theorem dX13_turnOf_64 : decode cX13_turnOf 64 = .ok (.getfield 104, 3) := by decide +kernel
theorem dX13_turnOf_67 : decode cX13_turnOf 67 = .ok (.iload_n 1, 1) := by decide +kernel
theorem dX13_turnOf_68 : decode cX13_turnOf 68 = .ok (.iconst 0, 1) := by decide +kernel
theorem dX13_turnOf_69 : decode cX13_turnOf 69 = .ok (.iastore, 1) := by decide +kernel
theorem dX13_turnOf_70 : decode cX13_turnOf 70 = .ok (.aload_n 0, 1) := by decide +kernel
theorem dX13_turnOf_71 : decode cX13_turnOf 71 = .ok (.getfield 113, 3) := by decide +kernel
theorem dX13_turnOf_74 : decode cX13_turnOf 74 = .ok (.iload_n 1, 1) := by decide +kernel
theorem dX13_turnOf_75 : decode cX13_turnOf 75 = .ok (.iconst 0, 1) := by decide +kernel
theorem dX13_turnOf_76 : decode cX13_turnOf 76 = .ok (.iastore, 1) := by decide +kernel
theorem dX13_turnOf_77 : decode cX13_turnOf 77 = .ok (.aload_n 0, 1) := by decide +kernel
theorem dX13_turnOf_78 : decode cX13_turnOf 78 = .ok (.iload_n 1, 1) := by decide +kernel
theorem dX13_turnOf_79 : decode cX13_turnOf 79 = .ok (.invokevirtual 405, 3) := by decide +kernel
theorem dX13_turnOf_82 : decode cX13_turnOf 82 = .ok (.aload_n 0, 1) := by decide +kernel
theorem dX13_turnOf_83 : decode cX13_turnOf 83 = .ok (.getfield 104, 3) := by decide +kernel
theorem dX13_turnOf_86 : decode cX13_turnOf 86 = .ok (.iload_n 1, 1) := by decide +kernel
theorem dX13_turnOf_87 : decode cX13_turnOf 87 = .ok (.iaload, 1) := by decide +kernel
theorem dX13_turnOf_88 : decode cX13_turnOf 88 = .ok (.sipush 300, 3) := by decide +kernel
theorem dX13_turnOf_91 : decode cX13_turnOf 91 = .ok (.if_icmp .ne 15, 3) := by decide +kernel
theorem dX13_turnOf_94 : decode cX13_turnOf 94 = .ok (.iconst 2, 1) := by decide +kernel
theorem dX13_turnOf_95 : decode cX13_turnOf 95 = .ok (.istore_n 2, 1) := by decide +kernel
theorem dX13_turnOf_96 : decode cX13_turnOf 96 = .ok (.aload_n 0, 1) := by decide +kernel
theorem dX13_turnOf_97 : decode cX13_turnOf 97 = .ok (.ldc2_w 408, 3) := by decide +kernel
theorem dX13_turnOf_100 : decode cX13_turnOf 100 = .ok (.putfield 342, 3) := by decide +kernel
theorem dX13_turnOf_103 : decode cX13_turnOf 103 = .ok (.goto 8, 3) := by decide +kernel
theorem dX13_turnOf_106 : decode cX13_turnOf 106 = .ok (.aload_n 0, 1) := by decide +kernel
theorem dX13_turnOf_107 : decode cX13_turnOf 107 = .ok (.invokevirtual 395, 3) := by decide +kernel
theorem dX13_turnOf_110 : decode cX13_turnOf 110 = .ok (.istore_n 2, 1) := by decide +kernel
theorem dX13_turnOf_111 : decode cX13_turnOf 111 = .ok (.iload_n 2, 1) := by decide +kernel
theorem dX13_turnOf_112 : decode cX13_turnOf 112 = .ok (.ifCond .ne 20, 3) := by decide +kernel
theorem dX13_turnOf_115 : decode cX13_turnOf 115 = .ok (.aload_n 0, 1) := by decide +kernel
theorem dX13_turnOf_116 : decode cX13_turnOf 116 = .ok (.getfield 104, 3) := by decide +kernel
theorem dX13_turnOf_119 : decode cX13_turnOf 119 = .ok (.iload_n 1, 1) := by decide +kernel
theorem dX13_turnOf_120 : decode cX13_turnOf 120 = .ok (.dup2, 1) := by decide +kernel
theorem dX13_turnOf_121 : decode cX13_turnOf 121 = .ok (.iaload, 1) := by decide +kernel
theorem dX13_turnOf_122 : decode cX13_turnOf 122 = .ok (.iconst 1, 1) := by decide +kernel
theorem dX13_turnOf_123 : decode cX13_turnOf 123 = .ok (.iadd, 1) := by decide +kernel
theorem dX13_turnOf_124 : decode cX13_turnOf 124 = .ok (.iastore, 1) := by decide +kernel
theorem dX13_turnOf_125 : decode cX13_turnOf 125 = .ok (.aload_n 0, 1) := by decide +kernel
theorem dX13_turnOf_126 : decode cX13_turnOf 126 = .ok (.iload_n 1, 1) := by decide +kernel
theorem dX13_turnOf_127 : decode cX13_turnOf 127 = .ok (.invokevirtual 410, 3) := by decide +kernel
theorem dX13_turnOf_130 : decode cX13_turnOf 130 = .ok (.iconst 0, 1) := by decide +kernel
theorem dX13_turnOf_131 : decode cX13_turnOf 131 = .ok (.ireturn, 1) := by decide +kernel
theorem dX13_turnOf_132 : decode cX13_turnOf 132 = .ok (.iload_n 2, 1) := by decide +kernel
theorem dX13_turnOf_133 : decode cX13_turnOf 133 = .ok (.iconst 1, 1) := by decide +kernel
theorem dX13_turnOf_134 : decode cX13_turnOf 134 = .ok (.if_icmp .eq 10, 3) := by decide +kernel
theorem dX13_turnOf_137 : decode cX13_turnOf 137 = .ok (.aload_n 0, 1) := by decide +kernel
theorem dX13_turnOf_138 : decode cX13_turnOf 138 = .ok (.invokevirtual 325, 3) := by decide +kernel
theorem dX13_turnOf_141 : decode cX13_turnOf 141 = .ok (.ifCond .eq 9, 3) := by decide +kernel
theorem dX13_turnOf_144 : decode cX13_turnOf 144 = .ok (.aload_n 0, 1) := by decide +kernel
theorem dX13_turnOf_145 : decode cX13_turnOf 145 = .ok (.iload_n 1, 1) := by decide +kernel
theorem dX13_turnOf_146 : decode cX13_turnOf 146 = .ok (.invokevirtual 413, 3) := by decide +kernel
theorem dX13_turnOf_149 : decode cX13_turnOf 149 = .ok (.ireturn, 1) := by decide +kernel
theorem dX13_turnOf_150 : decode cX13_turnOf 150 = .ok (.iload_n 2, 1) := by decide +kernel
theorem dX13_turnOf_151 : decode cX13_turnOf 151 = .ok (.iconst 3, 1) := by decide +kernel
theorem dX13_turnOf_152 : decode cX13_turnOf 152 = .ok (.if_icmp .ne 31, 3) := by decide +kernel
theorem dX13_turnOf_155 : decode cX13_turnOf 155 = .ok (.aload_n 0, 1) := by decide +kernel
theorem dX13_turnOf_156 : decode cX13_turnOf 156 = .ok (.getfield 101, 3) := by decide +kernel
theorem dX13_turnOf_159 : decode cX13_turnOf 159 = .ok (.iload_n 1, 1) := by decide +kernel
theorem dX13_turnOf_160 : decode cX13_turnOf 160 = .ok (.iconst 2, 1) := by decide +kernel
theorem dX13_turnOf_161 : decode cX13_turnOf 161 = .ok (.iastore, 1) := by decide +kernel
theorem dX13_turnOf_162 : decode cX13_turnOf 162 = .ok (.aload_n 0, 1) := by decide +kernel
theorem dX13_turnOf_163 : decode cX13_turnOf 163 = .ok (.getfield 104, 3) := by decide +kernel
theorem dX13_turnOf_166 : decode cX13_turnOf 166 = .ok (.iload_n 1, 1) := by decide +kernel
theorem dX13_turnOf_167 : decode cX13_turnOf 167 = .ok (.iconst 0, 1) := by decide +kernel
theorem dX13_turnOf_168 : decode cX13_turnOf 168 = .ok (.iastore, 1) := by decide +kernel
theorem dX13_turnOf_169 : decode cX13_turnOf 169 = .ok (.aload_n 0, 1) := by decide +kernel
theorem dX13_turnOf_170 : decode cX13_turnOf 170 = .ok (.getfield 110, 3) := by decide +kernel
theorem dX13_turnOf_173 : decode cX13_turnOf 173 = .ok (.iload_n 1, 1) := by decide +kernel
theorem dX13_turnOf_174 : decode cX13_turnOf 174 = .ok (.iconst 0, 1) := by decide +kernel
theorem dX13_turnOf_175 : decode cX13_turnOf 175 = .ok (.bastore, 1) := by decide +kernel
theorem dX13_turnOf_176 : decode cX13_turnOf 176 = .ok (.aload_n 0, 1) := by decide +kernel
theorem dX13_turnOf_177 : decode cX13_turnOf 177 = .ok (.iload_n 1, 1) := by decide +kernel
theorem dX13_turnOf_178 : decode cX13_turnOf 178 = .ok (.invokevirtual 410, 3) := by decide +kernel
theorem dX13_turnOf_181 : decode cX13_turnOf 181 = .ok (.iconst 4, 1) := by decide +kernel
theorem dX13_turnOf_182 : decode cX13_turnOf 182 = .ok (.ireturn, 1) := by decide +kernel
theorem dX13_turnOf_183 : decode cX13_turnOf 183 = .ok (.aload_n 0, 1) := by decide +kernel
theorem dX13_turnOf_184 : decode cX13_turnOf 184 = .ok (.iload_n 1, 1) := by decide +kernel
theorem dX13_turnOf_185 : decode cX13_turnOf 185 = .ok (.invokevirtual 416, 3) := by decide +kernel
theorem dX13_turnOf_188 : decode cX13_turnOf 188 = .ok (.ifCond .eq 6, 3) := by decide +kernel
theorem dX13_turnOf_191 : decode cX13_turnOf 191 = .ok (.bipush 6, 2) := by decide +kernel
theorem dX13_turnOf_193 : decode cX13_turnOf 193 = .ok (.ireturn, 1) := by decide +kernel
theorem dX13_turnOf_194 : decode cX13_turnOf 194 = .ok (.iload_n 2, 1) := by decide +kernel
theorem dX13_turnOf_195 : decode cX13_turnOf 195 = .ok (.iconst 2, 1) := by decide +kernel
theorem dX13_turnOf_196 : decode cX13_turnOf 196 = .ok (.if_icmp .ne 13, 3) := by decide +kernel
theorem dX13_turnOf_199 : decode cX13_turnOf 199 = .ok (.aload_n 0, 1) := by decide +kernel
theorem dX13_turnOf_200 : decode cX13_turnOf 200 = .ok (.iload_n 1, 1) := by decide +kernel
theorem dX13_turnOf_201 : decode cX13_turnOf 201 = .ok (.aload_n 0, 1) := by decide +kernel
theorem dX13_turnOf_202 : decode cX13_turnOf 202 = .ok (.getfield 342, 3) := by decide +kernel
theorem dX13_turnOf_205 : decode cX13_turnOf 205 = .ok (.invokevirtual 419, 3) := by decide +kernel
theorem dX13_turnOf_208 : decode cX13_turnOf 208 = .ok (.ireturn, 1) := by decide +kernel
theorem dX13_turnOf_209 : decode cX13_turnOf 209 = .ok (.aload_n 0, 1) := by decide +kernel
theorem dX13_turnOf_210 : decode cX13_turnOf 210 = .ok (.invokevirtual 423, 3) := by decide +kernel
theorem dX13_turnOf_213 : decode cX13_turnOf 213 = .ok (.ifCond .ne 12, 3) := by decide +kernel
theorem dX13_turnOf_216 : decode cX13_turnOf 216 = .ok (.aload_n 0, 1) := by decide +kernel
theorem dX13_turnOf_217 : decode cX13_turnOf 217 = .ok (.iload_n 1, 1) := by decide +kernel
theorem dX13_turnOf_218 : decode cX13_turnOf 218 = .ok (.ldc2_w 426, 3) := by decide +kernel
theorem dX13_turnOf_221 : decode cX13_turnOf 221 = .ok (.invokevirtual 419, 3) := by decide +kernel
theorem dX13_turnOf_224 : decode cX13_turnOf 224 = .ok (.ireturn, 1) := by decide +kernel
theorem dX13_turnOf_225 : decode cX13_turnOf 225 = .ok (.aload_n 0, 1) := by decide +kernel
theorem dX13_turnOf_226 : decode cX13_turnOf 226 = .ok (.getfield 386, 3) := by decide +kernel
theorem dX13_turnOf_229 : decode cX13_turnOf 229 = .ok (.sipush 300, 3) := by decide +kernel
theorem dX13_turnOf_232 : decode cX13_turnOf 232 = .ok (.if_icmp .ne 5, 3) := by decide +kernel
theorem dX13_turnOf_235 : decode cX13_turnOf 235 = .ok (.iconst (-1), 1) := by decide +kernel
theorem dX13_turnOf_236 : decode cX13_turnOf 236 = .ok (.ireturn, 1) := by decide +kernel
theorem dX13_turnOf_237 : decode cX13_turnOf 237 = .ok (.aload_n 0, 1) := by decide +kernel
theorem dX13_turnOf_238 : decode cX13_turnOf 238 = .ok (.invokevirtual 428, 3) := by decide +kernel
theorem dX13_turnOf_241 : decode cX13_turnOf 241 = .ok (.aload_n 0, 1) := by decide +kernel
theorem dX13_turnOf_242 : decode cX13_turnOf 242 = .ok (.iconst 1, 1) := by decide +kernel
theorem dX13_turnOf_243 : decode cX13_turnOf 243 = .ok (.iload_n 1, 1) := by decide +kernel
theorem dX13_turnOf_244 : decode cX13_turnOf 244 = .ok (.aload_n 0, 1) := by decide +kernel
theorem dX13_turnOf_245 : decode cX13_turnOf 245 = .ok (.iload_n 1, 1) := by decide +kernel
theorem dX13_turnOf_246 : decode cX13_turnOf 246 = .ok (.invokevirtual 392, 3) := by decide +kernel
theorem dX13_turnOf_249 : decode cX13_turnOf 249 = .ok (.aload_n 0, 1) := by decide +kernel
theorem dX13_turnOf_250 : decode cX13_turnOf 250 = .ok (.getfield 104, 3) := by decide +kernel
theorem dX13_turnOf_253 : decode cX13_turnOf 253 = .ok (.iload_n 1, 1) := by decide +kernel
theorem dX13_turnOf_254 : decode cX13_turnOf 254 = .ok (.iaload, 1) := by decide +kernel
theorem dX13_turnOf_255 : decode cX13_turnOf 255 = .ok (.iconst 1, 1) := by decide +kernel
theorem dX13_turnOf_256 : decode cX13_turnOf 256 = .ok (.iadd, 1) := by decide +kernel
theorem dX13_turnOf_257 : decode cX13_turnOf 257 = .ok (.aload_n 0, 1) := by decide +kernel
theorem dX13_turnOf_258 : decode cX13_turnOf 258 = .ok (.getfield 107, 3) := by decide +kernel
theorem dX13_turnOf_261 : decode cX13_turnOf 261 = .ok (.iload_n 1, 1) := by decide +kernel
theorem dX13_turnOf_262 : decode cX13_turnOf 262 = .ok (.iaload, 1) := by decide +kernel
theorem dX13_turnOf_263 : decode cX13_turnOf 263 = .ok (.lconst 0, 1) := by decide +kernel
theorem dX13_turnOf_264 : decode cX13_turnOf 264 = .ok (.invokevirtual 398, 3) := by decide +kernel
theorem dX13_turnOf_267 : decode cX13_turnOf 267 = .ok (.aload_n 0, 1) := by decide +kernel
theorem dX13_turnOf_268 : decode cX13_turnOf 268 = .ok (.iload_n 1, 1) := by decide +kernel
theorem dX13_turnOf_269 : decode cX13_turnOf 269 = .ok (.invokevirtual 402, 3) := by decide +kernel
theorem dX13_turnOf_272 : decode cX13_turnOf 272 = .ok (.iconst 1, 1) := by decide +kernel
theorem dX13_turnOf_273 : decode cX13_turnOf 273 = .ok (.ireturn, 1) := by decide +kernel
theorem dX13_two_0 : decode cX13_two 0 = .ok (.iload_n 1, 1) := by decide +kernel
theorem dX13_two_1 : decode cX13_two 1 = .ok (.lookupswitch 113 #[(35, 85), (42, 108), (43, 98), (45, 103), (60, 59), (61, 72)], 59) := by decide +kernel
theorem dX13_two_60 : decode cX13_two 60 = .ok (.lload_n 2, 1) := by decide +kernel
theorem dX13_two_61 : decode cX13_two 61 = .ok (.lload 4, 2) := by decide +kernel
theorem dX13_two_63 : decode cX13_two 63 = .ok (.lcmp, 1) := by decide +kernel
theorem dX13_two_64 : decode cX13_two 64 = .ok (.ifCond .ge 7, 3) := by decide +kernel
theorem dX13_two_67 : decode cX13_two 67 = .ok (.lconst 1, 1) := by decide +kernel
theorem dX13_two_68 : decode cX13_two 68 = .ok (.goto 4, 3) := by decide +kernel
theorem dX13_two_71 : decode cX13_two 71 = .ok (.lconst 0, 1) := by decide +kernel
theorem dX13_two_72 : decode cX13_two 72 = .ok (.lreturn, 1) := by decide +kernel
theorem dX13_two_73 : decode cX13_two 73 = .ok (.lload_n 2, 1) := by decide +kernel
theorem dX13_two_74 : decode cX13_two 74 = .ok (.lload 4, 2) := by decide +kernel
theorem dX13_two_76 : decode cX13_two 76 = .ok (.lcmp, 1) := by decide +kernel
theorem dX13_two_77 : decode cX13_two 77 = .ok (.ifCond .ne 7, 3) := by decide +kernel
theorem dX13_two_80 : decode cX13_two 80 = .ok (.lconst 1, 1) := by decide +kernel
theorem dX13_two_81 : decode cX13_two 81 = .ok (.goto 4, 3) := by decide +kernel
theorem dX13_two_84 : decode cX13_two 84 = .ok (.lconst 0, 1) := by decide +kernel
theorem dX13_two_85 : decode cX13_two 85 = .ok (.lreturn, 1) := by decide +kernel
theorem dX13_two_86 : decode cX13_two 86 = .ok (.lload_n 2, 1) := by decide +kernel
theorem dX13_two_87 : decode cX13_two 87 = .ok (.lload 4, 2) := by decide +kernel
theorem dX13_two_89 : decode cX13_two 89 = .ok (.lcmp, 1) := by decide +kernel
theorem dX13_two_90 : decode cX13_two 90 = .ok (.ifCond .eq 7, 3) := by decide +kernel
theorem dX13_two_93 : decode cX13_two 93 = .ok (.lconst 1, 1) := by decide +kernel
theorem dX13_two_94 : decode cX13_two 94 = .ok (.goto 4, 3) := by decide +kernel
theorem dX13_two_97 : decode cX13_two 97 = .ok (.lconst 0, 1) := by decide +kernel
theorem dX13_two_98 : decode cX13_two 98 = .ok (.lreturn, 1) := by decide +kernel
theorem dX13_two_99 : decode cX13_two 99 = .ok (.lload_n 2, 1) := by decide +kernel
theorem dX13_two_100 : decode cX13_two 100 = .ok (.lload 4, 2) := by decide +kernel
theorem dX13_two_102 : decode cX13_two 102 = .ok (.ladd, 1) := by decide +kernel
theorem dX13_two_103 : decode cX13_two 103 = .ok (.lreturn, 1) := by decide +kernel
theorem dX13_two_104 : decode cX13_two 104 = .ok (.lload_n 2, 1) := by decide +kernel
theorem dX13_two_105 : decode cX13_two 105 = .ok (.lload 4, 2) := by decide +kernel
theorem dX13_two_107 : decode cX13_two 107 = .ok (.lsub, 1) := by decide +kernel
theorem dX13_two_108 : decode cX13_two 108 = .ok (.lreturn, 1) := by decide +kernel
theorem dX13_two_109 : decode cX13_two 109 = .ok (.lload_n 2, 1) := by decide +kernel
theorem dX13_two_110 : decode cX13_two 110 = .ok (.lload 4, 2) := by decide +kernel
theorem dX13_two_112 : decode cX13_two 112 = .ok (.lmul, 1) := by decide +kernel
theorem dX13_two_113 : decode cX13_two 113 = .ok (.lreturn, 1) := by decide +kernel
theorem dX13_two_114 : decode cX13_two 114 = .ok (.lload 4, 2) := by decide +kernel
theorem dX13_two_116 : decode cX13_two 116 = .ok (.lconst 0, 1) := by decide +kernel
theorem dX13_two_117 : decode cX13_two 117 = .ok (.lcmp, 1) := by decide +kernel
theorem dX13_two_118 : decode cX13_two 118 = .ok (.ifCond .ne 17, 3) := by decide +kernel
theorem dX13_two_121 : decode cX13_two 121 = .ok (.aload_n 0, 1) := by decide +kernel
theorem dX13_two_122 : decode cX13_two 122 = .ok (.iconst 1, 1) := by decide +kernel
theorem dX13_two_123 : decode cX13_two 123 = .ok (.putfield 329, 3) := by decide +kernel
theorem dX13_two_126 : decode cX13_two 126 = .ok (.aload_n 0, 1) := by decide +kernel
theorem dX13_two_127 : decode cX13_two 127 = .ok (.ldc2_w 340, 3) := by decide +kernel
theorem dX13_two_130 : decode cX13_two 130 = .ok (.putfield 342, 3) := by decide +kernel
theorem dX13_two_133 : decode cX13_two 133 = .ok (.lconst 0, 1) := by decide +kernel
theorem dX13_two_134 : decode cX13_two 134 = .ok (.lreturn, 1) := by decide +kernel
theorem dX13_two_135 : decode cX13_two 135 = .ok (.iload_n 1, 1) := by decide +kernel
theorem dX13_two_136 : decode cX13_two 136 = .ok (.bipush 47, 2) := by decide +kernel
theorem dX13_two_138 : decode cX13_two 138 = .ok (.if_icmp .ne 24, 3) := by decide +kernel
theorem dX13_two_141 : decode cX13_two 141 = .ok (.lload 4, 2) := by decide +kernel
theorem dX13_two_143 : decode cX13_two 143 = .ok (.ldc2_w 340, 3) := by decide +kernel
theorem dX13_two_146 : decode cX13_two 146 = .ok (.lcmp, 1) := by decide +kernel
theorem dX13_two_147 : decode cX13_two 147 = .ok (.ifCond .ne 8, 3) := by decide +kernel
theorem dX13_two_150 : decode cX13_two 150 = .ok (.lload_n 2, 1) := by decide +kernel
theorem dX13_two_151 : decode cX13_two 151 = .ok (.lneg, 1) := by decide +kernel
theorem dX13_two_152 : decode cX13_two 152 = .ok (.goto 27, 3) := by decide +kernel
theorem dX13_two_155 : decode cX13_two 155 = .ok (.lload_n 2, 1) := by decide +kernel
theorem dX13_two_156 : decode cX13_two 156 = .ok (.lload 4, 2) := by decide +kernel
theorem dX13_two_158 : decode cX13_two 158 = .ok (.ldiv, 1) := by decide +kernel
theorem dX13_two_159 : decode cX13_two 159 = .ok (.goto 20, 3) := by decide +kernel
theorem dX13_two_162 : decode cX13_two 162 = .ok (.lload 4, 2) := by decide +kernel
theorem dX13_two_164 : decode cX13_two 164 = .ok (.ldc2_w 340, 3) := by decide +kernel
theorem dX13_two_167 : decode cX13_two 167 = .ok (.lcmp, 1) := by decide +kernel
theorem dX13_two_168 : decode cX13_two 168 = .ok (.ifCond .ne 7, 3) := by decide +kernel
theorem dX13_two_171 : decode cX13_two 171 = .ok (.lconst 0, 1) := by decide +kernel
theorem dX13_two_172 : decode cX13_two 172 = .ok (.goto 7, 3) := by decide +kernel
theorem dX13_two_175 : decode cX13_two 175 = .ok (.lload_n 2, 1) := by decide +kernel
theorem dX13_two_176 : decode cX13_two 176 = .ok (.lload 4, 2) := by decide +kernel
theorem dX13_two_178 : decode cX13_two 178 = .ok (.lrem, 1) := by decide +kernel
theorem dX13_two_179 : decode cX13_two 179 = .ok (.lreturn, 1) := by decide +kernel
theorem dX13_value_0 : decode cX13_value 0 = .ok (.aload_n 0, 1) := by decide +kernel
theorem dX13_value_1 : decode cX13_value 1 = .ok (.iconst 0, 1) := by decide +kernel
theorem dX13_value_2 : decode cX13_value 2 = .ok (.putfield 173, 3) := by decide +kernel
theorem dX13_value_5 : decode cX13_value 5 = .ok (.iload_n 1, 1) := by decide +kernel
theorem dX13_value_6 : decode cX13_value 6 = .ok (.ifCond .lt 11, 3) := by decide +kernel
theorem dX13_value_9 : decode cX13_value 9 = .ok (.iload_n 1, 1) := by decide +kernel
theorem dX13_value_10 : decode cX13_value 10 = .ok (.aload_n 0, 1) := by decide +kernel
theorem dX13_value_11 : decode cX13_value 11 = .ok (.getfield 386, 3) := by decide +kernel
theorem dX13_value_14 : decode cX13_value 14 = .ok (.if_icmp .lt 7, 3) := by decide +kernel
theorem dX13_value_17 : decode cX13_value 17 = .ok (.lconst 0, 1) := by decide +kernel
theorem dX13_value_18 : decode cX13_value 18 = .ok (.goto 9, 3) := by decide +kernel
theorem dX13_value_21 : decode cX13_value 21 = .ok (.aload_n 0, 1) := by decide +kernel
theorem dX13_value_22 : decode cX13_value 22 = .ok (.getfield 170, 3) := by decide +kernel
theorem dX13_value_25 : decode cX13_value 25 = .ok (.iload_n 1, 1) := by decide +kernel
theorem dX13_value_26 : decode cX13_value 26 = .ok (.laload, 1) := by decide +kernel
theorem dX13_value_27 : decode cX13_value 27 = .ok (.lreturn, 1) := by decide +kernel
theorem dX13_valueOf_0 : decode cX13_valueOf 0 = .ok (.iload_n 1, 1) := by decide +kernel
theorem dX13_valueOf_1 : decode cX13_valueOf 1 = .ok (.bipush 16, 2) := by decide +kernel
theorem dX13_valueOf_3 : decode cX13_valueOf 3 = .ok (.if_icmp .lt 13, 3) := by decide +kernel
theorem dX13_valueOf_6 : decode cX13_valueOf 6 = .ok (.aload_n 0, 1) := by decide +kernel
theorem dX13_valueOf_7 : decode cX13_valueOf 7 = .ok (.getfield 131, 3) := by decide +kernel
theorem dX13_valueOf_10 : decode cX13_valueOf 10 = .ok (.iload_n 1, 1) := by decide +kernel
theorem dX13_valueOf_11 : decode cX13_valueOf 11 = .ok (.bipush 16, 2) := by decide +kernel
theorem dX13_valueOf_13 : decode cX13_valueOf 13 = .ok (.isub, 1) := by decide +kernel
theorem dX13_valueOf_14 : decode cX13_valueOf 14 = .ok (.laload, 1) := by decide +kernel
theorem dX13_valueOf_15 : decode cX13_valueOf 15 = .ok (.lreturn, 1) := by decide +kernel
theorem dX13_valueOf_16 : decode cX13_valueOf 16 = .ok (.aload_n 0, 1) := by decide +kernel
theorem dX13_valueOf_17 : decode cX13_valueOf 17 = .ok (.getfield 322, 3) := by decide +kernel
theorem dX13_valueOf_20 : decode cX13_valueOf 20 = .ok (.iload_n 1, 1) := by decide +kernel
theorem dX13_valueOf_21 : decode cX13_valueOf 21 = .ok (.ishr, 1) := by decide +kernel
theorem dX13_valueOf_22 : decode cX13_valueOf 22 = .ok (.iconst 1, 1) := by decide +kernel
theorem dX13_valueOf_23 : decode cX13_valueOf 23 = .ok (.iand, 1) := by decide +kernel
theorem dX13_valueOf_24 : decode cX13_valueOf 24 = .ok (.iconst 1, 1) := by decide +kernel
theorem dX13_valueOf_25 : decode cX13_valueOf 25 = .ok (.if_icmp .ne 10, 3) := by decide +kernel
theorem dX13_valueOf_28 : decode cX13_valueOf 28 = .ok (.aload_n 0, 1) := by decide +kernel
theorem dX13_valueOf_29 : decode cX13_valueOf 29 = .ok (.getfield 128, 3) := by decide +kernel
theorem dX13_valueOf_32 : decode cX13_valueOf 32 = .ok (.iload_n 1, 1) := by decide +kernel
theorem dX13_valueOf_33 : decode cX13_valueOf 33 = .ok (.laload, 1) := by decide +kernel
theorem dX13_valueOf_34 : decode cX13_valueOf 34 = .ok (.lreturn, 1) := by decide +kernel
theorem dX13_valueOf_35 : decode cX13_valueOf 35 = .ok (.aload_n 0, 1) := by decide +kernel
theorem dX13_valueOf_36 : decode cX13_valueOf 36 = .ok (.getfield 316, 3) := by decide +kernel
theorem dX13_valueOf_39 : decode cX13_valueOf 39 = .ok (.iload_n 1, 1) := by decide +kernel
theorem dX13_valueOf_40 : decode cX13_valueOf 40 = .ok (.ishr, 1) := by decide +kernel
theorem dX13_valueOf_41 : decode cX13_valueOf 41 = .ok (.iconst 1, 1) := by decide +kernel
theorem dX13_valueOf_42 : decode cX13_valueOf 42 = .ok (.iand, 1) := by decide +kernel
theorem dX13_valueOf_43 : decode cX13_valueOf 43 = .ok (.ifCond .ne 69, 3) := by decide +kernel
theorem dX13_valueOf_46 : decode cX13_valueOf 46 = .ok (.aload_n 0, 1) := by decide +kernel
theorem dX13_valueOf_47 : decode cX13_valueOf 47 = .ok (.invokevirtual 325, 3) := by decide +kernel
theorem dX13_valueOf_50 : decode cX13_valueOf 50 = .ok (.ifCond .eq 10, 3) := by decide +kernel
theorem dX13_valueOf_53 : decode cX13_valueOf 53 = .ok (.aload_n 0, 1) := by decide +kernel
theorem dX13_valueOf_54 : decode cX13_valueOf 54 = .ok (.iconst 2, 1) := by decide +kernel
theorem dX13_valueOf_55 : decode cX13_valueOf 55 = .ok (.putfield 329, 3) := by decide +kernel
theorem dX13_valueOf_58 : decode cX13_valueOf 58 = .ok (.lconst 0, 1) := by decide +kernel
theorem dX13_valueOf_59 : decode cX13_valueOf 59 = .ok (.lreturn, 1) := by decide +kernel
theorem dX13_valueOf_60 : decode cX13_valueOf 60 = .ok (.aload_n 0, 1) := by decide +kernel
theorem dX13_valueOf_61 : decode cX13_valueOf 61 = .ok (.aload_n 0, 1) := by decide +kernel
theorem dX13_valueOf_62 : decode cX13_valueOf 62 = .ok (.getfield 316, 3) := by decide +kernel
theorem dX13_valueOf_65 : decode cX13_valueOf 65 = .ok (.iconst 1, 1) := by decide +kernel
theorem dX13_valueOf_66 : decode cX13_valueOf 66 = .ok (.iload_n 1, 1) := by decide +kernel
theorem dX13_valueOf_67 : decode cX13_valueOf 67 = .ok (.ishl, 1) := by decide +kernel
theorem dX13_valueOf_68 : decode cX13_valueOf 68 = .ok (.ior, 1) := by decide +kernel
theorem dX13_valueOf_69 : decode cX13_valueOf 69 = .ok (.putfield 316, 3) := by decide +kernel
theorem dX13_valueOf_72 : decode cX13_valueOf 72 = .ok (.aload_n 0, 1) := by decide +kernel
theorem dX13_valueOf_73 : decode cX13_valueOf 73 = .ok (.getfield 122, 3) := by decide +kernel
theorem dX13_valueOf_76 : decode cX13_valueOf 76 = .ok (.iload_n 1, 1) := by decide +kernel
theorem dX13_valueOf_77 : decode cX13_valueOf 77 = .ok (.aload_n 0, 1) := by decide +kernel
theorem dX13_valueOf_78 : decode cX13_valueOf 78 = .ok (.getfield 83, 3) := by decide +kernel
theorem dX13_valueOf_81 : decode cX13_valueOf 81 = .ok (.bipush 16, 2) := by decide +kernel
theorem dX13_valueOf_83 : decode cX13_valueOf 83 = .ok (.aload_n 0, 1) := by decide +kernel
theorem dX13_valueOf_84 : decode cX13_valueOf 84 = .ok (.getfield 319, 3) := by decide +kernel
theorem dX13_valueOf_87 : decode cX13_valueOf 87 = .ok (.imul, 1) := by decide +kernel
theorem dX13_valueOf_88 : decode cX13_valueOf 88 = .ok (.iload_n 1, 1) := by decide +kernel
theorem dX13_valueOf_89 : decode cX13_valueOf 89 = .ok (.iadd, 1) := by decide +kernel
theorem dX13_valueOf_90 : decode cX13_valueOf 90 = .ok (.laload, 1) := by decide +kernel
theorem dX13_valueOf_91 : decode cX13_valueOf 91 = .ok (.lastore, 1) := by decide +kernel
theorem dX13_valueOf_92 : decode cX13_valueOf 92 = .ok (.aload_n 0, 1) := by decide +kernel
theorem dX13_valueOf_93 : decode cX13_valueOf 93 = .ok (.getfield 125, 3) := by decide +kernel
theorem dX13_valueOf_96 : decode cX13_valueOf 96 = .ok (.iload_n 1, 1) := by decide +kernel
theorem dX13_valueOf_97 : decode cX13_valueOf 97 = .ok (.aload_n 0, 1) := by decide +kernel
theorem dX13_valueOf_98 : decode cX13_valueOf 98 = .ok (.getfield 86, 3) := by decide +kernel
theorem dX13_valueOf_101 : decode cX13_valueOf 101 = .ok (.bipush 16, 2) := by decide +kernel
theorem dX13_valueOf_103 : decode cX13_valueOf 103 = .ok (.aload_n 0, 1) := by decide +kernel
theorem dX13_valueOf_104 : decode cX13_valueOf 104 = .ok (.getfield 319, 3) := by decide +kernel
theorem dX13_valueOf_107 : decode cX13_valueOf 107 = .ok (.imul, 1) := by decide +kernel
theorem dX13_valueOf_108 : decode cX13_valueOf 108 = .ok (.iload_n 1, 1) := by decide +kernel
theorem dX13_valueOf_109 : decode cX13_valueOf 109 = .ok (.iadd, 1) := by decide +kernel
theorem dX13_valueOf_110 : decode cX13_valueOf 110 = .ok (.iaload, 1) := by decide +kernel
theorem dX13_valueOf_111 : decode cX13_valueOf 111 = .ok (.iastore, 1) := by decide +kernel
theorem dX13_valueOf_112 : decode cX13_valueOf 112 = .ok (.aload_n 0, 1) := by decide +kernel
theorem dX13_valueOf_113 : decode cX13_valueOf 113 = .ok (.getfield 122, 3) := by decide +kernel
theorem dX13_valueOf_116 : decode cX13_valueOf 116 = .ok (.iload_n 1, 1) := by decide +kernel
theorem dX13_valueOf_117 : decode cX13_valueOf 117 = .ok (.laload, 1) := by decide +kernel
theorem dX13_valueOf_118 : decode cX13_valueOf 118 = .ok (.lreturn, 1) := by decide +kernel
theorem dX13_version_0 : decode cX13_version 0 = .ok (.aload_n 0, 1) := by decide +kernel
theorem dX13_version_1 : decode cX13_version 1 = .ok (.iconst 0, 1) := by decide +kernel
theorem dX13_version_2 : decode cX13_version 2 = .ok (.putfield 173, 3) := by decide +kernel
theorem dX13_version_5 : decode cX13_version 5 = .ok (.iload_n 1, 1) := by decide +kernel
theorem dX13_version_6 : decode cX13_version 6 = .ok (.ifCond .lt 9, 3) := by decide +kernel
theorem dX13_version_9 : decode cX13_version 9 = .ok (.iload_n 1, 1) := by decide +kernel
theorem dX13_version_10 : decode cX13_version 10 = .ok (.bipush 16, 2) := by decide +kernel
theorem dX13_version_12 : decode cX13_version 12 = .ok (.if_icmp .lt 7, 3) := by decide +kernel
theorem dX13_version_15 : decode cX13_version 15 = .ok (.iconst (-1), 1) := by decide +kernel
theorem dX13_version_16 : decode cX13_version 16 = .ok (.goto 9, 3) := by decide +kernel
theorem dX13_version_19 : decode cX13_version 19 = .ok (.aload_n 0, 1) := by decide +kernel
theorem dX13_version_20 : decode cX13_version 20 = .ok (.getfield 86, 3) := by decide +kernel
theorem dX13_version_23 : decode cX13_version 23 = .ok (.iload_n 1, 1) := by decide +kernel
theorem dX13_version_24 : decode cX13_version 24 = .ok (.iaload, 1) := by decide +kernel
theorem dX13_version_25 : decode cX13_version 25 = .ok (.ireturn, 1) := by decide +kernel
theorem dX13_walkAnew_0 : decode cX13_walkAnew 0 = .ok (.aload_n 0, 1) := by decide +kernel
theorem dX13_walkAnew_1 : decode cX13_walkAnew 1 = .ok (.iconst 0, 1) := by decide +kernel
theorem dX13_walkAnew_2 : decode cX13_walkAnew 2 = .ok (.putfield 319, 3) := by decide +kernel
theorem dX13_walkAnew_5 : decode cX13_walkAnew 5 = .ok (.aload_n 0, 1) := by decide +kernel
theorem dX13_walkAnew_6 : decode cX13_walkAnew 6 = .ok (.iload_n 1, 1) := by decide +kernel
theorem dX13_walkAnew_7 : decode cX13_walkAnew 7 = .ok (.invokevirtual 389, 3) := by decide +kernel
theorem dX13_walkAnew_10 : decode cX13_walkAnew 10 = .ok (.aload_n 0, 1) := by decide +kernel
theorem dX13_walkAnew_11 : decode cX13_walkAnew 11 = .ok (.aload_n 0, 1) := by decide +kernel
theorem dX13_walkAnew_12 : decode cX13_walkAnew 12 = .ok (.iload_n 1, 1) := by decide +kernel
theorem dX13_walkAnew_13 : decode cX13_walkAnew 13 = .ok (.invokevirtual 392, 3) := by decide +kernel
theorem dX13_walkAnew_16 : decode cX13_walkAnew 16 = .ok (.invokevirtual 345, 3) := by decide +kernel
theorem dX13_walkAnew_19 : decode cX13_walkAnew 19 = .ok (.iconst 0, 1) := by decide +kernel
theorem dX13_walkAnew_20 : decode cX13_walkAnew 20 = .ok (.istore_n 2, 1) := by decide +kernel
theorem dX13_walkAnew_21 : decode cX13_walkAnew 21 = .ok (.iload_n 2, 1) := by decide +kernel
theorem dX13_walkAnew_22 : decode cX13_walkAnew 22 = .ok (.aload_n 0, 1) := by decide +kernel
theorem dX13_walkAnew_23 : decode cX13_walkAnew 23 = .ok (.getfield 104, 3) := by decide +kernel
theorem dX13_walkAnew_26 : decode cX13_walkAnew 26 = .ok (.iload_n 1, 1) := by decide +kernel
theorem dX13_walkAnew_27 : decode cX13_walkAnew 27 = .ok (.iaload, 1) := by decide +kernel
theorem dX13_walkAnew_28 : decode cX13_walkAnew 28 = .ok (.if_icmp .ge 14, 3) := by decide +kernel
theorem dX13_walkAnew_31 : decode cX13_walkAnew 31 = .ok (.aload_n 0, 1) := by decide +kernel
theorem dX13_walkAnew_32 : decode cX13_walkAnew 32 = .ok (.invokevirtual 395, 3) := by decide +kernel
theorem dX13_walkAnew_35 : decode cX13_walkAnew 35 = .ok (.istore_n 3, 1) := by decide +kernel
theorem dX13_walkAnew_36 : decode cX13_walkAnew 36 = .ok (.iinc 2 1, 3) := by decide +kernel
theorem dX13_walkAnew_39 : decode cX13_walkAnew 39 = .ok (.goto (-18), 3) := by decide +kernel
theorem dX13_walkAnew_42 : decode cX13_walkAnew 42 = .ok (.return_, 1) := by decide +kernel
theorem dX13_wordOf_0 : decode cX13_wordOf 0 = .ok (.lload_n 0, 1) := by decide +kernel
theorem dX13_wordOf_1 : decode cX13_wordOf 1 = .ok (.ldc2_w 179, 3) := by decide +kernel
theorem dX13_wordOf_4 : decode cX13_wordOf 4 = .ok (.lcmp, 1) := by decide +kernel
theorem dX13_wordOf_5 : decode cX13_wordOf 5 = .ok (.ifCond .ne 5, 3) := by decide +kernel
theorem dX13_wordOf_8 : decode cX13_wordOf 8 = .ok (.iconst 0, 1) := by decide +kernel
theorem dX13_wordOf_9 : decode cX13_wordOf 9 = .ok (.ireturn, 1) := by decide +kernel
theorem dX13_wordOf_10 : decode cX13_wordOf 10 = .ok (.lload_n 0, 1) := by decide +kernel
theorem dX13_wordOf_11 : decode cX13_wordOf 11 = .ok (.ldc2_w 181, 3) := by decide +kernel
theorem dX13_wordOf_14 : decode cX13_wordOf 14 = .ok (.lcmp, 1) := by decide +kernel
theorem dX13_wordOf_15 : decode cX13_wordOf 15 = .ok (.ifCond .ne 5, 3) := by decide +kernel
theorem dX13_wordOf_18 : decode cX13_wordOf 18 = .ok (.iconst 1, 1) := by decide +kernel
theorem dX13_wordOf_19 : decode cX13_wordOf 19 = .ok (.ireturn, 1) := by decide +kernel
theorem dX13_wordOf_20 : decode cX13_wordOf 20 = .ok (.lload_n 0, 1) := by decide +kernel
theorem dX13_wordOf_21 : decode cX13_wordOf 21 = .ok (.ldc2_w 183, 3) := by decide +kernel
theorem dX13_wordOf_24 : decode cX13_wordOf 24 = .ok (.lcmp, 1) := by decide +kernel
theorem dX13_wordOf_25 : decode cX13_wordOf 25 = .ok (.ifCond .ne 5, 3) := by decide +kernel
theorem dX13_wordOf_28 : decode cX13_wordOf 28 = .ok (.iconst 2, 1) := by decide +kernel
theorem dX13_wordOf_29 : decode cX13_wordOf 29 = .ok (.ireturn, 1) := by decide +kernel
theorem dX13_wordOf_30 : decode cX13_wordOf 30 = .ok (.lload_n 0, 1) := by decide +kernel
theorem dX13_wordOf_31 : decode cX13_wordOf 31 = .ok (.ldc2_w 185, 3) := by decide +kernel
theorem dX13_wordOf_34 : decode cX13_wordOf 34 = .ok (.lcmp, 1) := by decide +kernel
theorem dX13_wordOf_35 : decode cX13_wordOf 35 = .ok (.ifCond .ne 5, 3) := by decide +kernel
theorem dX13_wordOf_38 : decode cX13_wordOf 38 = .ok (.iconst 3, 1) := by decide +kernel
theorem dX13_wordOf_39 : decode cX13_wordOf 39 = .ok (.ireturn, 1) := by decide +kernel
theorem dX13_wordOf_40 : decode cX13_wordOf 40 = .ok (.lload_n 0, 1) := by decide +kernel
theorem dX13_wordOf_41 : decode cX13_wordOf 41 = .ok (.ldc2_w 187, 3) := by decide +kernel
theorem dX13_wordOf_44 : decode cX13_wordOf 44 = .ok (.lcmp, 1) := by decide +kernel
theorem dX13_wordOf_45 : decode cX13_wordOf 45 = .ok (.ifCond .ne 5, 3) := by decide +kernel
theorem dX13_wordOf_48 : decode cX13_wordOf 48 = .ok (.iconst 4, 1) := by decide +kernel
theorem dX13_wordOf_49 : decode cX13_wordOf 49 = .ok (.ireturn, 1) := by decide +kernel
theorem dX13_wordOf_50 : decode cX13_wordOf 50 = .ok (.lload_n 0, 1) := by decide +kernel
theorem dX13_wordOf_51 : decode cX13_wordOf 51 = .ok (.ldc2_w 189, 3) := by decide +kernel
theorem dX13_wordOf_54 : decode cX13_wordOf 54 = .ok (.lcmp, 1) := by decide +kernel
theorem dX13_wordOf_55 : decode cX13_wordOf 55 = .ok (.ifCond .ne 5, 3) := by decide +kernel
theorem dX13_wordOf_58 : decode cX13_wordOf 58 = .ok (.iconst 5, 1) := by decide +kernel
theorem dX13_wordOf_59 : decode cX13_wordOf 59 = .ok (.ireturn, 1) := by decide +kernel
theorem dX13_wordOf_60 : decode cX13_wordOf 60 = .ok (.lload_n 0, 1) := by decide +kernel
theorem dX13_wordOf_61 : decode cX13_wordOf 61 = .ok (.ldc2_w 191, 3) := by decide +kernel
theorem dX13_wordOf_64 : decode cX13_wordOf 64 = .ok (.lcmp, 1) := by decide +kernel
theorem dX13_wordOf_65 : decode cX13_wordOf 65 = .ok (.ifCond .ne 6, 3) := by decide +kernel
theorem dX13_wordOf_68 : decode cX13_wordOf 68 = .ok (.bipush 6, 2) := by decide +kernel
theorem dX13_wordOf_70 : decode cX13_wordOf 70 = .ok (.ireturn, 1) := by decide +kernel
theorem dX13_wordOf_71 : decode cX13_wordOf 71 = .ok (.lload_n 0, 1) := by decide +kernel
theorem dX13_wordOf_72 : decode cX13_wordOf 72 = .ok (.ldc2_w 193, 3) := by decide +kernel
theorem dX13_wordOf_75 : decode cX13_wordOf 75 = .ok (.lcmp, 1) := by decide +kernel
theorem dX13_wordOf_76 : decode cX13_wordOf 76 = .ok (.ifCond .ne 6, 3) := by decide +kernel
theorem dX13_wordOf_79 : decode cX13_wordOf 79 = .ok (.bipush 7, 2) := by decide +kernel
theorem dX13_wordOf_81 : decode cX13_wordOf 81 = .ok (.ireturn, 1) := by decide +kernel
theorem dX13_wordOf_82 : decode cX13_wordOf 82 = .ok (.lload_n 0, 1) := by decide +kernel
theorem dX13_wordOf_83 : decode cX13_wordOf 83 = .ok (.ldc2_w 195, 3) := by decide +kernel
theorem dX13_wordOf_86 : decode cX13_wordOf 86 = .ok (.lcmp, 1) := by decide +kernel
theorem dX13_wordOf_87 : decode cX13_wordOf 87 = .ok (.ifCond .ne 6, 3) := by decide +kernel
theorem dX13_wordOf_90 : decode cX13_wordOf 90 = .ok (.bipush 8, 2) := by decide +kernel
theorem dX13_wordOf_92 : decode cX13_wordOf 92 = .ok (.ireturn, 1) := by decide +kernel
theorem dX13_wordOf_93 : decode cX13_wordOf 93 = .ok (.lload_n 0, 1) := by decide +kernel
theorem dX13_wordOf_94 : decode cX13_wordOf 94 = .ok (.ldc2_w 197, 3) := by decide +kernel
theorem dX13_wordOf_97 : decode cX13_wordOf 97 = .ok (.lcmp, 1) := by decide +kernel
theorem dX13_wordOf_98 : decode cX13_wordOf 98 = .ok (.ifCond .ne 6, 3) := by decide +kernel
theorem dX13_wordOf_101 : decode cX13_wordOf 101 = .ok (.bipush 9, 2) := by decide +kernel
theorem dX13_wordOf_103 : decode cX13_wordOf 103 = .ok (.ireturn, 1) := by decide +kernel
theorem dX13_wordOf_104 : decode cX13_wordOf 104 = .ok (.iconst (-1), 1) := by decide +kernel
theorem dX13_wordOf_105 : decode cX13_wordOf 105 = .ok (.ireturn, 1) := by decide +kernel
