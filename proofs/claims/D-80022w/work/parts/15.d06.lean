/-! decode rows (by a program) -/
set_option maxRecDepth 100000
theorem dX13_readStatement_0 : decode cX13_readStatement 0 = .ok (.aload_n 0, 1) := by decide +kernel
theorem dX13_readStatement_1 : decode cX13_readStatement 1 = .ok (.getfield 209, 3) := by decide +kernel
theorem dX13_readStatement_4 : decode cX13_readStatement 4 = .ok (.bipush 10, 2) := by decide +kernel
theorem dX13_readStatement_6 : decode cX13_readStatement 6 = .ok (.isub, 1) := by decide +kernel
theorem dX13_readStatement_7 : decode cX13_readStatement 7 = .ok (.istore_n 1, 1) := by decide +kernel
theorem dX13_readStatement_8 : decode cX13_readStatement 8 = .ok (.aload_n 0, 1) := by decide +kernel
theorem dX13_readStatement_9 : decode cX13_readStatement 9 = .ok (.getfield 209, 3) := by decide +kernel
theorem dX13_readStatement_12 : decode cX13_readStatement 12 = .ok (.iconst 2, 1) := by decide +kernel
theorem dX13_readStatement_13 : decode cX13_readStatement 13 = .ok (.if_icmp .eq 39, 3) := by decide +kernel
theorem dX13_readStatement_16 : decode cX13_readStatement 16 = .ok (.iload_n 1, 1) := by decide +kernel
theorem dX13_readStatement_17 : decode cX13_readStatement 17 = .ok (.ifCond .eq 35, 3) := by decide +kernel
theorem dX13_readStatement_20 : decode cX13_readStatement 20 = .ok (.iload_n 1, 1) := by decide +kernel
theorem dX13_readStatement_21 : decode cX13_readStatement 21 = .ok (.iconst 2, 1) := by decide +kernel
theorem dX13_readStatement_22 : decode cX13_readStatement 22 = .ok (.if_icmp .eq 30, 3) := by decide +kernel
theorem dX13_readStatement_25 : decode cX13_readStatement 25 = .ok (.iload_n 1, 1) := by decide +kernel
theorem dX13_readStatement_26 : decode cX13_readStatement 26 = .ok (.iconst 3, 1) := by decide +kernel
theorem dX13_readStatement_27 : decode cX13_readStatement 27 = .ok (.if_icmp .eq 25, 3) := by decide +kernel
theorem dX13_readStatement_30 : decode cX13_readStatement 30 = .ok (.iload_n 1, 1) := by decide +kernel
theorem dX13_readStatement_31 : decode cX13_readStatement 31 = .ok (.iconst 4, 1) := by decide +kernel
theorem dX13_readStatement_32 : decode cX13_readStatement 32 = .ok (.if_icmp .eq 20, 3) := by decide +kernel
theorem dX13_readStatement_35 : decode cX13_readStatement 35 = .ok (.iload_n 1, 1) := by decide +kernel
theorem dX13_readStatement_36 : decode cX13_readStatement 36 = .ok (.iconst 5, 1) := by decide +kernel
theorem dX13_readStatement_37 : decode cX13_readStatement 37 = .ok (.if_icmp .eq 15, 3) := by decide +kernel
theorem dX13_readStatement_40 : decode cX13_readStatement 40 = .ok (.iload_n 1, 1) := by decide +kernel
theorem dX13_readStatement_41 : decode cX13_readStatement 41 = .ok (.bipush 7, 2) := by decide +kernel
theorem dX13_readStatement_43 : decode cX13_readStatement 43 = .ok (.if_icmp .eq 9, 3) := by decide +kernel
theorem dX13_readStatement_46 : decode cX13_readStatement 46 = .ok (.iload_n 1, 1) := by decide +kernel
theorem dX13_readStatement_47 : decode cX13_readStatement 47 = .ok (.bipush 9, 2) := by decide +kernel
theorem dX13_readStatement_49 : decode cX13_readStatement 49 = .ok (.if_icmp .ne 7, 3) := by decide +kernel
theorem dX13_readStatement_52 : decode cX13_readStatement 52 = .ok (.iconst 1, 1) := by decide +kernel
theorem dX13_readStatement_53 : decode cX13_readStatement 53 = .ok (.goto 4, 3) := by decide +kernel
theorem dX13_readStatement_56 : decode cX13_readStatement 56 = .ok (.iconst 0, 1) := by decide +kernel
theorem dX13_readStatement_57 : decode cX13_readStatement 57 = .ok (.istore_n 2, 1) := by decide +kernel
theorem dX13_readStatement_58 : decode cX13_readStatement 58 = .ok (.iload_n 2, 1) := by decide +kernel
theorem dX13_readStatement_59 : decode cX13_readStatement 59 = .ok (.ifCond .eq 17, 3) := by decide +kernel
theorem dX13_readStatement_62 : decode cX13_readStatement 62 = .ok (.aload_n 0, 1) := by decide +kernel
theorem dX13_readStatement_63 : decode cX13_readStatement 63 = .ok (.getfield 17, 3) := by decide +kernel
theorem dX13_readStatement_66 : decode cX13_readStatement 66 = .ok (.aload_n 0, 1) := by decide +kernel
theorem dX13_readStatement_67 : decode cX13_readStatement 67 = .ok (.getfield 253, 3) := by decide +kernel
theorem dX13_readStatement_70 : decode cX13_readStatement 70 = .ok (.iaload, 1) := by decide +kernel
theorem dX13_readStatement_71 : decode cX13_readStatement 71 = .ok (.bipush 40, 2) := by decide +kernel
theorem dX13_readStatement_73 : decode cX13_readStatement 73 = .ok (.if_icmp .ne 8, 3) := by decide +kernel
theorem dX13_readStatement_76 : decode cX13_readStatement 76 = .ok (.aload_n 0, 1) := by decide +kernel
theorem dX13_readStatement_77 : decode cX13_readStatement 77 = .ok (.invokevirtual 247, 3) := by decide +kernel
theorem dX13_readStatement_80 : decode cX13_readStatement 80 = .ok (.return_, 1) := by decide +kernel
theorem dX13_readStatement_81 : decode cX13_readStatement 81 = .ok (.aload_n 0, 1) := by decide +kernel
theorem dX13_readStatement_82 : decode cX13_readStatement 82 = .ok (.invokevirtual 299, 3) := by decide +kernel
theorem dX13_readStatement_85 : decode cX13_readStatement 85 = .ok (.istore_n 3, 1) := by decide +kernel
theorem dX13_readStatement_86 : decode cX13_readStatement 86 = .ok (.aload_n 0, 1) := by decide +kernel
theorem dX13_readStatement_87 : decode cX13_readStatement 87 = .ok (.getfield 33, 3) := by decide +kernel
theorem dX13_readStatement_90 : decode cX13_readStatement 90 = .ok (.iload_n 3, 1) := by decide +kernel
theorem dX13_readStatement_91 : decode cX13_readStatement 91 = .ok (.aload_n 0, 1) := by decide +kernel
theorem dX13_readStatement_92 : decode cX13_readStatement 92 = .ok (.getfield 209, 3) := by decide +kernel
theorem dX13_readStatement_95 : decode cX13_readStatement 95 = .ok (.iconst 2, 1) := by decide +kernel
theorem dX13_readStatement_96 : decode cX13_readStatement 96 = .ok (.if_icmp .ne 8, 3) := by decide +kernel
theorem dX13_readStatement_99 : decode cX13_readStatement 99 = .ok (.bipush 20, 2) := by decide +kernel
theorem dX13_readStatement_101 : decode cX13_readStatement 101 = .ok (.goto 4, 3) := by decide +kernel
theorem dX13_readStatement_104 : decode cX13_readStatement 104 = .ok (.iload_n 1, 1) := by decide +kernel
theorem dX13_readStatement_105 : decode cX13_readStatement 105 = .ok (.iastore, 1) := by decide +kernel
theorem dX13_readStatement_106 : decode cX13_readStatement 106 = .ok (.aload_n 0, 1) := by decide +kernel
theorem dX13_readStatement_107 : decode cX13_readStatement 107 = .ok (.getfield 54, 3) := by decide +kernel
theorem dX13_readStatement_110 : decode cX13_readStatement 110 = .ok (.iload_n 3, 1) := by decide +kernel
theorem dX13_readStatement_111 : decode cX13_readStatement 111 = .ok (.aload_n 0, 1) := by decide +kernel
theorem dX13_readStatement_112 : decode cX13_readStatement 112 = .ok (.getfield 209, 3) := by decide +kernel
theorem dX13_readStatement_115 : decode cX13_readStatement 115 = .ok (.iconst 2, 1) := by decide +kernel
theorem dX13_readStatement_116 : decode cX13_readStatement 116 = .ok (.if_icmp .ne 10, 3) := by decide +kernel
theorem dX13_readStatement_119 : decode cX13_readStatement 119 = .ok (.aload_n 0, 1) := by decide +kernel
theorem dX13_readStatement_120 : decode cX13_readStatement 120 = .ok (.getfield 216, 3) := by decide +kernel
theorem dX13_readStatement_123 : decode cX13_readStatement 123 = .ok (.goto 4, 3) := by decide +kernel
theorem dX13_readStatement_126 : decode cX13_readStatement 126 = .ok (.iconst (-1), 1) := by decide +kernel
theorem dX13_readStatement_127 : decode cX13_readStatement 127 = .ok (.iastore, 1) := by decide +kernel
theorem dX13_readStatement_128 : decode cX13_readStatement 128 = .ok (.aload_n 0, 1) := by decide +kernel
theorem dX13_readStatement_129 : decode cX13_readStatement 129 = .ok (.invokevirtual 250, 3) := by decide +kernel
theorem dX13_readStatement_132 : decode cX13_readStatement 132 = .ok (.aload_n 0, 1) := by decide +kernel
theorem dX13_readStatement_133 : decode cX13_readStatement 133 = .ok (.getfield 33, 3) := by decide +kernel
theorem dX13_readStatement_136 : decode cX13_readStatement 136 = .ok (.iload_n 3, 1) := by decide +kernel
theorem dX13_readStatement_137 : decode cX13_readStatement 137 = .ok (.iaload, 1) := by decide +kernel
theorem dX13_readStatement_138 : decode cX13_readStatement 138 = .ok (.bipush 20, 2) := by decide +kernel
theorem dX13_readStatement_140 : decode cX13_readStatement 140 = .ok (.if_icmp .ne 12, 3) := by decide +kernel
theorem dX13_readStatement_143 : decode cX13_readStatement 143 = .ok (.aload_n 0, 1) := by decide +kernel
theorem dX13_readStatement_144 : decode cX13_readStatement 144 = .ok (.bipush 61, 2) := by decide +kernel
theorem dX13_readStatement_146 : decode cX13_readStatement 146 = .ok (.invokevirtual 303, 3) := by decide +kernel
theorem dX13_readStatement_149 : decode cX13_readStatement 149 = .ok (.goto 18, 3) := by decide +kernel
theorem dX13_readStatement_152 : decode cX13_readStatement 152 = .ok (.iload_n 1, 1) := by decide +kernel
theorem dX13_readStatement_153 : decode cX13_readStatement 153 = .ok (.ifCond .eq 8, 3) := by decide +kernel
theorem dX13_readStatement_156 : decode cX13_readStatement 156 = .ok (.iload_n 1, 1) := by decide +kernel
theorem dX13_readStatement_157 : decode cX13_readStatement 157 = .ok (.iconst 2, 1) := by decide +kernel
theorem dX13_readStatement_158 : decode cX13_readStatement 158 = .ok (.if_icmp .ne 9, 3) := by decide +kernel
theorem dX13_readStatement_161 : decode cX13_readStatement 161 = .ok (.aload_n 0, 1) := by decide +kernel
theorem dX13_readStatement_162 : decode cX13_readStatement 162 = .ok (.bipush 40, 2) := by decide +kernel
theorem dX13_readStatement_164 : decode cX13_readStatement 164 = .ok (.invokevirtual 303, 3) := by decide +kernel
theorem dX13_readStatement_167 : decode cX13_readStatement 167 = .ok (.aload_n 0, 1) := by decide +kernel
theorem dX13_readStatement_168 : decode cX13_readStatement 168 = .ok (.getfield 240, 3) := by decide +kernel
theorem dX13_readStatement_171 : decode cX13_readStatement 171 = .ok (.ifCond .ne 60, 3) := by decide +kernel
theorem dX13_readStatement_174 : decode cX13_readStatement 174 = .ok (.aload_n 0, 1) := by decide +kernel
theorem dX13_readStatement_175 : decode cX13_readStatement 175 = .ok (.getfield 33, 3) := by decide +kernel
theorem dX13_readStatement_178 : decode cX13_readStatement 178 = .ok (.iload_n 3, 1) := by decide +kernel
theorem dX13_readStatement_179 : decode cX13_readStatement 179 = .ok (.iaload, 1) := by decide +kernel
theorem dX13_readStatement_180 : decode cX13_readStatement 180 = .ok (.iconst 3, 1) := by decide +kernel
theorem dX13_readStatement_181 : decode cX13_readStatement 181 = .ok (.if_icmp .eq 50, 3) := by decide +kernel
theorem dX13_readStatement_184 : decode cX13_readStatement 184 = .ok (.aload_n 0, 1) := by decide +kernel
theorem dX13_readStatement_185 : decode cX13_readStatement 185 = .ok (.getfield 33, 3) := by decide +kernel
theorem dX13_readStatement_188 : decode cX13_readStatement 188 = .ok (.iload_n 3, 1) := by decide +kernel
theorem dX13_readStatement_189 : decode cX13_readStatement 189 = .ok (.iaload, 1) := by decide +kernel
theorem dX13_readStatement_190 : decode cX13_readStatement 190 = .ok (.iconst 5, 1) := by decide +kernel
theorem dX13_readStatement_191 : decode cX13_readStatement 191 = .ok (.if_icmp .eq 40, 3) := by decide +kernel
theorem dX13_readStatement_194 : decode cX13_readStatement 194 = .ok (.aload_n 0, 1) := by decide +kernel
theorem dX13_readStatement_195 : decode cX13_readStatement 195 = .ok (.getfield 33, 3) := by decide +kernel
theorem dX13_readStatement_198 : decode cX13_readStatement 198 = .ok (.iload_n 3, 1) := by decide +kernel
theorem dX13_readStatement_199 : decode cX13_readStatement 199 = .ok (.iaload, 1) := by decide +kernel
theorem dX13_readStatement_200 : decode cX13_readStatement 200 = .ok (.bipush 7, 2) := by decide +kernel
theorem dX13_readStatement_202 : decode cX13_readStatement 202 = .ok (.if_icmp .eq 29, 3) := by decide +kernel
theorem dX13_readStatement_205 : decode cX13_readStatement 205 = .ok (.aload_n 0, 1) := by decide +kernel
theorem dX13_readStatement_206 : decode cX13_readStatement 206 = .ok (.getfield 45, 3) := by decide +kernel
theorem dX13_readStatement_209 : decode cX13_readStatement 209 = .ok (.iload_n 3, 1) := by decide +kernel
theorem dX13_readStatement_210 : decode cX13_readStatement 210 = .ok (.aload_n 0, 1) := by decide +kernel
theorem dX13_readStatement_211 : decode cX13_readStatement 211 = .ok (.aload_n 0, 1) := by decide +kernel
theorem dX13_readStatement_212 : decode cX13_readStatement 212 = .ok (.getfield 33, 3) := by decide +kernel
theorem dX13_readStatement_215 : decode cX13_readStatement 215 = .ok (.iload_n 3, 1) := by decide +kernel
theorem dX13_readStatement_216 : decode cX13_readStatement 216 = .ok (.iaload, 1) := by decide +kernel
theorem dX13_readStatement_217 : decode cX13_readStatement 217 = .ok (.bipush 9, 2) := by decide +kernel
theorem dX13_readStatement_219 : decode cX13_readStatement 219 = .ok (.if_icmp .ne 7, 3) := by decide +kernel
theorem dX13_readStatement_222 : decode cX13_readStatement 222 = .ok (.iconst 1, 1) := by decide +kernel
theorem dX13_readStatement_223 : decode cX13_readStatement 223 = .ok (.goto 4, 3) := by decide +kernel
theorem dX13_readStatement_226 : decode cX13_readStatement 226 = .ok (.iconst 0, 1) := by decide +kernel
theorem dX13_readStatement_227 : decode cX13_readStatement 227 = .ok (.invokevirtual 306, 3) := by decide +kernel
theorem dX13_readStatement_230 : decode cX13_readStatement 230 = .ok (.iastore, 1) := by decide +kernel
theorem dX13_readStatement_231 : decode cX13_readStatement 231 = .ok (.aload_n 0, 1) := by decide +kernel
theorem dX13_readStatement_232 : decode cX13_readStatement 232 = .ok (.getfield 33, 3) := by decide +kernel
theorem dX13_readStatement_235 : decode cX13_readStatement 235 = .ok (.iload_n 3, 1) := by decide +kernel
theorem dX13_readStatement_236 : decode cX13_readStatement 236 = .ok (.iaload, 1) := by decide +kernel
theorem dX13_readStatement_237 : decode cX13_readStatement 237 = .ok (.ifCond .eq 13, 3) := by decide +kernel
theorem dX13_readStatement_240 : decode cX13_readStatement 240 = .ok (.aload_n 0, 1) := by decide +kernel
theorem dX13_readStatement_241 : decode cX13_readStatement 241 = .ok (.getfield 33, 3) := by decide +kernel
theorem dX13_readStatement_244 : decode cX13_readStatement 244 = .ok (.iload_n 3, 1) := by decide +kernel
theorem dX13_readStatement_245 : decode cX13_readStatement 245 = .ok (.iaload, 1) := by decide +kernel
theorem dX13_readStatement_246 : decode cX13_readStatement 246 = .ok (.iconst 2, 1) := by decide +kernel
theorem dX13_readStatement_247 : decode cX13_readStatement 247 = .ok (.if_icmp .ne 9, 3) := by decide +kernel
theorem dX13_readStatement_250 : decode cX13_readStatement 250 = .ok (.aload_n 0, 1) := by decide +kernel
theorem dX13_readStatement_251 : decode cX13_readStatement 251 = .ok (.bipush 41, 2) := by decide +kernel
theorem dX13_readStatement_253 : decode cX13_readStatement 253 = .ok (.invokevirtual 303, 3) := by decide +kernel
theorem dX13_readStatement_256 : decode cX13_readStatement 256 = .ok (.aload_n 0, 1) := by decide +kernel
theorem dX13_readStatement_257 : decode cX13_readStatement 257 = .ok (.getfield 240, 3) := by decide +kernel
theorem dX13_readStatement_260 : decode cX13_readStatement 260 = .ok (.ifCond .eq 4, 3) := by decide +kernel
theorem dX13_readStatement_263 : decode cX13_readStatement 263 = .ok (.return_, 1) := by decide +kernel
theorem dX13_readStatement_264 : decode cX13_readStatement 264 = .ok (.aload_n 0, 1) := by decide +kernel
theorem dX13_readStatement_265 : decode cX13_readStatement 265 = .ok (.getfield 33, 3) := by decide +kernel
theorem dX13_readStatement_268 : decode cX13_readStatement 268 = .ok (.iload_n 3, 1) := by decide +kernel
theorem dX13_readStatement_269 : decode cX13_readStatement 269 = .ok (.iaload, 1) := by decide +kernel
theorem dX13_readStatement_270 : decode cX13_readStatement 270 = .ok (.ifCond .eq 34, 3) := by decide +kernel
theorem dX13_readStatement_273 : decode cX13_readStatement 273 = .ok (.aload_n 0, 1) := by decide +kernel
theorem dX13_readStatement_274 : decode cX13_readStatement 274 = .ok (.getfield 33, 3) := by decide +kernel
theorem dX13_readStatement_277 : decode cX13_readStatement 277 = .ok (.iload_n 3, 1) := by decide +kernel
theorem dX13_readStatement_278 : decode cX13_readStatement 278 = .ok (.iaload, 1) := by decide +kernel
theorem dX13_readStatement_279 : decode cX13_readStatement 279 = .ok (.iconst 2, 1) := by decide +kernel
theorem dX13_readStatement_280 : decode cX13_readStatement 280 = .ok (.if_icmp .eq 24, 3) := by decide +kernel
theorem dX13_readStatement_283 : decode cX13_readStatement 283 = .ok (.aload_n 0, 1) := by decide +kernel
theorem dX13_readStatement_284 : decode cX13_readStatement 284 = .ok (.getfield 33, 3) := by decide +kernel
theorem dX13_readStatement_287 : decode cX13_readStatement 287 = .ok (.iload_n 3, 1) := by decide +kernel
theorem dX13_readStatement_288 : decode cX13_readStatement 288 = .ok (.iaload, 1) := by decide +kernel
theorem dX13_readStatement_289 : decode cX13_readStatement 289 = .ok (.iconst 5, 1) := by decide +kernel
theorem dX13_readStatement_290 : decode cX13_readStatement 290 = .ok (.if_icmp .eq 14, 3) := by decide +kernel
theorem dX13_readStatement_293 : decode cX13_readStatement 293 = .ok (.aload_n 0, 1) := by decide +kernel
theorem dX13_readStatement_294 : decode cX13_readStatement 294 = .ok (.getfield 33, 3) := by decide +kernel
theorem dX13_readStatement_297 : decode cX13_readStatement 297 = .ok (.iload_n 3, 1) := by decide +kernel
theorem dX13_readStatement_298 : decode cX13_readStatement 298 = .ok (.iaload, 1) := by decide +kernel
theorem dX13_readStatement_299 : decode cX13_readStatement 299 = .ok (.bipush 7, 2) := by decide +kernel
theorem dX13_readStatement_301 : decode cX13_readStatement 301 = .ok (.if_icmp .ne 12, 3) := by decide +kernel
theorem dX13_readStatement_304 : decode cX13_readStatement 304 = .ok (.aload_n 0, 1) := by decide +kernel
theorem dX13_readStatement_305 : decode cX13_readStatement 305 = .ok (.iload_n 3, 1) := by decide +kernel
theorem dX13_readStatement_306 : decode cX13_readStatement 306 = .ok (.iconst 0, 1) := by decide +kernel
theorem dX13_readStatement_307 : decode cX13_readStatement 307 = .ok (.invokevirtual 292, 3) := by decide +kernel
theorem dX13_readStatement_310 : decode cX13_readStatement 310 = .ok (.goto 9, 3) := by decide +kernel
theorem dX13_readStatement_313 : decode cX13_readStatement 313 = .ok (.aload_n 0, 1) := by decide +kernel
theorem dX13_readStatement_314 : decode cX13_readStatement 314 = .ok (.bipush 59, 2) := by decide +kernel
theorem dX13_readStatement_316 : decode cX13_readStatement 316 = .ok (.invokevirtual 303, 3) := by decide +kernel
theorem dX13_readStatement_319 : decode cX13_readStatement 319 = .ok (.return_, 1) := by decide +kernel
theorem dX13_readText_0 : decode cX13_readText 0 = .ok (.aload_n 0, 1) := by decide +kernel
theorem dX13_readText_1 : decode cX13_readText 1 = .ok (.iconst 0, 1) := by decide +kernel
theorem dX13_readText_2 : decode cX13_readText 2 = .ok (.putfield 283, 3) := by decide +kernel
theorem dX13_readText_5 : decode cX13_readText 5 = .ok (.aload_n 0, 1) := by decide +kernel
theorem dX13_readText_6 : decode cX13_readText 6 = .ok (.getfield 74, 3) := by decide +kernel
theorem dX13_readText_9 : decode cX13_readText 9 = .ok (.iconst 0, 1) := by decide +kernel
theorem dX13_readText_10 : decode cX13_readText 10 = .ok (.iconst (-1), 1) := by decide +kernel
theorem dX13_readText_11 : decode cX13_readText 11 = .ok (.iastore, 1) := by decide +kernel
theorem dX13_readText_12 : decode cX13_readText 12 = .ok (.aload_n 0, 1) := by decide +kernel
theorem dX13_readText_13 : decode cX13_readText 13 = .ok (.getfield 77, 3) := by decide +kernel
theorem dX13_readText_16 : decode cX13_readText 16 = .ok (.iconst 0, 1) := by decide +kernel
theorem dX13_readText_17 : decode cX13_readText 17 = .ok (.iconst 0, 1) := by decide +kernel
theorem dX13_readText_18 : decode cX13_readText 18 = .ok (.iastore, 1) := by decide +kernel
theorem dX13_readText_19 : decode cX13_readText 19 = .ok (.aload_n 0, 1) := by decide +kernel
theorem dX13_readText_20 : decode cX13_readText 20 = .ok (.getfield 80, 3) := by decide +kernel
theorem dX13_readText_23 : decode cX13_readText 23 = .ok (.iconst 0, 1) := by decide +kernel
theorem dX13_readText_24 : decode cX13_readText 24 = .ok (.iconst (-1), 1) := by decide +kernel
theorem dX13_readText_25 : decode cX13_readText 25 = .ok (.iastore, 1) := by decide +kernel
theorem dX13_readText_26 : decode cX13_readText 26 = .ok (.aload_n 0, 1) := by decide +kernel
theorem dX13_readText_27 : decode cX13_readText 27 = .ok (.getfield 27, 3) := by decide +kernel
theorem dX13_readText_30 : decode cX13_readText 30 = .ok (.aload_n 0, 1) := by decide +kernel
theorem dX13_readText_31 : decode cX13_readText 31 = .ok (.getfield 253, 3) := by decide +kernel
theorem dX13_readText_34 : decode cX13_readText 34 = .ok (.iconst (-1), 1) := by decide +kernel
theorem dX13_readText_35 : decode cX13_readText 35 = .ok (.iastore, 1) := by decide +kernel
theorem dX13_readText_36 : decode cX13_readText 36 = .ok (.aload_n 0, 1) := by decide +kernel
theorem dX13_readText_37 : decode cX13_readText 37 = .ok (.invokevirtual 250, 3) := by decide +kernel
theorem dX13_readText_40 : decode cX13_readText 40 = .ok (.aload_n 0, 1) := by decide +kernel
theorem dX13_readText_41 : decode cX13_readText 41 = .ok (.getfield 240, 3) := by decide +kernel
theorem dX13_readText_44 : decode cX13_readText 44 = .ok (.ifCond .ne 70, 3) := by decide +kernel
theorem dX13_readText_47 : decode cX13_readText 47 = .ok (.aload_n 0, 1) := by decide +kernel
theorem dX13_readText_48 : decode cX13_readText 48 = .ok (.getfield 209, 3) := by decide +kernel
theorem dX13_readText_51 : decode cX13_readText 51 = .ok (.ifCond .ne 10, 3) := by decide +kernel
theorem dX13_readText_54 : decode cX13_readText 54 = .ok (.aload_n 0, 1) := by decide +kernel
theorem dX13_readText_55 : decode cX13_readText 55 = .ok (.getfield 283, 3) := by decide +kernel
theorem dX13_readText_58 : decode cX13_readText 58 = .ok (.ifCond .eq 56, 3) := by decide +kernel
theorem dX13_readText_61 : decode cX13_readText 61 = .ok (.aload_n 0, 1) := by decide +kernel
theorem dX13_readText_62 : decode cX13_readText 62 = .ok (.getfield 209, 3) := by decide +kernel
theorem dX13_readText_65 : decode cX13_readText 65 = .ok (.ifCond .eq 19, 3) := by decide +kernel
theorem dX13_readText_68 : decode cX13_readText 68 = .ok (.aload_n 0, 1) := by decide +kernel
theorem dX13_readText_69 : decode cX13_readText 69 = .ok (.bipush 125, 2) := by decide +kernel
theorem dX13_readText_71 : decode cX13_readText 71 = .ok (.invokevirtual 244, 3) := by decide +kernel
theorem dX13_readText_74 : decode cX13_readText 74 = .ok (.ifCond .eq 17, 3) := by decide +kernel
theorem dX13_readText_77 : decode cX13_readText 77 = .ok (.aload_n 0, 1) := by decide +kernel
theorem dX13_readText_78 : decode cX13_readText 78 = .ok (.getfield 283, 3) := by decide +kernel
theorem dX13_readText_81 : decode cX13_readText 81 = .ok (.ifCond .ne 10, 3) := by decide +kernel
theorem dX13_readText_84 : decode cX13_readText 84 = .ok (.aload_n 0, 1) := by decide +kernel
theorem dX13_readText_85 : decode cX13_readText 85 = .ok (.invokevirtual 247, 3) := by decide +kernel
theorem dX13_readText_88 : decode cX13_readText 88 = .ok (.goto (-48), 3) := by decide +kernel
theorem dX13_readText_91 : decode cX13_readText 91 = .ok (.aload_n 0, 1) := by decide +kernel
theorem dX13_readText_92 : decode cX13_readText 92 = .ok (.bipush 125, 2) := by decide +kernel
theorem dX13_readText_94 : decode cX13_readText 94 = .ok (.invokevirtual 244, 3) := by decide +kernel
theorem dX13_readText_97 : decode cX13_readText 97 = .ok (.ifCond .eq 10, 3) := by decide +kernel
theorem dX13_readText_100 : decode cX13_readText 100 = .ok (.aload_n 0, 1) := by decide +kernel
theorem dX13_readText_101 : decode cX13_readText 101 = .ok (.invokevirtual 286, 3) := by decide +kernel
theorem dX13_readText_104 : decode cX13_readText 104 = .ok (.goto (-64), 3) := by decide +kernel
theorem dX13_readText_107 : decode cX13_readText 107 = .ok (.aload_n 0, 1) := by decide +kernel
theorem dX13_readText_108 : decode cX13_readText 108 = .ok (.invokevirtual 289, 3) := by decide +kernel
theorem dX13_readText_111 : decode cX13_readText 111 = .ok (.goto (-71), 3) := by decide +kernel
theorem dX13_readText_114 : decode cX13_readText 114 = .ok (.return_, 1) := by decide +kernel
theorem dX13_readUnary_0 : decode cX13_readUnary 0 = .ok (.aload_n 0, 1) := by decide +kernel
theorem dX13_readUnary_1 : decode cX13_readUnary 1 = .ok (.bipush 45, 2) := by decide +kernel
theorem dX13_readUnary_3 : decode cX13_readUnary 3 = .ok (.invokevirtual 244, 3) := by decide +kernel
theorem dX13_readUnary_6 : decode cX13_readUnary 6 = .ok (.ifCond .ne 12, 3) := by decide +kernel
theorem dX13_readUnary_9 : decode cX13_readUnary 9 = .ok (.aload_n 0, 1) := by decide +kernel
theorem dX13_readUnary_10 : decode cX13_readUnary 10 = .ok (.bipush 40, 2) := by decide +kernel
theorem dX13_readUnary_12 : decode cX13_readUnary 12 = .ok (.invokevirtual 244, 3) := by decide +kernel
theorem dX13_readUnary_15 : decode cX13_readUnary 15 = .ok (.ifCond .eq 7, 3) := by decide +kernel
theorem dX13_readUnary_18 : decode cX13_readUnary 18 = .ok (.iconst 1, 1) := by decide +kernel
theorem dX13_readUnary_19 : decode cX13_readUnary 19 = .ok (.goto 4, 3) := by decide +kernel
theorem dX13_readUnary_22 : decode cX13_readUnary 22 = .ok (.iconst 0, 1) := by decide +kernel
theorem dX13_readUnary_23 : decode cX13_readUnary 23 = .ok (.istore_n 2, 1) := by decide +kernel
theorem dX13_readUnary_24 : decode cX13_readUnary 24 = .ok (.iload_n 2, 1) := by decide +kernel
theorem dX13_readUnary_25 : decode cX13_readUnary 25 = .ok (.ifCond .ne 32, 3) := by decide +kernel
theorem dX13_readUnary_28 : decode cX13_readUnary 28 = .ok (.aload_n 0, 1) := by decide +kernel
theorem dX13_readUnary_29 : decode cX13_readUnary 29 = .ok (.getfield 209, 3) := by decide +kernel
theorem dX13_readUnary_32 : decode cX13_readUnary 32 = .ok (.iconst 3, 1) := by decide +kernel
theorem dX13_readUnary_33 : decode cX13_readUnary 33 = .ok (.if_icmp .eq 24, 3) := by decide +kernel
theorem dX13_readUnary_36 : decode cX13_readUnary 36 = .ok (.aload_n 0, 1) := by decide +kernel
theorem dX13_readUnary_37 : decode cX13_readUnary 37 = .ok (.getfield 209, 3) := by decide +kernel
theorem dX13_readUnary_40 : decode cX13_readUnary 40 = .ok (.iconst 2, 1) := by decide +kernel
theorem dX13_readUnary_41 : decode cX13_readUnary 41 = .ok (.if_icmp .ne 20, 3) := by decide +kernel
theorem dX13_readUnary_44 : decode cX13_readUnary 44 = .ok (.iload_n 1, 1) := by decide +kernel
theorem dX13_readUnary_45 : decode cX13_readUnary 45 = .ok (.ifCond .eq 12, 3) := by decide +kernel
theorem dX13_readUnary_48 : decode cX13_readUnary 48 = .ok (.aload_n 0, 1) := by decide +kernel
theorem dX13_readUnary_49 : decode cX13_readUnary 49 = .ok (.getfield 216, 3) := by decide +kernel
theorem dX13_readUnary_52 : decode cX13_readUnary 52 = .ok (.bipush 16, 2) := by decide +kernel
theorem dX13_readUnary_54 : decode cX13_readUnary 54 = .ok (.if_icmp .ge 7, 3) := by decide +kernel
theorem dX13_readUnary_57 : decode cX13_readUnary 57 = .ok (.iconst 1, 1) := by decide +kernel
theorem dX13_readUnary_58 : decode cX13_readUnary 58 = .ok (.goto 4, 3) := by decide +kernel
theorem dX13_readUnary_61 : decode cX13_readUnary 61 = .ok (.iconst 0, 1) := by decide +kernel
theorem dX13_readUnary_62 : decode cX13_readUnary 62 = .ok (.istore_n 3, 1) := by decide +kernel
theorem dX13_readUnary_63 : decode cX13_readUnary 63 = .ok (.iload_n 3, 1) := by decide +kernel
theorem dX13_readUnary_64 : decode cX13_readUnary 64 = .ok (.ifCond .eq 30, 3) := by decide +kernel
theorem dX13_readUnary_67 : decode cX13_readUnary 67 = .ok (.aload_n 0, 1) := by decide +kernel
theorem dX13_readUnary_68 : decode cX13_readUnary 68 = .ok (.getfield 21, 3) := by decide +kernel
theorem dX13_readUnary_71 : decode cX13_readUnary 71 = .ok (.aload_n 0, 1) := by decide +kernel
theorem dX13_readUnary_72 : decode cX13_readUnary 72 = .ok (.getfield 253, 3) := by decide +kernel
theorem dX13_readUnary_75 : decode cX13_readUnary 75 = .ok (.iaload, 1) := by decide +kernel
theorem dX13_readUnary_76 : decode cX13_readUnary 76 = .ok (.bipush 60, 2) := by decide +kernel
theorem dX13_readUnary_78 : decode cX13_readUnary 78 = .ok (.if_icmp .eq 16, 3) := by decide +kernel
theorem dX13_readUnary_81 : decode cX13_readUnary 81 = .ok (.iload_n 2, 1) := by decide +kernel
theorem dX13_readUnary_82 : decode cX13_readUnary 82 = .ok (.ifCond .eq 18, 3) := by decide +kernel
theorem dX13_readUnary_85 : decode cX13_readUnary 85 = .ok (.aload_n 0, 1) := by decide +kernel
theorem dX13_readUnary_86 : decode cX13_readUnary 86 = .ok (.getfield 266, 3) := by decide +kernel
theorem dX13_readUnary_89 : decode cX13_readUnary 89 = .ok (.bipush 8, 2) := by decide +kernel
theorem dX13_readUnary_91 : decode cX13_readUnary 91 = .ok (.if_icmp .ne 9, 3) := by decide +kernel
theorem dX13_readUnary_94 : decode cX13_readUnary 94 = .ok (.aload_n 0, 1) := by decide +kernel
theorem dX13_readUnary_95 : decode cX13_readUnary 95 = .ok (.invokevirtual 247, 3) := by decide +kernel
theorem dX13_readUnary_98 : decode cX13_readUnary 98 = .ok (.iconst 0, 1) := by decide +kernel
theorem dX13_readUnary_99 : decode cX13_readUnary 99 = .ok (.ireturn, 1) := by decide +kernel
theorem dX13_readUnary_100 : decode cX13_readUnary 100 = .ok (.aload_n 0, 1) := by decide +kernel
theorem dX13_readUnary_101 : decode cX13_readUnary 101 = .ok (.getfield 21, 3) := by decide +kernel
theorem dX13_readUnary_104 : decode cX13_readUnary 104 = .ok (.aload_n 0, 1) := by decide +kernel
theorem dX13_readUnary_105 : decode cX13_readUnary 105 = .ok (.getfield 253, 3) := by decide +kernel
theorem dX13_readUnary_108 : decode cX13_readUnary 108 = .ok (.dup2, 1) := by decide +kernel
theorem dX13_readUnary_109 : decode cX13_readUnary 109 = .ok (.iaload, 1) := by decide +kernel
theorem dX13_readUnary_110 : decode cX13_readUnary 110 = .ok (.iconst 1, 1) := by decide +kernel
theorem dX13_readUnary_111 : decode cX13_readUnary 111 = .ok (.iadd, 1) := by decide +kernel
theorem dX13_readUnary_112 : decode cX13_readUnary 112 = .ok (.iastore, 1) := by decide +kernel
theorem dX13_readUnary_113 : decode cX13_readUnary 113 = .ok (.iload_n 2, 1) := by decide +kernel
theorem dX13_readUnary_114 : decode cX13_readUnary 114 = .ok (.ifCond .eq 84, 3) := by decide +kernel
theorem dX13_readUnary_117 : decode cX13_readUnary 117 = .ok (.aload_n 0, 1) := by decide +kernel
theorem dX13_readUnary_118 : decode cX13_readUnary 118 = .ok (.dup, 1) := by decide +kernel
theorem dX13_readUnary_119 : decode cX13_readUnary 119 = .ok (.getfield 266, 3) := by decide +kernel
theorem dX13_readUnary_122 : decode cX13_readUnary 122 = .ok (.iconst 1, 1) := by decide +kernel
theorem dX13_readUnary_123 : decode cX13_readUnary 123 = .ok (.iadd, 1) := by decide +kernel
theorem dX13_readUnary_124 : decode cX13_readUnary 124 = .ok (.putfield 266, 3) := by decide +kernel
theorem dX13_readUnary_127 : decode cX13_readUnary 127 = .ok (.aload_n 0, 1) := by decide +kernel
theorem dX13_readUnary_128 : decode cX13_readUnary 128 = .ok (.getfield 67, 3) := by decide +kernel
theorem dX13_readUnary_131 : decode cX13_readUnary 131 = .ok (.aload_n 0, 1) := by decide +kernel
theorem dX13_readUnary_132 : decode cX13_readUnary 132 = .ok (.getfield 256, 3) := by decide +kernel
theorem dX13_readUnary_135 : decode cX13_readUnary 135 = .ok (.aload_n 0, 1) := by decide +kernel
theorem dX13_readUnary_136 : decode cX13_readUnary 136 = .ok (.bipush 40, 2) := by decide +kernel
theorem dX13_readUnary_138 : decode cX13_readUnary 138 = .ok (.invokevirtual 244, 3) := by decide +kernel
theorem dX13_readUnary_141 : decode cX13_readUnary 141 = .ok (.ifCond .eq 8, 3) := by decide +kernel
theorem dX13_readUnary_144 : decode cX13_readUnary 144 = .ok (.bipush 40, 2) := by decide +kernel
theorem dX13_readUnary_146 : decode cX13_readUnary 146 = .ok (.goto 6, 3) := by decide +kernel
theorem dX13_readUnary_149 : decode cX13_readUnary 149 = .ok (.sipush 1000, 3) := by decide +kernel
theorem dX13_readUnary_152 : decode cX13_readUnary 152 = .ok (.iastore, 1) := by decide +kernel
theorem dX13_readUnary_153 : decode cX13_readUnary 153 = .ok (.aload_n 0, 1) := by decide +kernel
theorem dX13_readUnary_154 : decode cX13_readUnary 154 = .ok (.dup, 1) := by decide +kernel
theorem dX13_readUnary_155 : decode cX13_readUnary 155 = .ok (.getfield 256, 3) := by decide +kernel
theorem dX13_readUnary_158 : decode cX13_readUnary 158 = .ok (.iconst 1, 1) := by decide +kernel
theorem dX13_readUnary_159 : decode cX13_readUnary 159 = .ok (.iadd, 1) := by decide +kernel
theorem dX13_readUnary_160 : decode cX13_readUnary 160 = .ok (.putfield 256, 3) := by decide +kernel
theorem dX13_readUnary_163 : decode cX13_readUnary 163 = .ok (.aload_n 0, 1) := by decide +kernel
theorem dX13_readUnary_164 : decode cX13_readUnary 164 = .ok (.bipush 40, 2) := by decide +kernel
theorem dX13_readUnary_166 : decode cX13_readUnary 166 = .ok (.invokevirtual 244, 3) := by decide +kernel
theorem dX13_readUnary_169 : decode cX13_readUnary 169 = .ok (.ifCond .eq 23, 3) := by decide +kernel
theorem dX13_readUnary_172 : decode cX13_readUnary 172 = .ok (.aload_n 0, 1) := by decide +kernel
theorem dX13_readUnary_173 : decode cX13_readUnary 173 = .ok (.dup, 1) := by decide +kernel
theorem dX13_readUnary_174 : decode cX13_readUnary 174 = .ok (.getfield 269, 3) := by decide +kernel
theorem dX13_readUnary_177 : decode cX13_readUnary 177 = .ok (.iconst 1, 1) := by decide +kernel
theorem dX13_readUnary_178 : decode cX13_readUnary 178 = .ok (.iadd, 1) := by decide +kernel
theorem dX13_readUnary_179 : decode cX13_readUnary 179 = .ok (.putfield 269, 3) := by decide +kernel
theorem dX13_readUnary_182 : decode cX13_readUnary 182 = .ok (.aload_n 0, 1) := by decide +kernel
theorem dX13_readUnary_183 : decode cX13_readUnary 183 = .ok (.getfield 70, 3) := by decide +kernel
theorem dX13_readUnary_186 : decode cX13_readUnary 186 = .ok (.aload_n 0, 1) := by decide +kernel
theorem dX13_readUnary_187 : decode cX13_readUnary 187 = .ok (.getfield 269, 3) := by decide +kernel
theorem dX13_readUnary_190 : decode cX13_readUnary 190 = .ok (.iconst 0, 1) := by decide +kernel
theorem dX13_readUnary_191 : decode cX13_readUnary 191 = .ok (.bastore, 1) := by decide +kernel
theorem dX13_readUnary_192 : decode cX13_readUnary 192 = .ok (.aload_n 0, 1) := by decide +kernel
theorem dX13_readUnary_193 : decode cX13_readUnary 193 = .ok (.invokevirtual 250, 3) := by decide +kernel
theorem dX13_readUnary_196 : decode cX13_readUnary 196 = .ok (.iconst 1, 1) := by decide +kernel
theorem dX13_readUnary_197 : decode cX13_readUnary 197 = .ok (.ireturn, 1) := by decide +kernel
theorem dX13_readUnary_198 : decode cX13_readUnary 198 = .ok (.aload_n 0, 1) := by decide +kernel
theorem dX13_readUnary_199 : decode cX13_readUnary 199 = .ok (.aload_n 0, 1) := by decide +kernel
theorem dX13_readUnary_200 : decode cX13_readUnary 200 = .ok (.getfield 209, 3) := by decide +kernel
theorem dX13_readUnary_203 : decode cX13_readUnary 203 = .ok (.iconst 3, 1) := by decide +kernel
theorem dX13_readUnary_204 : decode cX13_readUnary 204 = .ok (.if_icmp .ne 7, 3) := by decide +kernel
theorem dX13_readUnary_207 : decode cX13_readUnary 207 = .ok (.iconst 1, 1) := by decide +kernel
theorem dX13_readUnary_208 : decode cX13_readUnary 208 = .ok (.goto 4, 3) := by decide +kernel
theorem dX13_readUnary_211 : decode cX13_readUnary 211 = .ok (.iconst 2, 1) := by decide +kernel
theorem dX13_readUnary_212 : decode cX13_readUnary 212 = .ok (.aload_n 0, 1) := by decide +kernel
theorem dX13_readUnary_213 : decode cX13_readUnary 213 = .ok (.getfield 209, 3) := by decide +kernel
theorem dX13_readUnary_216 : decode cX13_readUnary 216 = .ok (.iconst 2, 1) := by decide +kernel
theorem dX13_readUnary_217 : decode cX13_readUnary 217 = .ok (.if_icmp .ne 10, 3) := by decide +kernel
theorem dX13_readUnary_220 : decode cX13_readUnary 220 = .ok (.aload_n 0, 1) := by decide +kernel
theorem dX13_readUnary_221 : decode cX13_readUnary 221 = .ok (.getfield 216, 3) := by decide +kernel
theorem dX13_readUnary_224 : decode cX13_readUnary 224 = .ok (.goto 4, 3) := by decide +kernel
theorem dX13_readUnary_227 : decode cX13_readUnary 227 = .ok (.iconst (-1), 1) := by decide +kernel
theorem dX13_readUnary_228 : decode cX13_readUnary 228 = .ok (.aload_n 0, 1) := by decide +kernel
theorem dX13_readUnary_229 : decode cX13_readUnary 229 = .ok (.getfield 209, 3) := by decide +kernel
theorem dX13_readUnary_232 : decode cX13_readUnary 232 = .ok (.iconst 3, 1) := by decide +kernel
theorem dX13_readUnary_233 : decode cX13_readUnary 233 = .ok (.if_icmp .ne 10, 3) := by decide +kernel
theorem dX13_readUnary_236 : decode cX13_readUnary 236 = .ok (.aload_n 0, 1) := by decide +kernel
theorem dX13_readUnary_237 : decode cX13_readUnary 237 = .ok (.getfield 226, 3) := by decide +kernel
theorem dX13_readUnary_240 : decode cX13_readUnary 240 = .ok (.goto 4, 3) := by decide +kernel
theorem dX13_readUnary_243 : decode cX13_readUnary 243 = .ok (.lconst 0, 1) := by decide +kernel
theorem dX13_readUnary_244 : decode cX13_readUnary 244 = .ok (.invokevirtual 262, 3) := by decide +kernel
theorem dX13_readUnary_247 : decode cX13_readUnary 247 = .ok (.aload_n 0, 1) := by decide +kernel
theorem dX13_readUnary_248 : decode cX13_readUnary 248 = .ok (.invokevirtual 250, 3) := by decide +kernel
theorem dX13_readUnary_251 : decode cX13_readUnary 251 = .ok (.aload_n 0, 1) := by decide +kernel
theorem dX13_readUnary_252 : decode cX13_readUnary 252 = .ok (.invokevirtual 280, 3) := by decide +kernel
theorem dX13_readUnary_255 : decode cX13_readUnary 255 = .ok (.iconst 0, 1) := by decide +kernel
theorem dX13_readUnary_256 : decode cX13_readUnary 256 = .ok (.ireturn, 1) := by decide +kernel
theorem dX13_reduce_0 : decode cX13_reduce 0 = .ok (.aload_n 0, 1) := by decide +kernel
theorem dX13_reduce_1 : decode cX13_reduce 1 = .ok (.getfield 256, 3) := by decide +kernel
theorem dX13_reduce_4 : decode cX13_reduce 4 = .ok (.ifCond .le 82, 3) := by decide +kernel
theorem dX13_reduce_7 : decode cX13_reduce 7 = .ok (.aload_n 0, 1) := by decide +kernel
theorem dX13_reduce_8 : decode cX13_reduce 8 = .ok (.getfield 67, 3) := by decide +kernel
theorem dX13_reduce_11 : decode cX13_reduce 11 = .ok (.aload_n 0, 1) := by decide +kernel
theorem dX13_reduce_12 : decode cX13_reduce 12 = .ok (.getfield 256, 3) := by decide +kernel
theorem dX13_reduce_15 : decode cX13_reduce 15 = .ok (.iconst 1, 1) := by decide +kernel
theorem dX13_reduce_16 : decode cX13_reduce 16 = .ok (.isub, 1) := by decide +kernel
theorem dX13_reduce_17 : decode cX13_reduce 17 = .ok (.iaload, 1) := by decide +kernel
theorem dX13_reduce_18 : decode cX13_reduce 18 = .ok (.bipush 40, 2) := by decide +kernel
theorem dX13_reduce_20 : decode cX13_reduce 20 = .ok (.if_icmp .eq 66, 3) := by decide +kernel
theorem dX13_reduce_23 : decode cX13_reduce 23 = .ok (.aload_n 0, 1) := by decide +kernel
theorem dX13_reduce_24 : decode cX13_reduce 24 = .ok (.getfield 67, 3) := by decide +kernel
theorem dX13_reduce_27 : decode cX13_reduce 27 = .ok (.aload_n 0, 1) := by decide +kernel
theorem dX13_reduce_28 : decode cX13_reduce 28 = .ok (.getfield 256, 3) := by decide +kernel
theorem dX13_reduce_31 : decode cX13_reduce 31 = .ok (.iconst 1, 1) := by decide +kernel
theorem dX13_reduce_32 : decode cX13_reduce 32 = .ok (.isub, 1) := by decide +kernel
theorem dX13_reduce_33 : decode cX13_reduce 33 = .ok (.iaload, 1) := by decide +kernel
theorem dX13_reduce_34 : decode cX13_reduce 34 = .ok (.sipush 1000, 3) := by decide +kernel
theorem dX13_reduce_37 : decode cX13_reduce 37 = .ok (.if_icmp .eq 49, 3) := by decide +kernel
theorem dX13_reduce_40 : decode cX13_reduce 40 = .ok (.aload_n 0, 1) := by decide +kernel
theorem dX13_reduce_41 : decode cX13_reduce 41 = .ok (.getfield 67, 3) := by decide +kernel
theorem dX13_reduce_44 : decode cX13_reduce 44 = .ok (.aload_n 0, 1) := by decide +kernel
theorem dX13_reduce_45 : decode cX13_reduce 45 = .ok (.getfield 256, 3) := by decide +kernel
theorem dX13_reduce_48 : decode cX13_reduce 48 = .ok (.iconst 1, 1) := by decide +kernel
theorem dX13_reduce_49 : decode cX13_reduce 49 = .ok (.isub, 1) := by decide +kernel
theorem dX13_reduce_50 : decode cX13_reduce 50 = .ok (.iaload, 1) := by decide +kernel
theorem dX13_reduce_51 : decode cX13_reduce 51 = .ok (.invokestatic 259, 3) := by decide +kernel
theorem dX13_reduce_54 : decode cX13_reduce 54 = .ok (.iload_n 1, 1) := by decide +kernel
theorem dX13_reduce_55 : decode cX13_reduce 55 = .ok (.if_icmp .lt 31, 3) := by decide +kernel
theorem dX13_reduce_58 : decode cX13_reduce 58 = .ok (.aload_n 0, 1) := by decide +kernel
theorem dX13_reduce_59 : decode cX13_reduce 59 = .ok (.dup, 1) := by decide +kernel
theorem dX13_reduce_60 : decode cX13_reduce 60 = .ok (.getfield 256, 3) := by decide +kernel
theorem dX13_reduce_63 : decode cX13_reduce 63 = .ok (.iconst 1, 1) := by decide +kernel
theorem dX13_reduce_64 : decode cX13_reduce 64 = .ok (.isub, 1) := by decide +kernel
theorem dX13_reduce_65 : decode cX13_reduce 65 = .ok (.putfield 256, 3) := by decide +kernel
theorem dX13_reduce_68 : decode cX13_reduce 68 = .ok (.aload_n 0, 1) := by decide +kernel
theorem dX13_reduce_69 : decode cX13_reduce 69 = .ok (.aload_n 0, 1) := by decide +kernel
theorem dX13_reduce_70 : decode cX13_reduce 70 = .ok (.getfield 67, 3) := by decide +kernel
theorem dX13_reduce_73 : decode cX13_reduce 73 = .ok (.aload_n 0, 1) := by decide +kernel
theorem dX13_reduce_74 : decode cX13_reduce 74 = .ok (.getfield 256, 3) := by decide +kernel
theorem dX13_reduce_77 : decode cX13_reduce 77 = .ok (.iaload, 1) := by decide +kernel
theorem dX13_reduce_78 : decode cX13_reduce 78 = .ok (.iconst (-1), 1) := by decide +kernel
theorem dX13_reduce_79 : decode cX13_reduce 79 = .ok (.lconst 0, 1) := by decide +kernel
theorem dX13_reduce_80 : decode cX13_reduce 80 = .ok (.invokevirtual 262, 3) := by decide +kernel
theorem dX13_reduce_83 : decode cX13_reduce 83 = .ok (.goto (-83), 3) := by decide +kernel
theorem dX13_reduce_86 : decode cX13_reduce 86 = .ok (.return_, 1) := by decide +kernel
theorem dX13_replays_0 : decode cX13_replays 0 = .ok (.aload_n 0, 1) := by decide +kernel
theorem dX13_replays_1 : decode cX13_replays 1 = .ok (.iconst 0, 1) := by decide +kernel
theorem dX13_replays_2 : decode cX13_replays 2 = .ok (.putfield 173, 3) := by decide +kernel
theorem dX13_replays_5 : decode cX13_replays 5 = .ok (.iconst 0, 1) := by decide +kernel
theorem dX13_replays_6 : decode cX13_replays 6 = .ok (.istore_n 1, 1) := by decide +kernel
theorem dX13_replays_7 : decode cX13_replays 7 = .ok (.iload_n 1, 1) := by decide +kernel
theorem dX13_replays_8 : decode cX13_replays 8 = .ok (.bipush 16, 2) := by decide +kernel
theorem dX13_replays_10 : decode cX13_replays 10 = .ok (.if_icmp .ge 29, 3) := by decide +kernel
theorem dX13_replays_13 : decode cX13_replays 13 = .ok (.aload_n 0, 1) := by decide +kernel
theorem dX13_replays_14 : decode cX13_replays 14 = .ok (.getfield 83, 3) := by decide +kernel
theorem dX13_replays_17 : decode cX13_replays 17 = .ok (.bipush 16, 2) := by decide +kernel
theorem dX13_replays_19 : decode cX13_replays 19 = .ok (.iload_n 1, 1) := by decide +kernel
theorem dX13_replays_20 : decode cX13_replays 20 = .ok (.iadd, 1) := by decide +kernel
theorem dX13_replays_21 : decode cX13_replays 21 = .ok (.lconst 0, 1) := by decide +kernel
theorem dX13_replays_22 : decode cX13_replays 22 = .ok (.lastore, 1) := by decide +kernel
theorem dX13_replays_23 : decode cX13_replays 23 = .ok (.aload_n 0, 1) := by decide +kernel
theorem dX13_replays_24 : decode cX13_replays 24 = .ok (.getfield 86, 3) := by decide +kernel
theorem dX13_replays_27 : decode cX13_replays 27 = .ok (.bipush 16, 2) := by decide +kernel
theorem dX13_replays_29 : decode cX13_replays 29 = .ok (.iload_n 1, 1) := by decide +kernel
theorem dX13_replays_30 : decode cX13_replays 30 = .ok (.iadd, 1) := by decide +kernel
theorem dX13_replays_31 : decode cX13_replays 31 = .ok (.iconst 0, 1) := by decide +kernel
theorem dX13_replays_32 : decode cX13_replays 32 = .ok (.iastore, 1) := by decide +kernel
theorem dX13_replays_33 : decode cX13_replays 33 = .ok (.iinc 1 1, 3) := by decide +kernel
theorem dX13_replays_36 : decode cX13_replays 36 = .ok (.goto (-29), 3) := by decide +kernel
theorem dX13_replays_39 : decode cX13_replays 39 = .ok (.aload_n 0, 1) := by decide +kernel
theorem dX13_replays_40 : decode cX13_replays 40 = .ok (.getfield 89, 3) := by decide +kernel
theorem dX13_replays_43 : decode cX13_replays 43 = .ok (.iconst 1, 1) := by decide +kernel
theorem dX13_replays_44 : decode cX13_replays 44 = .ok (.iconst 0, 1) := by decide +kernel
theorem dX13_replays_45 : decode cX13_replays 45 = .ok (.iastore, 1) := by decide +kernel
theorem dX13_replays_46 : decode cX13_replays 46 = .ok (.aload_n 0, 1) := by decide +kernel
theorem dX13_replays_47 : decode cX13_replays 47 = .ok (.iconst 1, 1) := by decide +kernel
theorem dX13_replays_48 : decode cX13_replays 48 = .ok (.putfield 319, 3) := by decide +kernel
theorem dX13_replays_51 : decode cX13_replays 51 = .ok (.iconst 1, 1) := by decide +kernel
theorem dX13_replays_52 : decode cX13_replays 52 = .ok (.istore_n 1, 1) := by decide +kernel
theorem dX13_replays_53 : decode cX13_replays 53 = .ok (.iconst 0, 1) := by decide +kernel
theorem dX13_replays_54 : decode cX13_replays 54 = .ok (.istore_n 2, 1) := by decide +kernel
theorem dX13_replays_55 : decode cX13_replays 55 = .ok (.iload_n 2, 1) := by decide +kernel
theorem dX13_replays_56 : decode cX13_replays 56 = .ok (.aload_n 0, 1) := by decide +kernel
theorem dX13_replays_57 : decode cX13_replays 57 = .ok (.getfield 386, 3) := by decide +kernel
theorem dX13_replays_60 : decode cX13_replays 60 = .ok (.if_icmp .ge 19, 3) := by decide +kernel
theorem dX13_replays_63 : decode cX13_replays 63 = .ok (.iload_n 1, 1) := by decide +kernel
theorem dX13_replays_64 : decode cX13_replays 64 = .ok (.ifCond .eq 15, 3) := by decide +kernel
theorem dX13_replays_67 : decode cX13_replays 67 = .ok (.aload_n 0, 1) := by decide +kernel
theorem dX13_replays_68 : decode cX13_replays 68 = .ok (.iload_n 2, 1) := by decide +kernel
theorem dX13_replays_69 : decode cX13_replays 69 = .ok (.invokevirtual 444, 3) := by decide +kernel
theorem dX13_replays_72 : decode cX13_replays 72 = .ok (.istore_n 1, 1) := by decide +kernel
theorem dX13_replays_73 : decode cX13_replays 73 = .ok (.iinc 2 1, 3) := by decide +kernel
theorem dX13_replays_76 : decode cX13_replays 76 = .ok (.goto (-21), 3) := by decide +kernel
theorem dX13_replays_79 : decode cX13_replays 79 = .ok (.iconst 0, 1) := by decide +kernel
theorem dX13_replays_80 : decode cX13_replays 80 = .ok (.istore_n 2, 1) := by decide +kernel
theorem dX13_replays_81 : decode cX13_replays 81 = .ok (.iload_n 2, 1) := by decide +kernel
theorem dX13_replays_82 : decode cX13_replays 82 = .ok (.bipush 16, 2) := by decide +kernel
theorem dX13_replays_84 : decode cX13_replays 84 = .ok (.if_icmp .ge 56, 3) := by decide +kernel
theorem dX13_replays_87 : decode cX13_replays 87 = .ok (.iload_n 1, 1) := by decide +kernel
theorem dX13_replays_88 : decode cX13_replays 88 = .ok (.ifCond .eq 52, 3) := by decide +kernel
theorem dX13_replays_91 : decode cX13_replays 91 = .ok (.aload_n 0, 1) := by decide +kernel
theorem dX13_replays_92 : decode cX13_replays 92 = .ok (.getfield 83, 3) := by decide +kernel
theorem dX13_replays_95 : decode cX13_replays 95 = .ok (.iload_n 2, 1) := by decide +kernel
theorem dX13_replays_96 : decode cX13_replays 96 = .ok (.laload, 1) := by decide +kernel
theorem dX13_replays_97 : decode cX13_replays 97 = .ok (.aload_n 0, 1) := by decide +kernel
theorem dX13_replays_98 : decode cX13_replays 98 = .ok (.getfield 83, 3) := by decide +kernel
theorem dX13_replays_101 : decode cX13_replays 101 = .ok (.bipush 16, 2) := by decide +kernel
theorem dX13_replays_103 : decode cX13_replays 103 = .ok (.iload_n 2, 1) := by decide +kernel
theorem dX13_replays_104 : decode cX13_replays 104 = .ok (.iadd, 1) := by decide +kernel
theorem dX13_replays_105 : decode cX13_replays 105 = .ok (.laload, 1) := by decide +kernel
theorem dX13_replays_106 : decode cX13_replays 106 = .ok (.lcmp, 1) := by decide +kernel
theorem dX13_replays_107 : decode cX13_replays 107 = .ok (.ifCond .ne 25, 3) := by decide +kernel
theorem dX13_replays_110 : decode cX13_replays 110 = .ok (.aload_n 0, 1) := by decide +kernel
theorem dX13_replays_111 : decode cX13_replays 111 = .ok (.getfield 86, 3) := by decide +kernel
theorem dX13_replays_114 : decode cX13_replays 114 = .ok (.iload_n 2, 1) := by decide +kernel
theorem dX13_replays_115 : decode cX13_replays 115 = .ok (.iaload, 1) := by decide +kernel
theorem dX13_replays_116 : decode cX13_replays 116 = .ok (.aload_n 0, 1) := by decide +kernel
theorem dX13_replays_117 : decode cX13_replays 117 = .ok (.getfield 86, 3) := by decide +kernel
theorem dX13_replays_120 : decode cX13_replays 120 = .ok (.bipush 16, 2) := by decide +kernel
theorem dX13_replays_122 : decode cX13_replays 122 = .ok (.iload_n 2, 1) := by decide +kernel
theorem dX13_replays_123 : decode cX13_replays 123 = .ok (.iadd, 1) := by decide +kernel
theorem dX13_replays_124 : decode cX13_replays 124 = .ok (.iaload, 1) := by decide +kernel
theorem dX13_replays_125 : decode cX13_replays 125 = .ok (.if_icmp .ne 7, 3) := by decide +kernel
theorem dX13_replays_128 : decode cX13_replays 128 = .ok (.iconst 1, 1) := by decide +kernel
theorem dX13_replays_129 : decode cX13_replays 129 = .ok (.goto 4, 3) := by decide +kernel
theorem dX13_replays_132 : decode cX13_replays 132 = .ok (.iconst 0, 1) := by decide +kernel
theorem dX13_replays_133 : decode cX13_replays 133 = .ok (.istore_n 1, 1) := by decide +kernel
theorem dX13_replays_134 : decode cX13_replays 134 = .ok (.iinc 2 1, 3) := by decide +kernel
theorem dX13_replays_137 : decode cX13_replays 137 = .ok (.goto (-56), 3) := by decide +kernel
theorem dX13_replays_140 : decode cX13_replays 140 = .ok (.iload_n 1, 1) := by decide +kernel
theorem dX13_replays_141 : decode cX13_replays 141 = .ok (.ifCond .eq 22, 3) := by decide +kernel
theorem dX13_replays_144 : decode cX13_replays 144 = .ok (.aload_n 0, 1) := by decide +kernel
theorem dX13_replays_145 : decode cX13_replays 145 = .ok (.getfield 89, 3) := by decide +kernel
theorem dX13_replays_148 : decode cX13_replays 148 = .ok (.iconst 0, 1) := by decide +kernel
theorem dX13_replays_149 : decode cX13_replays 149 = .ok (.iaload, 1) := by decide +kernel
theorem dX13_replays_150 : decode cX13_replays 150 = .ok (.aload_n 0, 1) := by decide +kernel
theorem dX13_replays_151 : decode cX13_replays 151 = .ok (.getfield 89, 3) := by decide +kernel
theorem dX13_replays_154 : decode cX13_replays 154 = .ok (.iconst 1, 1) := by decide +kernel
theorem dX13_replays_155 : decode cX13_replays 155 = .ok (.iaload, 1) := by decide +kernel
theorem dX13_replays_156 : decode cX13_replays 156 = .ok (.if_icmp .ne 7, 3) := by decide +kernel
theorem dX13_replays_159 : decode cX13_replays 159 = .ok (.iconst 1, 1) := by decide +kernel
theorem dX13_replays_160 : decode cX13_replays 160 = .ok (.goto 4, 3) := by decide +kernel
theorem dX13_replays_163 : decode cX13_replays 163 = .ok (.iconst 0, 1) := by decide +kernel
theorem dX13_replays_164 : decode cX13_replays 164 = .ok (.istore_n 1, 1) := by decide +kernel
theorem dX13_replays_165 : decode cX13_replays 165 = .ok (.iconst 0, 1) := by decide +kernel
theorem dX13_replays_166 : decode cX13_replays 166 = .ok (.istore_n 2, 1) := by decide +kernel
theorem dX13_replays_167 : decode cX13_replays 167 = .ok (.iload_n 2, 1) := by decide +kernel
theorem dX13_replays_168 : decode cX13_replays 168 = .ok (.aload_n 0, 1) := by decide +kernel
theorem dX13_replays_169 : decode cX13_replays 169 = .ok (.getfield 89, 3) := by decide +kernel
theorem dX13_replays_172 : decode cX13_replays 172 = .ok (.iconst 0, 1) := by decide +kernel
theorem dX13_replays_173 : decode cX13_replays 173 = .ok (.iaload, 1) := by decide +kernel
theorem dX13_replays_174 : decode cX13_replays 174 = .ok (.if_icmp .ge 37, 3) := by decide +kernel
theorem dX13_replays_177 : decode cX13_replays 177 = .ok (.iload_n 1, 1) := by decide +kernel
theorem dX13_replays_178 : decode cX13_replays 178 = .ok (.ifCond .eq 33, 3) := by decide +kernel
theorem dX13_replays_181 : decode cX13_replays 181 = .ok (.aload_n 0, 1) := by decide +kernel
theorem dX13_replays_182 : decode cX13_replays 182 = .ok (.getfield 92, 3) := by decide +kernel
theorem dX13_replays_185 : decode cX13_replays 185 = .ok (.iload_n 2, 1) := by decide +kernel
theorem dX13_replays_186 : decode cX13_replays 186 = .ok (.iaload, 1) := by decide +kernel
theorem dX13_replays_187 : decode cX13_replays 187 = .ok (.aload_n 0, 1) := by decide +kernel
theorem dX13_replays_188 : decode cX13_replays 188 = .ok (.getfield 92, 3) := by decide +kernel
theorem dX13_replays_191 : decode cX13_replays 191 = .ok (.bipush 32, 2) := by decide +kernel
theorem dX13_replays_193 : decode cX13_replays 193 = .ok (.iload_n 2, 1) := by decide +kernel
theorem dX13_replays_194 : decode cX13_replays 194 = .ok (.iadd, 1) := by decide +kernel
theorem dX13_replays_195 : decode cX13_replays 195 = .ok (.iaload, 1) := by decide +kernel
theorem dX13_replays_196 : decode cX13_replays 196 = .ok (.if_icmp .ne 7, 3) := by decide +kernel
theorem dX13_replays_199 : decode cX13_replays 199 = .ok (.iconst 1, 1) := by decide +kernel
theorem dX13_replays_200 : decode cX13_replays 200 = .ok (.goto 4, 3) := by decide +kernel
theorem dX13_replays_203 : decode cX13_replays 203 = .ok (.iconst 0, 1) := by decide +kernel
theorem dX13_replays_204 : decode cX13_replays 204 = .ok (.istore_n 1, 1) := by decide +kernel
theorem dX13_replays_205 : decode cX13_replays 205 = .ok (.iinc 2 1, 3) := by decide +kernel
theorem dX13_replays_208 : decode cX13_replays 208 = .ok (.goto (-41), 3) := by decide +kernel
theorem dX13_replays_211 : decode cX13_replays 211 = .ok (.aload_n 0, 1) := by decide +kernel
theorem dX13_replays_212 : decode cX13_replays 212 = .ok (.iconst 0, 1) := by decide +kernel
theorem dX13_replays_213 : decode cX13_replays 213 = .ok (.putfield 319, 3) := by decide +kernel
theorem dX13_replays_216 : decode cX13_replays 216 = .ok (.iload_n 1, 1) := by decide +kernel
theorem dX13_replays_217 : decode cX13_replays 217 = .ok (.ifCond .eq 7, 3) := by decide +kernel
theorem dX13_replays_220 : decode cX13_replays 220 = .ok (.iconst 1, 1) := by decide +kernel
theorem dX13_replays_221 : decode cX13_replays 221 = .ok (.goto 4, 3) := by decide +kernel
theorem dX13_replays_224 : decode cX13_replays 224 = .ok (.iconst 0, 1) := by decide +kernel
theorem dX13_replays_225 : decode cX13_replays 225 = .ok (.ireturn, 1) := by decide +kernel
theorem dX13_retryFrom_0 : decode cX13_retryFrom 0 = .ok (.aload_n 0, 1) := by decide +kernel
theorem dX13_retryFrom_1 : decode cX13_retryFrom 1 = .ok (.iload_n 1, 1) := by decide +kernel
theorem dX13_retryFrom_2 : decode cX13_retryFrom 2 = .ok (.iconst 5, 1) := by decide +kernel
theorem dX13_retryFrom_3 : decode cX13_retryFrom 3 = .ok (.invokevirtual 373, 3) := by decide +kernel
theorem dX13_retryFrom_6 : decode cX13_retryFrom 6 = .ok (.istore_n 2, 1) := by decide +kernel
theorem dX13_retryFrom_7 : decode cX13_retryFrom 7 = .ok (.iload_n 2, 1) := by decide +kernel
theorem dX13_retryFrom_8 : decode cX13_retryFrom 8 = .ok (.ifCond .ge 5, 3) := by decide +kernel
theorem dX13_retryFrom_11 : decode cX13_retryFrom 11 = .ok (.iconst 3, 1) := by decide +kernel
theorem dX13_retryFrom_12 : decode cX13_retryFrom 12 = .ok (.ireturn, 1) := by decide +kernel
theorem dX13_retryFrom_13 : decode cX13_retryFrom 13 = .ok (.aload_n 0, 1) := by decide +kernel
theorem dX13_retryFrom_14 : decode cX13_retryFrom 14 = .ok (.iload_n 2, 1) := by decide +kernel
theorem dX13_retryFrom_15 : decode cX13_retryFrom 15 = .ok (.invokevirtual 377, 3) := by decide +kernel
theorem dX13_retryFrom_18 : decode cX13_retryFrom 18 = .ok (.aload_n 0, 1) := by decide +kernel
theorem dX13_retryFrom_19 : decode cX13_retryFrom 19 = .ok (.iload_n 2, 1) := by decide +kernel
theorem dX13_retryFrom_20 : decode cX13_retryFrom 20 = .ok (.aload_n 0, 1) := by decide +kernel
theorem dX13_retryFrom_21 : decode cX13_retryFrom 21 = .ok (.getfield 51, 3) := by decide +kernel
theorem dX13_retryFrom_24 : decode cX13_retryFrom 24 = .ok (.iload_n 2, 1) := by decide +kernel
theorem dX13_retryFrom_25 : decode cX13_retryFrom 25 = .ok (.iaload, 1) := by decide +kernel
theorem dX13_retryFrom_26 : decode cX13_retryFrom 26 = .ok (.invokevirtual 364, 3) := by decide +kernel
theorem dX13_retryFrom_29 : decode cX13_retryFrom 29 = .ok (.iconst 0, 1) := by decide +kernel
theorem dX13_retryFrom_30 : decode cX13_retryFrom 30 = .ok (.ireturn, 1) := by decide +kernel
theorem dX13_row_0 : decode cX13_row 0 = .ok (.aload_n 0, 1) := by decide +kernel
theorem dX13_row_1 : decode cX13_row 1 = .ok (.iconst 0, 1) := by decide +kernel
theorem dX13_row_2 : decode cX13_row 2 = .ok (.putfield 173, 3) := by decide +kernel
theorem dX13_row_5 : decode cX13_row 5 = .ok (.iload_n 1, 1) := by decide +kernel
theorem dX13_row_6 : decode cX13_row 6 = .ok (.ifCond .lt 11, 3) := by decide +kernel
theorem dX13_row_9 : decode cX13_row 9 = .ok (.iload_n 1, 1) := by decide +kernel
theorem dX13_row_10 : decode cX13_row 10 = .ok (.aload_n 0, 1) := by decide +kernel
theorem dX13_row_11 : decode cX13_row 11 = .ok (.getfield 386, 3) := by decide +kernel
theorem dX13_row_14 : decode cX13_row 14 = .ok (.if_icmp .lt 5, 3) := by decide +kernel
theorem dX13_row_17 : decode cX13_row 17 = .ok (.iconst (-1), 1) := by decide +kernel
theorem dX13_row_18 : decode cX13_row 18 = .ok (.ireturn, 1) := by decide +kernel
theorem dX13_row_19 : decode cX13_row 19 = .ok (.iload_n 2, 1) := by decide +kernel
theorem dX13_row_20 : decode cX13_row 20 = .ok (.ifCond .ne 12, 3) := by decide +kernel
theorem dX13_row_23 : decode cX13_row 23 = .ok (.aload_n 0, 1) := by decide +kernel
theorem dX13_row_24 : decode cX13_row 24 = .ok (.getfield 155, 3) := by decide +kernel
theorem dX13_row_27 : decode cX13_row 27 = .ok (.iload_n 1, 1) := by decide +kernel
theorem dX13_row_28 : decode cX13_row 28 = .ok (.iaload, 1) := by decide +kernel
theorem dX13_row_29 : decode cX13_row 29 = .ok (.goto 60, 3) := by decide +kernel
theorem dX13_row_32 : decode cX13_row 32 = .ok (.iload_n 2, 1) := by decide +kernel
theorem dX13_row_33 : decode cX13_row 33 = .ok (.iconst 1, 1) := by decide +kernel
theorem dX13_row_34 : decode cX13_row 34 = .ok (.if_icmp .ne 12, 3) := by decide +kernel
theorem dX13_row_37 : decode cX13_row 37 = .ok (.aload_n 0, 1) := by decide +kernel
theorem dX13_row_38 : decode cX13_row 38 = .ok (.getfield 158, 3) := by decide +kernel
theorem dX13_row_41 : decode cX13_row 41 = .ok (.iload_n 1, 1) := by decide +kernel
theorem dX13_row_42 : decode cX13_row 42 = .ok (.iaload, 1) := by decide +kernel
theorem dX13_row_43 : decode cX13_row 43 = .ok (.goto 46, 3) := by decide +kernel
theorem dX13_row_46 : decode cX13_row 46 = .ok (.iload_n 2, 1) := by decide +kernel
theorem dX13_row_47 : decode cX13_row 47 = .ok (.iconst 2, 1) := by decide +kernel
theorem dX13_row_48 : decode cX13_row 48 = .ok (.if_icmp .ne 12, 3) := by decide +kernel
theorem dX13_row_51 : decode cX13_row 51 = .ok (.aload_n 0, 1) := by decide +kernel
theorem dX13_row_52 : decode cX13_row 52 = .ok (.getfield 161, 3) := by decide +kernel
theorem dX13_row_55 : decode cX13_row 55 = .ok (.iload_n 1, 1) := by decide +kernel
theorem dX13_row_56 : decode cX13_row 56 = .ok (.iaload, 1) := by decide +kernel
theorem dX13_row_57 : decode cX13_row 57 = .ok (.goto 32, 3) := by decide +kernel
theorem dX13_row_60 : decode cX13_row 60 = .ok (.iload_n 2, 1) := by decide +kernel
theorem dX13_row_61 : decode cX13_row 61 = .ok (.iconst 3, 1) := by decide +kernel
theorem dX13_row_62 : decode cX13_row 62 = .ok (.if_icmp .ne 12, 3) := by decide +kernel
theorem dX13_row_65 : decode cX13_row 65 = .ok (.aload_n 0, 1) := by decide +kernel
theorem dX13_row_66 : decode cX13_row 66 = .ok (.getfield 164, 3) := by decide +kernel
theorem dX13_row_69 : decode cX13_row 69 = .ok (.iload_n 1, 1) := by decide +kernel
theorem dX13_row_70 : decode cX13_row 70 = .ok (.iaload, 1) := by decide +kernel
theorem dX13_row_71 : decode cX13_row 71 = .ok (.goto 18, 3) := by decide +kernel
theorem dX13_row_74 : decode cX13_row 74 = .ok (.iload_n 2, 1) := by decide +kernel
theorem dX13_row_75 : decode cX13_row 75 = .ok (.iconst 4, 1) := by decide +kernel
theorem dX13_row_76 : decode cX13_row 76 = .ok (.if_icmp .ne 12, 3) := by decide +kernel
theorem dX13_row_79 : decode cX13_row 79 = .ok (.aload_n 0, 1) := by decide +kernel
theorem dX13_row_80 : decode cX13_row 80 = .ok (.getfield 167, 3) := by decide +kernel
theorem dX13_row_83 : decode cX13_row 83 = .ok (.iload_n 1, 1) := by decide +kernel
theorem dX13_row_84 : decode cX13_row 84 = .ok (.iaload, 1) := by decide +kernel
theorem dX13_row_85 : decode cX13_row 85 = .ok (.goto 4, 3) := by decide +kernel
theorem dX13_row_88 : decode cX13_row 88 = .ok (.iconst (-1), 1) := by decide +kernel
theorem dX13_row_89 : decode cX13_row 89 = .ok (.ireturn, 1) := by decide +kernel
theorem dX13_rows_0 : decode cX13_rows 0 = .ok (.aload_n 0, 1) := by decide +kernel
theorem dX13_rows_1 : decode cX13_rows 1 = .ok (.iconst 0, 1) := by decide +kernel
theorem dX13_rows_2 : decode cX13_rows 2 = .ok (.putfield 173, 3) := by decide +kernel
theorem dX13_rows_5 : decode cX13_rows 5 = .ok (.aload_n 0, 1) := by decide +kernel
theorem dX13_rows_6 : decode cX13_rows 6 = .ok (.getfield 386, 3) := by decide +kernel
theorem dX13_rows_9 : decode cX13_rows 9 = .ok (.ireturn, 1) := by decide +kernel
theorem dX13_rules_0 : decode cX13_rules 0 = .ok (.aload_n 0, 1) := by decide +kernel
theorem dX13_rules_1 : decode cX13_rules 1 = .ok (.iconst 0, 1) := by decide +kernel
theorem dX13_rules_2 : decode cX13_rules 2 = .ok (.putfield 173, 3) := by decide +kernel
theorem dX13_rules_5 : decode cX13_rules 5 = .ok (.aload_n 0, 1) := by decide +kernel
theorem dX13_rules_6 : decode cX13_rules 6 = .ok (.getfield 89, 3) := by decide +kernel
theorem dX13_rules_9 : decode cX13_rules 9 = .ok (.iconst 0, 1) := by decide +kernel
theorem dX13_rules_10 : decode cX13_rules 10 = .ok (.iaload, 1) := by decide +kernel
theorem dX13_rules_11 : decode cX13_rules 11 = .ok (.ireturn, 1) := by decide +kernel
theorem dX13_rulesHold_0 : decode cX13_rulesHold 0 = .ok (.iconst 1, 1) := by decide +kernel
theorem dX13_rulesHold_1 : decode cX13_rulesHold 1 = .ok (.istore_n 1, 1) := by decide +kernel
theorem dX13_rulesHold_2 : decode cX13_rulesHold 2 = .ok (.iconst 0, 1) := by decide +kernel
theorem dX13_rulesHold_3 : decode cX13_rulesHold 3 = .ok (.istore_n 2, 1) := by decide +kernel
theorem dX13_rulesHold_4 : decode cX13_rulesHold 4 = .ok (.iload_n 2, 1) := by decide +kernel
theorem dX13_rulesHold_5 : decode cX13_rulesHold 5 = .ok (.aload_n 0, 1) := by decide +kernel
theorem dX13_rulesHold_6 : decode cX13_rulesHold 6 = .ok (.getfield 89, 3) := by decide +kernel
theorem dX13_rulesHold_9 : decode cX13_rulesHold 9 = .ok (.aload_n 0, 1) := by decide +kernel
theorem dX13_rulesHold_10 : decode cX13_rulesHold 10 = .ok (.getfield 319, 3) := by decide +kernel
theorem dX13_rulesHold_13 : decode cX13_rulesHold 13 = .ok (.iaload, 1) := by decide +kernel
theorem dX13_rulesHold_14 : decode cX13_rulesHold 14 = .ok (.if_icmp .ge 32, 3) := by decide +kernel
theorem dX13_rulesHold_17 : decode cX13_rulesHold 17 = .ok (.iload_n 1, 1) := by decide +kernel
theorem dX13_rulesHold_18 : decode cX13_rulesHold 18 = .ok (.ifCond .eq 28, 3) := by decide +kernel
theorem dX13_rulesHold_21 : decode cX13_rulesHold 21 = .ok (.aload_n 0, 1) := by decide +kernel
theorem dX13_rulesHold_22 : decode cX13_rulesHold 22 = .ok (.aload_n 0, 1) := by decide +kernel
theorem dX13_rulesHold_23 : decode cX13_rulesHold 23 = .ok (.getfield 92, 3) := by decide +kernel
theorem dX13_rulesHold_26 : decode cX13_rulesHold 26 = .ok (.bipush 32, 2) := by decide +kernel
theorem dX13_rulesHold_28 : decode cX13_rulesHold 28 = .ok (.aload_n 0, 1) := by decide +kernel
theorem dX13_rulesHold_29 : decode cX13_rulesHold 29 = .ok (.getfield 319, 3) := by decide +kernel
theorem dX13_rulesHold_32 : decode cX13_rulesHold 32 = .ok (.imul, 1) := by decide +kernel
theorem dX13_rulesHold_33 : decode cX13_rulesHold 33 = .ok (.iload_n 2, 1) := by decide +kernel
theorem dX13_rulesHold_34 : decode cX13_rulesHold 34 = .ok (.iadd, 1) := by decide +kernel
theorem dX13_rulesHold_35 : decode cX13_rulesHold 35 = .ok (.iaload, 1) := by decide +kernel
theorem dX13_rulesHold_36 : decode cX13_rulesHold 36 = .ok (.invokevirtual 380, 3) := by decide +kernel
theorem dX13_rulesHold_39 : decode cX13_rulesHold 39 = .ok (.istore_n 1, 1) := by decide +kernel
theorem dX13_rulesHold_40 : decode cX13_rulesHold 40 = .ok (.iinc 2 1, 3) := by decide +kernel
theorem dX13_rulesHold_43 : decode cX13_rulesHold 43 = .ok (.goto (-39), 3) := by decide +kernel
theorem dX13_rulesHold_46 : decode cX13_rulesHold 46 = .ok (.iload_n 1, 1) := by decide +kernel
theorem dX13_rulesHold_47 : decode cX13_rulesHold 47 = .ok (.ireturn, 1) := by decide +kernel
theorem dX13_sees_0 : decode cX13_sees 0 = .ok (.aload_n 0, 1) := by decide +kernel
theorem dX13_sees_1 : decode cX13_sees 1 = .ok (.iconst 0, 1) := by decide +kernel
theorem dX13_sees_2 : decode cX13_sees 2 = .ok (.putfield 173, 3) := by decide +kernel
theorem dX13_sees_5 : decode cX13_sees 5 = .ok (.aload_n 0, 1) := by decide +kernel
theorem dX13_sees_6 : decode cX13_sees 6 = .ok (.iload_n 1, 1) := by decide +kernel
theorem dX13_sees_7 : decode cX13_sees 7 = .ok (.invokevirtual 431, 3) := by decide +kernel
theorem dX13_sees_10 : decode cX13_sees 10 = .ok (.ifCond .eq 13, 3) := by decide +kernel
theorem dX13_sees_13 : decode cX13_sees 13 = .ok (.iload_n 2, 1) := by decide +kernel
theorem dX13_sees_14 : decode cX13_sees 14 = .ok (.ifCond .lt 9, 3) := by decide +kernel
theorem dX13_sees_17 : decode cX13_sees 17 = .ok (.iload_n 2, 1) := by decide +kernel
theorem dX13_sees_18 : decode cX13_sees 18 = .ok (.bipush 25, 2) := by decide +kernel
theorem dX13_sees_20 : decode cX13_sees 20 = .ok (.if_icmp .le 5, 3) := by decide +kernel
theorem dX13_sees_23 : decode cX13_sees 23 = .ok (.lconst 0, 1) := by decide +kernel
theorem dX13_sees_24 : decode cX13_sees 24 = .ok (.lreturn, 1) := by decide +kernel
theorem dX13_sees_25 : decode cX13_sees 25 = .ok (.aload_n 0, 1) := by decide +kernel
theorem dX13_sees_26 : decode cX13_sees 26 = .ok (.getfield 98, 3) := by decide +kernel
theorem dX13_sees_29 : decode cX13_sees 29 = .ok (.iload_n 1, 1) := by decide +kernel
theorem dX13_sees_30 : decode cX13_sees 30 = .ok (.iaload, 1) := by decide +kernel
theorem dX13_sees_31 : decode cX13_sees 31 = .ok (.ifCond .eq 13, 3) := by decide +kernel
theorem dX13_sees_34 : decode cX13_sees 34 = .ok (.aload_n 0, 1) := by decide +kernel
theorem dX13_sees_35 : decode cX13_sees 35 = .ok (.getfield 101, 3) := by decide +kernel
theorem dX13_sees_38 : decode cX13_sees 38 = .ok (.iload_n 1, 1) := by decide +kernel
theorem dX13_sees_39 : decode cX13_sees 39 = .ok (.iaload, 1) := by decide +kernel
theorem dX13_sees_40 : decode cX13_sees 40 = .ok (.iconst 1, 1) := by decide +kernel
theorem dX13_sees_41 : decode cX13_sees 41 = .ok (.if_icmp .eq 20, 3) := by decide +kernel
theorem dX13_sees_44 : decode cX13_sees 44 = .ok (.iload_n 2, 1) := by decide +kernel
theorem dX13_sees_45 : decode cX13_sees 45 = .ok (.bipush 16, 2) := by decide +kernel
theorem dX13_sees_47 : decode cX13_sees 47 = .ok (.if_icmp .ge 12, 3) := by decide +kernel
theorem dX13_sees_50 : decode cX13_sees 50 = .ok (.aload_n 0, 1) := by decide +kernel
theorem dX13_sees_51 : decode cX13_sees 51 = .ok (.getfield 83, 3) := by decide +kernel
theorem dX13_sees_54 : decode cX13_sees 54 = .ok (.iload_n 2, 1) := by decide +kernel
theorem dX13_sees_55 : decode cX13_sees 55 = .ok (.laload, 1) := by decide +kernel
theorem dX13_sees_56 : decode cX13_sees 56 = .ok (.goto 4, 3) := by decide +kernel
theorem dX13_sees_59 : decode cX13_sees 59 = .ok (.lconst 0, 1) := by decide +kernel
theorem dX13_sees_60 : decode cX13_sees 60 = .ok (.lreturn, 1) := by decide +kernel
theorem dX13_sees_61 : decode cX13_sees 61 = .ok (.aload_n 0, 1) := by decide +kernel
theorem dX13_sees_62 : decode cX13_sees 62 = .ok (.iload_n 1, 1) := by decide +kernel
theorem dX13_sees_63 : decode cX13_sees 63 = .ok (.invokevirtual 405, 3) := by decide +kernel
theorem dX13_sees_66 : decode cX13_sees 66 = .ok (.iload_n 2, 1) := by decide +kernel
theorem dX13_sees_67 : decode cX13_sees 67 = .ok (.bipush 16, 2) := by decide +kernel
theorem dX13_sees_69 : decode cX13_sees 69 = .ok (.if_icmp .lt 13, 3) := by decide +kernel
theorem dX13_sees_72 : decode cX13_sees 72 = .ok (.aload_n 0, 1) := by decide +kernel
theorem dX13_sees_73 : decode cX13_sees 73 = .ok (.getfield 131, 3) := by decide +kernel
theorem dX13_sees_76 : decode cX13_sees 76 = .ok (.iload_n 2, 1) := by decide +kernel
theorem dX13_sees_77 : decode cX13_sees 77 = .ok (.bipush 16, 2) := by decide +kernel
theorem dX13_sees_79 : decode cX13_sees 79 = .ok (.isub, 1) := by decide +kernel
theorem dX13_sees_80 : decode cX13_sees 80 = .ok (.laload, 1) := by decide +kernel
theorem dX13_sees_81 : decode cX13_sees 81 = .ok (.lreturn, 1) := by decide +kernel
theorem dX13_sees_82 : decode cX13_sees 82 = .ok (.aload_n 0, 1) := by decide +kernel
theorem dX13_sees_83 : decode cX13_sees 83 = .ok (.getfield 322, 3) := by decide +kernel
theorem dX13_sees_86 : decode cX13_sees 86 = .ok (.iload_n 2, 1) := by decide +kernel
theorem dX13_sees_87 : decode cX13_sees 87 = .ok (.ishr, 1) := by decide +kernel
theorem dX13_sees_88 : decode cX13_sees 88 = .ok (.iconst 1, 1) := by decide +kernel
theorem dX13_sees_89 : decode cX13_sees 89 = .ok (.iand, 1) := by decide +kernel
theorem dX13_sees_90 : decode cX13_sees 90 = .ok (.iconst 1, 1) := by decide +kernel
theorem dX13_sees_91 : decode cX13_sees 91 = .ok (.if_icmp .ne 12, 3) := by decide +kernel
theorem dX13_sees_94 : decode cX13_sees 94 = .ok (.aload_n 0, 1) := by decide +kernel
theorem dX13_sees_95 : decode cX13_sees 95 = .ok (.getfield 128, 3) := by decide +kernel
theorem dX13_sees_98 : decode cX13_sees 98 = .ok (.iload_n 2, 1) := by decide +kernel
theorem dX13_sees_99 : decode cX13_sees 99 = .ok (.laload, 1) := by decide +kernel
theorem dX13_sees_100 : decode cX13_sees 100 = .ok (.goto 30, 3) := by decide +kernel
theorem dX13_sees_103 : decode cX13_sees 103 = .ok (.aload_n 0, 1) := by decide +kernel
theorem dX13_sees_104 : decode cX13_sees 104 = .ok (.getfield 316, 3) := by decide +kernel
theorem dX13_sees_107 : decode cX13_sees 107 = .ok (.iload_n 2, 1) := by decide +kernel
theorem dX13_sees_108 : decode cX13_sees 108 = .ok (.ishr, 1) := by decide +kernel
theorem dX13_sees_109 : decode cX13_sees 109 = .ok (.iconst 1, 1) := by decide +kernel
theorem dX13_sees_110 : decode cX13_sees 110 = .ok (.iand, 1) := by decide +kernel
theorem dX13_sees_111 : decode cX13_sees 111 = .ok (.iconst 1, 1) := by decide +kernel
theorem dX13_sees_112 : decode cX13_sees 112 = .ok (.if_icmp .ne 12, 3) := by decide +kernel
theorem dX13_sees_115 : decode cX13_sees 115 = .ok (.aload_n 0, 1) := by decide +kernel
theorem dX13_sees_116 : decode cX13_sees 116 = .ok (.getfield 122, 3) := by decide +kernel
theorem dX13_sees_119 : decode cX13_sees 119 = .ok (.iload_n 2, 1) := by decide +kernel
theorem dX13_sees_120 : decode cX13_sees 120 = .ok (.laload, 1) := by decide +kernel
theorem dX13_sees_121 : decode cX13_sees 121 = .ok (.goto 9, 3) := by decide +kernel
theorem dX13_sees_124 : decode cX13_sees 124 = .ok (.aload_n 0, 1) := by decide +kernel
theorem dX13_sees_125 : decode cX13_sees 125 = .ok (.getfield 83, 3) := by decide +kernel
theorem dX13_sees_128 : decode cX13_sees 128 = .ok (.iload_n 2, 1) := by decide +kernel
theorem dX13_sees_129 : decode cX13_sees 129 = .ok (.laload, 1) := by decide +kernel
theorem dX13_sees_130 : decode cX13_sees 130 = .ok (.lreturn, 1) := by decide +kernel
