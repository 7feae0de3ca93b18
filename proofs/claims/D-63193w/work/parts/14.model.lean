set_option maxRecDepth 100000
abbrev cX9_design : ByteArray := prog_11_method_43_code
def yX9_design : MethodName := ⟨RX9, "design", "(III)V"⟩
theorem dX9_design_0 : decode cX9_design 0 = .ok (.iconst 0, 1) := by decide +kernel
theorem dX9_design_1 : decode cX9_design 1 = .ok (.istore 4, 2) := by decide +kernel
theorem dX9_design_3 : decode cX9_design 3 = .ok (.iload 4, 2) := by decide +kernel
theorem dX9_design_5 : decode cX9_design 5 = .ok (.sipush 2048, 3) := by decide +kernel
theorem dX9_design_8 : decode cX9_design 8 = .ok (.iload_n 2, 1) := by decide +kernel
theorem dX9_design_9 : decode cX9_design 9 = .ok (.bipush 16, 2) := by decide +kernel
theorem dX9_design_11 : decode cX9_design 11 = .ok (.isub, 1) := by decide +kernel
theorem dX9_design_12 : decode cX9_design 12 = .ok (.imul, 1) := by decide +kernel
theorem dX9_design_13 : decode cX9_design 13 = .ok (.if_icmp .ge 17, 3) := by decide +kernel
theorem dX9_design_16 : decode cX9_design 16 = .ok (.aload_n 0, 1) := by decide +kernel
theorem dX9_design_17 : decode cX9_design 17 = .ok (.getfield 54, 3) := by decide +kernel
theorem dX9_design_20 : decode cX9_design 20 = .ok (.iload 4, 2) := by decide +kernel
theorem dX9_design_22 : decode cX9_design 22 = .ok (.iconst 0, 1) := by decide +kernel
theorem dX9_design_23 : decode cX9_design 23 = .ok (.bastore, 1) := by decide +kernel
theorem dX9_design_24 : decode cX9_design 24 = .ok (.iinc 4 1, 3) := by decide +kernel
theorem dX9_design_27 : decode cX9_design 27 = .ok (.goto (-24), 3) := by decide +kernel
theorem dX9_design_30 : decode cX9_design 30 = .ok (.aload_n 0, 1) := by decide +kernel
theorem dX9_design_31 : decode cX9_design 31 = .ok (.getfield 54, 3) := by decide +kernel
theorem dX9_design_34 : decode cX9_design 34 = .ok (.iconst 0, 1) := by decide +kernel
theorem dX9_design_35 : decode cX9_design 35 = .ok (.iconst 1, 1) := by decide +kernel
theorem dX9_design_36 : decode cX9_design 36 = .ok (.bastore, 1) := by decide +kernel
theorem dX9_design_37 : decode cX9_design 37 = .ok (.aload_n 0, 1) := by decide +kernel
theorem dX9_design_38 : decode cX9_design 38 = .ok (.iconst 1, 1) := by decide +kernel
theorem dX9_design_39 : decode cX9_design 39 = .ok (.bipush 67, 2) := by decide +kernel
theorem dX9_design_41 : decode cX9_design 41 = .ok (.bipush 68, 2) := by decide +kernel
theorem dX9_design_43 : decode cX9_design 43 = .ok (.bipush 48, 2) := by decide +kernel
theorem dX9_design_45 : decode cX9_design 45 = .ok (.bipush 48, 2) := by decide +kernel
theorem dX9_design_47 : decode cX9_design 47 = .ok (.bipush 49, 2) := by decide +kernel
theorem dX9_design_49 : decode cX9_design 49 = .ok (.invokevirtual 218, 3) := by decide +kernel
theorem dX9_design_52 : decode cX9_design 52 = .ok (.aload_n 0, 1) := by decide +kernel
theorem dX9_design_53 : decode cX9_design 53 = .ok (.getfield 54, 3) := by decide +kernel
theorem dX9_design_56 : decode cX9_design 56 = .ok (.bipush 6, 2) := by decide +kernel
theorem dX9_design_58 : decode cX9_design 58 = .ok (.iconst 1, 1) := by decide +kernel
theorem dX9_design_59 : decode cX9_design 59 = .ok (.bastore, 1) := by decide +kernel
theorem dX9_design_60 : decode cX9_design 60 = .ok (.aload_n 0, 1) := by decide +kernel
theorem dX9_design_61 : decode cX9_design 61 = .ok (.bipush 80, 2) := by decide +kernel
theorem dX9_design_63 : decode cX9_design 63 = .ok (.iconst 4, 1) := by decide +kernel
theorem dX9_design_64 : decode cX9_design 64 = .ok (.aload_n 0, 1) := by decide +kernel
theorem dX9_design_65 : decode cX9_design 65 = .ok (.getfield 99, 3) := by decide +kernel
theorem dX9_design_68 : decode cX9_design 68 = .ok (.invokevirtual 199, 3) := by decide +kernel
theorem dX9_design_71 : decode cX9_design 71 = .ok (.aload_n 0, 1) := by decide +kernel
theorem dX9_design_72 : decode cX9_design 72 = .ok (.sipush 128, 3) := by decide +kernel
theorem dX9_design_75 : decode cX9_design 75 = .ok (.iconst 2, 1) := by decide +kernel
theorem dX9_design_76 : decode cX9_design 76 = .ok (.sipush 2048, 3) := by decide +kernel
theorem dX9_design_79 : decode cX9_design 79 = .ok (.invokevirtual 199, 3) := by decide +kernel
theorem dX9_design_82 : decode cX9_design 82 = .ok (.aload_n 0, 1) := by decide +kernel
theorem dX9_design_83 : decode cX9_design 83 = .ok (.sipush 140, 3) := by decide +kernel
theorem dX9_design_86 : decode cX9_design 86 = .ok (.iconst 4, 1) := by decide +kernel
theorem dX9_design_87 : decode cX9_design 87 = .ok (.iload_n 1, 1) := by decide +kernel
theorem dX9_design_88 : decode cX9_design 88 = .ok (.bipush 18, 2) := by decide +kernel
theorem dX9_design_90 : decode cX9_design 90 = .ok (.iadd, 1) := by decide +kernel
theorem dX9_design_91 : decode cX9_design 91 = .ok (.invokevirtual 181, 3) := by decide +kernel
theorem dX9_design_94 : decode cX9_design 94 = .ok (.aload_n 0, 1) := by decide +kernel
theorem dX9_design_95 : decode cX9_design 95 = .ok (.sipush 148, 3) := by decide +kernel
theorem dX9_design_98 : decode cX9_design 98 = .ok (.iconst 4, 1) := by decide +kernel
theorem dX9_design_99 : decode cX9_design 99 = .ok (.iload_n 1, 1) := by decide +kernel
theorem dX9_design_100 : decode cX9_design 100 = .ok (.bipush 19, 2) := by decide +kernel
theorem dX9_design_102 : decode cX9_design 102 = .ok (.iadd, 1) := by decide +kernel
theorem dX9_design_103 : decode cX9_design 103 = .ok (.invokevirtual 185, 3) := by decide +kernel
theorem dX9_design_106 : decode cX9_design 106 = .ok (.aload_n 0, 1) := by decide +kernel
theorem dX9_design_107 : decode cX9_design 107 = .ok (.sipush 156, 3) := by decide +kernel
theorem dX9_design_110 : decode cX9_design 110 = .ok (.iconst 0, 1) := by decide +kernel
theorem dX9_design_111 : decode cX9_design 111 = .ok (.iconst 0, 1) := by decide +kernel
theorem dX9_design_112 : decode cX9_design 112 = .ok (.invokevirtual 205, 3) := by decide +kernel
theorem dX9_design_115 : decode cX9_design 115 = .ok (.aload_n 0, 1) := by decide +kernel
theorem dX9_design_116 : decode cX9_design 116 = .ok (.getfield 54, 3) := by decide +kernel
theorem dX9_design_119 : decode cX9_design 119 = .ok (.sipush 2048, 3) := by decide +kernel
theorem dX9_design_122 : decode cX9_design 122 = .ok (.iconst (-1), 1) := by decide +kernel
theorem dX9_design_123 : decode cX9_design 123 = .ok (.bastore, 1) := by decide +kernel
theorem dX9_design_124 : decode cX9_design 124 = .ok (.aload_n 0, 1) := by decide +kernel
theorem dX9_design_125 : decode cX9_design 125 = .ok (.sipush 2049, 3) := by decide +kernel
theorem dX9_design_128 : decode cX9_design 128 = .ok (.bipush 67, 2) := by decide +kernel
theorem dX9_design_130 : decode cX9_design 130 = .ok (.bipush 68, 2) := by decide +kernel
theorem dX9_design_132 : decode cX9_design 132 = .ok (.bipush 48, 2) := by decide +kernel
theorem dX9_design_134 : decode cX9_design 134 = .ok (.bipush 48, 2) := by decide +kernel
theorem dX9_design_136 : decode cX9_design 136 = .ok (.bipush 49, 2) := by decide +kernel
theorem dX9_design_138 : decode cX9_design 138 = .ok (.invokevirtual 218, 3) := by decide +kernel
theorem dX9_design_141 : decode cX9_design 141 = .ok (.aload_n 0, 1) := by decide +kernel
theorem dX9_design_142 : decode cX9_design 142 = .ok (.getfield 54, 3) := by decide +kernel
theorem dX9_design_145 : decode cX9_design 145 = .ok (.sipush 2054, 3) := by decide +kernel
theorem dX9_design_148 : decode cX9_design 148 = .ok (.iconst 1, 1) := by decide +kernel
theorem dX9_design_149 : decode cX9_design 149 = .ok (.bastore, 1) := by decide +kernel
theorem dX9_design_150 : decode cX9_design 150 = .ok (.sipush 4096, 3) := by decide +kernel
theorem dX9_design_153 : decode cX9_design 153 = .ok (.istore 4, 2) := by decide +kernel
theorem dX9_design_155 : decode cX9_design 155 = .ok (.iconst 0, 1) := by decide +kernel
theorem dX9_design_156 : decode cX9_design 156 = .ok (.istore 5, 2) := by decide +kernel
theorem dX9_design_158 : decode cX9_design 158 = .ok (.iload 5, 2) := by decide +kernel
theorem dX9_design_160 : decode cX9_design 160 = .ok (.aload_n 0, 1) := by decide +kernel
theorem dX9_design_161 : decode cX9_design 161 = .ok (.getfield 208, 3) := by decide +kernel
theorem dX9_design_164 : decode cX9_design 164 = .ok (.if_icmp .ge 252, 3) := by decide +kernel
theorem dX9_design_167 : decode cX9_design 167 = .ok (.aload_n 0, 1) := by decide +kernel
theorem dX9_design_168 : decode cX9_design 168 = .ok (.getfield 57, 3) := by decide +kernel
theorem dX9_design_171 : decode cX9_design 171 = .ok (.iload 5, 2) := by decide +kernel
theorem dX9_design_173 : decode cX9_design 173 = .ok (.iaload, 1) := by decide +kernel
theorem dX9_design_174 : decode cX9_design 174 = .ok (.istore 6, 2) := by decide +kernel
theorem dX9_design_176 : decode cX9_design 176 = .ok (.aload_n 0, 1) := by decide +kernel
theorem dX9_design_177 : decode cX9_design 177 = .ok (.iload 6, 2) := by decide +kernel
theorem dX9_design_179 : decode cX9_design 179 = .ok (.ifCond .ne 7, 3) := by decide +kernel
theorem dX9_design_182 : decode cX9_design 182 = .ok (.iconst 0, 1) := by decide +kernel
theorem dX9_design_183 : decode cX9_design 183 = .ok (.goto 4, 3) := by decide +kernel
theorem dX9_design_186 : decode cX9_design 186 = .ok (.iconst 2, 1) := by decide +kernel
theorem dX9_design_187 : decode cX9_design 187 = .ok (.iload 6, 2) := by decide +kernel
theorem dX9_design_189 : decode cX9_design 189 = .ok (.invokevirtual 192, 3) := by decide +kernel
theorem dX9_design_192 : decode cX9_design 192 = .ok (.istore 7, 2) := by decide +kernel
theorem dX9_design_194 : decode cX9_design 194 = .ok (.iload 6, 2) := by decide +kernel
theorem dX9_design_196 : decode cX9_design 196 = .ok (.ifCond .ne 7, 3) := by decide +kernel
theorem dX9_design_199 : decode cX9_design 199 = .ok (.iconst 1, 1) := by decide +kernel
theorem dX9_design_200 : decode cX9_design 200 = .ok (.goto 14, 3) := by decide +kernel
theorem dX9_design_203 : decode cX9_design 203 = .ok (.aload_n 0, 1) := by decide +kernel
theorem dX9_design_204 : decode cX9_design 204 = .ok (.aload_n 0, 1) := by decide +kernel
theorem dX9_design_205 : decode cX9_design 205 = .ok (.getfield 30, 3) := by decide +kernel
theorem dX9_design_208 : decode cX9_design 208 = .ok (.iload 6, 2) := by decide +kernel
theorem dX9_design_210 : decode cX9_design 210 = .ok (.iaload, 1) := by decide +kernel
theorem dX9_design_211 : decode cX9_design 211 = .ok (.invokevirtual 222, 3) := by decide +kernel
theorem dX9_design_214 : decode cX9_design 214 = .ok (.istore 8, 2) := by decide +kernel
theorem dX9_design_216 : decode cX9_design 216 = .ok (.aload_n 0, 1) := by decide +kernel
theorem dX9_design_217 : decode cX9_design 217 = .ok (.getfield 54, 3) := by decide +kernel
theorem dX9_design_220 : decode cX9_design 220 = .ok (.iload 4, 2) := by decide +kernel
theorem dX9_design_222 : decode cX9_design 222 = .ok (.iload 7, 2) := by decide +kernel
theorem dX9_design_224 : decode cX9_design 224 = .ok (.i2b, 1) := by decide +kernel
theorem dX9_design_225 : decode cX9_design 225 = .ok (.bastore, 1) := by decide +kernel
theorem dX9_design_226 : decode cX9_design 226 = .ok (.aload_n 0, 1) := by decide +kernel
theorem dX9_design_227 : decode cX9_design 227 = .ok (.getfield 54, 3) := by decide +kernel
theorem dX9_design_230 : decode cX9_design 230 = .ok (.iload 4, 2) := by decide +kernel
theorem dX9_design_232 : decode cX9_design 232 = .ok (.sipush 2048, 3) := by decide +kernel
theorem dX9_design_235 : decode cX9_design 235 = .ok (.iadd, 1) := by decide +kernel
theorem dX9_design_236 : decode cX9_design 236 = .ok (.iload 7, 2) := by decide +kernel
theorem dX9_design_238 : decode cX9_design 238 = .ok (.i2b, 1) := by decide +kernel
theorem dX9_design_239 : decode cX9_design 239 = .ok (.bastore, 1) := by decide +kernel
theorem dX9_design_240 : decode cX9_design 240 = .ok (.aload_n 0, 1) := by decide +kernel
theorem dX9_design_241 : decode cX9_design 241 = .ok (.iload 4, 2) := by decide +kernel
theorem dX9_design_243 : decode cX9_design 243 = .ok (.iconst 2, 1) := by decide +kernel
theorem dX9_design_244 : decode cX9_design 244 = .ok (.iadd, 1) := by decide +kernel
theorem dX9_design_245 : decode cX9_design 245 = .ok (.iconst 4, 1) := by decide +kernel
theorem dX9_design_246 : decode cX9_design 246 = .ok (.aload_n 0, 1) := by decide +kernel
theorem dX9_design_247 : decode cX9_design 247 = .ok (.getfield 60, 3) := by decide +kernel
theorem dX9_design_250 : decode cX9_design 250 = .ok (.iload 6, 2) := by decide +kernel
theorem dX9_design_252 : decode cX9_design 252 = .ok (.iaload, 1) := by decide +kernel
theorem dX9_design_253 : decode cX9_design 253 = .ok (.invokevirtual 181, 3) := by decide +kernel
theorem dX9_design_256 : decode cX9_design 256 = .ok (.aload_n 0, 1) := by decide +kernel
theorem dX9_design_257 : decode cX9_design 257 = .ok (.iload 4, 2) := by decide +kernel
theorem dX9_design_259 : decode cX9_design 259 = .ok (.sipush 2050, 3) := by decide +kernel
theorem dX9_design_262 : decode cX9_design 262 = .ok (.iadd, 1) := by decide +kernel
theorem dX9_design_263 : decode cX9_design 263 = .ok (.iconst 4, 1) := by decide +kernel
theorem dX9_design_264 : decode cX9_design 264 = .ok (.aload_n 0, 1) := by decide +kernel
theorem dX9_design_265 : decode cX9_design 265 = .ok (.getfield 60, 3) := by decide +kernel
theorem dX9_design_268 : decode cX9_design 268 = .ok (.iload 6, 2) := by decide +kernel
theorem dX9_design_270 : decode cX9_design 270 = .ok (.iaload, 1) := by decide +kernel
theorem dX9_design_271 : decode cX9_design 271 = .ok (.invokevirtual 185, 3) := by decide +kernel
theorem dX9_design_274 : decode cX9_design 274 = .ok (.aload_n 0, 1) := by decide +kernel
theorem dX9_design_275 : decode cX9_design 275 = .ok (.iload 4, 2) := by decide +kernel
theorem dX9_design_277 : decode cX9_design 277 = .ok (.bipush 6, 2) := by decide +kernel
theorem dX9_design_279 : decode cX9_design 279 = .ok (.iadd, 1) := by decide +kernel
theorem dX9_design_280 : decode cX9_design 280 = .ok (.iconst 2, 1) := by decide +kernel
theorem dX9_design_281 : decode cX9_design 281 = .ok (.iload 8, 2) := by decide +kernel
theorem dX9_design_283 : decode cX9_design 283 = .ok (.invokevirtual 181, 3) := by decide +kernel
theorem dX9_design_286 : decode cX9_design 286 = .ok (.aload_n 0, 1) := by decide +kernel
theorem dX9_design_287 : decode cX9_design 287 = .ok (.iload 4, 2) := by decide +kernel
theorem dX9_design_289 : decode cX9_design 289 = .ok (.sipush 2054, 3) := by decide +kernel
theorem dX9_design_292 : decode cX9_design 292 = .ok (.iadd, 1) := by decide +kernel
theorem dX9_design_293 : decode cX9_design 293 = .ok (.iconst 2, 1) := by decide +kernel
theorem dX9_design_294 : decode cX9_design 294 = .ok (.iload 8, 2) := by decide +kernel
theorem dX9_design_296 : decode cX9_design 296 = .ok (.invokevirtual 185, 3) := by decide +kernel
theorem dX9_design_299 : decode cX9_design 299 = .ok (.iconst 0, 1) := by decide +kernel
theorem dX9_design_300 : decode cX9_design 300 = .ok (.istore 9, 2) := by decide +kernel
theorem dX9_design_302 : decode cX9_design 302 = .ok (.iload 9, 2) := by decide +kernel
theorem dX9_design_304 : decode cX9_design 304 = .ok (.iload 7, 2) := by decide +kernel
theorem dX9_design_306 : decode cX9_design 306 = .ok (.if_icmp .ge 67, 3) := by decide +kernel
theorem dX9_design_309 : decode cX9_design 309 = .ok (.iload 6, 2) := by decide +kernel
theorem dX9_design_311 : decode cX9_design 311 = .ok (.ifCond .le 62, 3) := by decide +kernel
theorem dX9_design_314 : decode cX9_design 314 = .ok (.aload_n 0, 1) := by decide +kernel
theorem dX9_design_315 : decode cX9_design 315 = .ok (.getfield 54, 3) := by decide +kernel
theorem dX9_design_318 : decode cX9_design 318 = .ok (.iload 4, 2) := by decide +kernel
theorem dX9_design_320 : decode cX9_design 320 = .ok (.bipush 8, 2) := by decide +kernel
theorem dX9_design_322 : decode cX9_design 322 = .ok (.iadd, 1) := by decide +kernel
theorem dX9_design_323 : decode cX9_design 323 = .ok (.iload 9, 2) := by decide +kernel
theorem dX9_design_325 : decode cX9_design 325 = .ok (.iadd, 1) := by decide +kernel
theorem dX9_design_326 : decode cX9_design 326 = .ok (.aload_n 0, 1) := by decide +kernel
theorem dX9_design_327 : decode cX9_design 327 = .ok (.getfield 34, 3) := by decide +kernel
theorem dX9_design_330 : decode cX9_design 330 = .ok (.iload 6, 2) := by decide +kernel
theorem dX9_design_332 : decode cX9_design 332 = .ok (.laload, 1) := by decide +kernel
theorem dX9_design_333 : decode cX9_design 333 = .ok (.iload 9, 2) := by decide +kernel
theorem dX9_design_335 : decode cX9_design 335 = .ok (.invokestatic 169, 3) := by decide +kernel
theorem dX9_design_338 : decode cX9_design 338 = .ok (.i2b, 1) := by decide +kernel
theorem dX9_design_339 : decode cX9_design 339 = .ok (.bastore, 1) := by decide +kernel
theorem dX9_design_340 : decode cX9_design 340 = .ok (.aload_n 0, 1) := by decide +kernel
theorem dX9_design_341 : decode cX9_design 341 = .ok (.getfield 54, 3) := by decide +kernel
theorem dX9_design_344 : decode cX9_design 344 = .ok (.iload 4, 2) := by decide +kernel
theorem dX9_design_346 : decode cX9_design 346 = .ok (.sipush 2056, 3) := by decide +kernel
theorem dX9_design_349 : decode cX9_design 349 = .ok (.iadd, 1) := by decide +kernel
theorem dX9_design_350 : decode cX9_design 350 = .ok (.iload 9, 2) := by decide +kernel
theorem dX9_design_352 : decode cX9_design 352 = .ok (.iadd, 1) := by decide +kernel
theorem dX9_design_353 : decode cX9_design 353 = .ok (.aload_n 0, 1) := by decide +kernel
theorem dX9_design_354 : decode cX9_design 354 = .ok (.getfield 34, 3) := by decide +kernel
theorem dX9_design_357 : decode cX9_design 357 = .ok (.iload 6, 2) := by decide +kernel
theorem dX9_design_359 : decode cX9_design 359 = .ok (.laload, 1) := by decide +kernel
theorem dX9_design_360 : decode cX9_design 360 = .ok (.iload 9, 2) := by decide +kernel
theorem dX9_design_362 : decode cX9_design 362 = .ok (.invokestatic 169, 3) := by decide +kernel
theorem dX9_design_365 : decode cX9_design 365 = .ok (.i2b, 1) := by decide +kernel
theorem dX9_design_366 : decode cX9_design 366 = .ok (.bastore, 1) := by decide +kernel
theorem dX9_design_367 : decode cX9_design 367 = .ok (.iinc 9 1, 3) := by decide +kernel
theorem dX9_design_370 : decode cX9_design 370 = .ok (.goto (-68), 3) := by decide +kernel
theorem dX9_design_373 : decode cX9_design 373 = .ok (.iload 4, 2) := by decide +kernel
theorem dX9_design_375 : decode cX9_design 375 = .ok (.bipush 8, 2) := by decide +kernel
theorem dX9_design_377 : decode cX9_design 377 = .ok (.iload 7, 2) := by decide +kernel
theorem dX9_design_379 : decode cX9_design 379 = .ok (.invokestatic 196, 3) := by decide +kernel
theorem dX9_design_382 : decode cX9_design 382 = .ok (.iadd, 1) := by decide +kernel
theorem dX9_design_383 : decode cX9_design 383 = .ok (.iadd, 1) := by decide +kernel
theorem dX9_design_384 : decode cX9_design 384 = .ok (.istore 4, 2) := by decide +kernel
theorem dX9_design_386 : decode cX9_design 386 = .ok (.aload_n 0, 1) := by decide +kernel
theorem dX9_design_387 : decode cX9_design 387 = .ok (.iload 6, 2) := by decide +kernel
theorem dX9_design_389 : decode cX9_design 389 = .ok (.sipush 2048, 3) := by decide +kernel
theorem dX9_design_392 : decode cX9_design 392 = .ok (.aload_n 0, 1) := by decide +kernel
theorem dX9_design_393 : decode cX9_design 393 = .ok (.getfield 60, 3) := by decide +kernel
theorem dX9_design_396 : decode cX9_design 396 = .ok (.iload 6, 2) := by decide +kernel
theorem dX9_design_398 : decode cX9_design 398 = .ok (.iaload, 1) := by decide +kernel
theorem dX9_design_399 : decode cX9_design 399 = .ok (.iload_n 1, 1) := by decide +kernel
theorem dX9_design_400 : decode cX9_design 400 = .ok (.isub, 1) := by decide +kernel
theorem dX9_design_401 : decode cX9_design 401 = .ok (.bipush 16, 2) := by decide +kernel
theorem dX9_design_403 : decode cX9_design 403 = .ok (.isub, 1) := by decide +kernel
theorem dX9_design_404 : decode cX9_design 404 = .ok (.imul, 1) := by decide +kernel
theorem dX9_design_405 : decode cX9_design 405 = .ok (.iconst 1, 1) := by decide +kernel
theorem dX9_design_406 : decode cX9_design 406 = .ok (.invokevirtual 214, 3) := by decide +kernel
theorem dX9_design_409 : decode cX9_design 409 = .ok (.pop, 1) := by decide +kernel
theorem dX9_design_410 : decode cX9_design 410 = .ok (.iinc 5 1, 3) := by decide +kernel
theorem dX9_design_413 : decode cX9_design 413 = .ok (.goto (-255), 3) := by decide +kernel
theorem dX9_design_416 : decode cX9_design 416 = .ok (.aload_n 0, 1) := by decide +kernel
theorem dX9_design_417 : decode cX9_design 417 = .ok (.sipush 132, 3) := by decide +kernel
theorem dX9_design_420 : decode cX9_design 420 = .ok (.iconst 4, 1) := by decide +kernel
theorem dX9_design_421 : decode cX9_design 421 = .ok (.iload 4, 2) := by decide +kernel
theorem dX9_design_423 : decode cX9_design 423 = .ok (.sipush 4096, 3) := by decide +kernel
theorem dX9_design_426 : decode cX9_design 426 = .ok (.isub, 1) := by decide +kernel
theorem dX9_design_427 : decode cX9_design 427 = .ok (.invokevirtual 199, 3) := by decide +kernel
theorem dX9_design_430 : decode cX9_design 430 = .ok (.sipush 2048, 3) := by decide +kernel
theorem dX9_design_433 : decode cX9_design 433 = .ok (.iload_n 2, 1) := by decide +kernel
theorem dX9_design_434 : decode cX9_design 434 = .ok (.bipush 17, 2) := by decide +kernel
theorem dX9_design_436 : decode cX9_design 436 = .ok (.isub, 1) := by decide +kernel
theorem dX9_design_437 : decode cX9_design 437 = .ok (.imul, 1) := by decide +kernel
theorem dX9_design_438 : decode cX9_design 438 = .ok (.istore 5, 2) := by decide +kernel
theorem dX9_design_440 : decode cX9_design 440 = .ok (.aload_n 0, 1) := by decide +kernel
theorem dX9_design_441 : decode cX9_design 441 = .ok (.iload 5, 2) := by decide +kernel
theorem dX9_design_443 : decode cX9_design 443 = .ok (.bipush 77, 2) := by decide +kernel
theorem dX9_design_445 : decode cX9_design 445 = .ok (.bipush 65, 2) := by decide +kernel
theorem dX9_design_447 : decode cX9_design 447 = .ok (.bipush 82, 2) := by decide +kernel
theorem dX9_design_449 : decode cX9_design 449 = .ok (.bipush 75, 2) := by decide +kernel
theorem dX9_design_451 : decode cX9_design 451 = .ok (.iconst 0, 1) := by decide +kernel
theorem dX9_design_452 : decode cX9_design 452 = .ok (.invokevirtual 218, 3) := by decide +kernel
theorem dX9_design_455 : decode cX9_design 455 = .ok (.aload_n 0, 1) := by decide +kernel
theorem dX9_design_456 : decode cX9_design 456 = .ok (.iload 5, 2) := by decide +kernel
theorem dX9_design_458 : decode cX9_design 458 = .ok (.iconst 4, 1) := by decide +kernel
theorem dX9_design_459 : decode cX9_design 459 = .ok (.iadd, 1) := by decide +kernel
theorem dX9_design_460 : decode cX9_design 460 = .ok (.iconst 4, 1) := by decide +kernel
theorem dX9_design_461 : decode cX9_design 461 = .ok (.iload_n 1, 1) := by decide +kernel
theorem dX9_design_462 : decode cX9_design 462 = .ok (.invokevirtual 181, 3) := by decide +kernel
theorem dX9_design_465 : decode cX9_design 465 = .ok (.aload_n 0, 1) := by decide +kernel
theorem dX9_design_466 : decode cX9_design 466 = .ok (.iload 5, 2) := by decide +kernel
theorem dX9_design_468 : decode cX9_design 468 = .ok (.bipush 8, 2) := by decide +kernel
theorem dX9_design_470 : decode cX9_design 470 = .ok (.iadd, 1) := by decide +kernel
theorem dX9_design_471 : decode cX9_design 471 = .ok (.iconst 4, 1) := by decide +kernel
theorem dX9_design_472 : decode cX9_design 472 = .ok (.iload_n 3, 1) := by decide +kernel
theorem dX9_design_473 : decode cX9_design 473 = .ok (.invokevirtual 181, 3) := by decide +kernel
theorem dX9_design_476 : decode cX9_design 476 = .ok (.return_, 1) := by decide +kernel
/-- WriteOnceDiscModel.design(III)V -/
def wX9_design_L373 (post : Hp → Prop) (rc158 : Int32 → Int32 → Hp → Prop) (x0 : Nat) (x1 : Int32) (x2 : Int32) (x3 : Int32) (x4 : Int32) (x5 : Int32) (x6 : Int32) (x7 : Int32) (σ : Hp) : Prop :=
(wX9_even x7 σ (fun r1 => (∀ y2 : Int32, y2 = (x4 + ((8 : Int32) + r1)) → (tg_ σ x0 = 9 ∧ (tg_ σ (fR_ σ 8 25 x0) = 102 ∧ (vp_in x6 (ln_ σ (fR_ σ 8 25 x0)) ∧ (wX9_along x0 x6 ((2048 : Int32) * (((aI_ σ (fR_ σ 8 25 x0) (x6).toNatClampNeg) - x1) - (16 : Int32))) (1 : Int32) σ (fun r6 σ7 => (∀ y8 : Int32, y8 = x5 + 1 → rc158 y2 y8 σ7)))))))))
def wX9_design_B302 (post : Hp → Prop) (rc158 : Int32 → Int32 → Hp → Prop) (rc302 : Int32 → Hp → Prop) (x0 : Nat) (x1 : Int32) (x2 : Int32) (x3 : Int32) (x4 : Int32) (x5 : Int32) (x6 : Int32) (x7 : Int32) (x9 : Int32) (σ : Hp) : Prop :=
((x7 ≤ x9 →
  wX9_design_L373 post rc158 x0 x1 x2 x3 x4 x5 x6 x7 σ) ∧
 (¬ x7 ≤ x9 →
  ((x6 ≤ 0 →
   wX9_design_L373 post rc158 x0 x1 x2 x3 x4 x5 x6 x7 σ) ∧
  (¬ x6 ≤ 0 →
   (tg_ σ x0 = 9 ∧ (tg_ σ (fR_ σ 8 14 x0) = 103 ∧ (vp_in x6 (ln_ σ (fR_ σ 8 14 x0)) ∧ (wX9_letter (aL_ σ (fR_ σ 8 14 x0) (x6).toNatClampNeg) x9 σ (fun r14 => (tg_ σ (fR_ σ 8 21 x0) = 100 ∧ (lo_ σ < (fR_ σ 8 21 x0) ∧ (vp_in ((x4 + (8 : Int32)) + x9) (ln_ σ (fR_ σ 8 21 x0)) ∧ (∀ σ18, σ18 = wI_ σ (fR_ σ 8 21 x0) (((x4 + (8 : Int32)) + x9)).toNatClampNeg (vp_nar .byte (r14).toInt8.toInt32) → (tg_ σ18 (fR_ σ18 8 14 x0) = 103 ∧ (vp_in x6 (ln_ σ18 (fR_ σ18 8 14 x0)) ∧ (wX9_letter (aL_ σ18 (fR_ σ18 8 14 x0) (x6).toNatClampNeg) x9 σ18 (fun r21 => (tg_ σ18 (fR_ σ18 8 21 x0) = 100 ∧ (lo_ σ18 < (fR_ σ18 8 21 x0) ∧ (vp_in ((x4 + (2056 : Int32)) + x9) (ln_ σ18 (fR_ σ18 8 21 x0)) ∧ (∀ σ25, σ25 = wI_ σ18 (fR_ σ18 8 21 x0) (((x4 + (2056 : Int32)) + x9)).toNatClampNeg (vp_nar .byte (r21).toInt8.toInt32) → (∀ y26 : Int32, y26 = x9 + 1 → rc302 y26 σ25))))))))))))))))))))))
def wX9_design_L302 (post : Hp → Prop) (rc158 : Int32 → Int32 → Hp → Prop) (x0 : Nat) (x1 : Int32) (x2 : Int32) (x3 : Int32) (x4 : Int32) (x5 : Int32) (x6 : Int32) (x7 : Int32) (x9 : Int32) (σ : Hp) : Prop :=
 ∃ (I : Int32 → Hp → Prop) (μ : Int32 → Hp → Nat), I x9 σ ∧ ∀ (x9 : Int32) (σ : Hp), I x9 σ → wX9_design_B302 post rc158 (fun x9' σ' => I x9' σ' ∧ μ x9' σ' < μ x9 σ) x0 x1 x2 x3 x4 x5 x6 x7 x9 σ
def wX9_design_L214 (post : Hp → Prop) (rc158 : Int32 → Int32 → Hp → Prop) (x0 : Nat) (x1 : Int32) (x2 : Int32) (x3 : Int32) (x4 : Int32) (x5 : Int32) (x6 : Int32) (x7 : Int32) (s0 : Int32) (σ : Hp) : Prop :=
(tg_ σ x0 = 9 ∧ (tg_ σ (fR_ σ 8 21 x0) = 100 ∧ (lo_ σ < (fR_ σ 8 21 x0) ∧ (vp_in x4 (ln_ σ (fR_ σ 8 21 x0)) ∧ (∀ σ31, σ31 = wI_ σ (fR_ σ 8 21 x0) (x4).toNatClampNeg (vp_nar .byte (x7).toInt8.toInt32) → (tg_ σ31 (fR_ σ31 8 21 x0) = 100 ∧ (lo_ σ31 < (fR_ σ31 8 21 x0) ∧ (vp_in (x4 + (2048 : Int32)) (ln_ σ31 (fR_ σ31 8 21 x0)) ∧ (∀ σ35, σ35 = wI_ σ31 (fR_ σ31 8 21 x0) ((x4 + (2048 : Int32))).toNatClampNeg (vp_nar .byte (x7).toInt8.toInt32) → (tg_ σ35 (fR_ σ35 8 25 x0) = 102 ∧ (vp_in x6 (ln_ σ35 (fR_ σ35 8 25 x0)) ∧ (wX9_low x0 (x4 + (2 : Int32)) (4 : Int32) (aI_ σ35 (fR_ σ35 8 25 x0) (x6).toNatClampNeg) σ35 (fun σ38 => (tg_ σ38 x0 = 9 ∧ (tg_ σ38 (fR_ σ38 8 25 x0) = 102 ∧ (vp_in x6 (ln_ σ38 (fR_ σ38 8 25 x0)) ∧ (wX9_high x0 (x4 + (2050 : Int32)) (4 : Int32) (aI_ σ38 (fR_ σ38 8 25 x0) (x6).toNatClampNeg) σ38 (fun σ42 => (tg_ σ42 x0 = 9 ∧ (wX9_low x0 (x4 + (6 : Int32)) (2 : Int32) s0 σ42 (fun σ44 => (tg_ σ44 x0 = 9 ∧ (wX9_high x0 (x4 + (2054 : Int32)) (2 : Int32) s0 σ44 (fun σ46 => wX9_design_L302 post rc158 x0 x1 x2 x3 x4 x5 x6 x7 (0 : Int32) σ46))))))))))))))))))))))))
def wX9_design_L187 (post : Hp → Prop) (rc158 : Int32 → Int32 → Hp → Prop) (x0 : Nat) (x1 : Int32) (x2 : Int32) (x3 : Int32) (x4 : Int32) (x5 : Int32) (x6 : Int32) (s0 : Int32) (s1 : Nat) (σ : Hp) : Prop :=
(tg_ σ s1 = 9 ∧ (wX9_recordId s1 s0 x6 σ (fun r48 => ((¬ x6 = 0 →
  (tg_ σ x0 = 9 ∧ (tg_ σ (fR_ σ 8 13 x0) = 102 ∧ (vp_in x6 (ln_ σ (fR_ σ 8 13 x0)) ∧ (wX9_numberOf x0 (aI_ σ (fR_ σ 8 13 x0) (x6).toNatClampNeg) σ (fun r53 => wX9_design_L214 post rc158 x0 x1 x2 x3 x4 x5 x6 r48 r53 σ)))))) ∧
 (x6 = 0 →
  wX9_design_L214 post rc158 x0 x1 x2 x3 x4 x5 x6 r48 (1 : Int32) σ)))))
def wX9_design_B158 (post : Hp → Prop) (rc158 : Int32 → Int32 → Hp → Prop) (x0 : Nat) (x1 : Int32) (x2 : Int32) (x3 : Int32) (x4 : Int32) (x5 : Int32) (σ : Hp) : Prop :=
(tg_ σ x0 = 9 ∧ (((fI_ σ 8 22 x0) ≤ x5 →
  (wX9_both x0 (132 : Int32) (4 : Int32) (x4 - (4096 : Int32)) σ (fun σ56 => (∀ y57 : Int32, y57 = ((2048 : Int32) * (x2 - (17 : Int32))) → (tg_ σ56 x0 = 9 ∧ (wX9_letters x0 y57 (77 : Int32) (65 : Int32) (82 : Int32) (75 : Int32) (0 : Int32) σ56 (fun σ59 => (tg_ σ59 x0 = 9 ∧ (wX9_low x0 (y57 + (4 : Int32)) (4 : Int32) x1 σ59 (fun σ61 => (tg_ σ61 x0 = 9 ∧ (wX9_low x0 (y57 + (8 : Int32)) (4 : Int32) x3 σ61 (fun σ63 => post σ63))))))))))))) ∧
 (¬ (fI_ σ 8 22 x0) ≤ x5 →
  (tg_ σ (fR_ σ 8 24 x0) = 102 ∧ (vp_in x5 (ln_ σ (fR_ σ 8 24 x0)) ∧ (∀ y66 : Int32, y66 = (aI_ σ (fR_ σ 8 24 x0) (x5).toNatClampNeg) → ((¬ y66 = 0 →
   wX9_design_L187 post rc158 x0 x1 x2 x3 x4 x5 y66 (2 : Int32) x0 σ) ∧
  (y66 = 0 →
   wX9_design_L187 post rc158 x0 x1 x2 x3 x4 x5 y66 (0 : Int32) x0 σ))))))))
def wX9_design_L158 (post : Hp → Prop) (x0 : Nat) (x1 : Int32) (x2 : Int32) (x3 : Int32) (x4 : Int32) (x5 : Int32) (σ : Hp) : Prop :=
 ∃ (I : Int32 → Int32 → Hp → Prop) (μ : Int32 → Int32 → Hp → Nat), I x4 x5 σ ∧ ∀ (x4 : Int32) (x5 : Int32) (σ : Hp), I x4 x5 σ → wX9_design_B158 post (fun x4' x5' σ' => I x4' x5' σ' ∧ μ x4' x5' σ' < μ x4 x5 σ) x0 x1 x2 x3 x4 x5 σ
def wX9_design_B3 (post : Hp → Prop) (rc3 : Int32 → Hp → Prop) (x0 : Nat) (x1 : Int32) (x2 : Int32) (x3 : Int32) (x4 : Int32) (σ : Hp) : Prop :=
((((2048 : Int32) * (x2 - (16 : Int32))) ≤ x4 →
  (tg_ σ x0 = 9 ∧ (tg_ σ (fR_ σ 8 21 x0) = 100 ∧ (lo_ σ < (fR_ σ 8 21 x0) ∧ (vp_in (0 : Int32) (ln_ σ (fR_ σ 8 21 x0)) ∧ (∀ σ73, σ73 = wI_ σ (fR_ σ 8 21 x0) ((0 : Int32)).toNatClampNeg (vp_nar .byte (1 : Int32)) → (wX9_letters x0 (1 : Int32) (67 : Int32) (68 : Int32) (48 : Int32) (48 : Int32) (49 : Int32) σ73 (fun σ74 => (tg_ σ74 x0 = 9 ∧ (tg_ σ74 (fR_ σ74 8 21 x0) = 100 ∧ (lo_ σ74 < (fR_ σ74 8 21 x0) ∧ (vp_in (6 : Int32) (ln_ σ74 (fR_ σ74 8 21 x0)) ∧ (∀ σ79, σ79 = wI_ σ74 (fR_ σ74 8 21 x0) ((6 : Int32)).toNatClampNeg (vp_nar .byte (1 : Int32)) → (wX9_both x0 (80 : Int32) (4 : Int32) (fI_ σ79 8 1 x0) σ79 (fun σ80 => (tg_ σ80 x0 = 9 ∧ (wX9_both x0 (128 : Int32) (2 : Int32) (2048 : Int32) σ80 (fun σ82 => (tg_ σ82 x0 = 9 ∧ (wX9_low x0 (140 : Int32) (4 : Int32) (x1 + (18 : Int32)) σ82 (fun σ84 => (tg_ σ84 x0 = 9 ∧ (wX9_high x0 (148 : Int32) (4 : Int32) (x1 + (19 : Int32)) σ84 (fun σ86 => (tg_ σ86 x0 = 9 ∧ (wX9_record x0 (156 : Int32) (0 : Int32) (0 : Int32) σ86 (fun σ88 => (tg_ σ88 x0 = 9 ∧ (tg_ σ88 (fR_ σ88 8 21 x0) = 100 ∧ (lo_ σ88 < (fR_ σ88 8 21 x0) ∧ (vp_in (2048 : Int32) (ln_ σ88 (fR_ σ88 8 21 x0)) ∧ (∀ σ93, σ93 = wI_ σ88 (fR_ σ88 8 21 x0) ((2048 : Int32)).toNatClampNeg (vp_nar .byte (-1 : Int32)) → (wX9_letters x0 (2049 : Int32) (67 : Int32) (68 : Int32) (48 : Int32) (48 : Int32) (49 : Int32) σ93 (fun σ94 => (tg_ σ94 x0 = 9 ∧ (tg_ σ94 (fR_ σ94 8 21 x0) = 100 ∧ (lo_ σ94 < (fR_ σ94 8 21 x0) ∧ (vp_in (2054 : Int32) (ln_ σ94 (fR_ σ94 8 21 x0)) ∧ (∀ σ99, σ99 = wI_ σ94 (fR_ σ94 8 21 x0) ((2054 : Int32)).toNatClampNeg (vp_nar .byte (1 : Int32)) → wX9_design_L158 post x0 x1 x2 x3 (4096 : Int32) (0 : Int32) σ99))))))))))))))))))))))))))))))))))))))) ∧
 (¬ ((2048 : Int32) * (x2 - (16 : Int32))) ≤ x4 →
  (tg_ σ x0 = 9 ∧ (tg_ σ (fR_ σ 8 21 x0) = 100 ∧ (lo_ σ < (fR_ σ 8 21 x0) ∧ (vp_in x4 (ln_ σ (fR_ σ 8 21 x0)) ∧ (∀ σ104, σ104 = wI_ σ (fR_ σ 8 21 x0) (x4).toNatClampNeg (vp_nar .byte (0 : Int32)) → (∀ y105 : Int32, y105 = x4 + 1 → rc3 y105 σ104))))))))
def wX9_design_L3 (post : Hp → Prop) (x0 : Nat) (x1 : Int32) (x2 : Int32) (x3 : Int32) (x4 : Int32) (σ : Hp) : Prop :=
 ∃ (I : Int32 → Hp → Prop) (μ : Int32 → Hp → Nat), I x4 σ ∧ ∀ (x4 : Int32) (σ : Hp), I x4 σ → wX9_design_B3 post (fun x4' σ' => I x4' σ' ∧ μ x4' σ' < μ x4 σ) x0 x1 x2 x3 x4 σ
def wX9_design (x0 : Nat) (x1 : Int32) (x2 : Int32) (x3 : Int32) (σ : Hp) (post : Hp → Prop) : Prop :=
wX9_design_L3 post x0 x1 x2 x3 (0 : Int32) σ
set_option maxHeartbeats 4000000 in
theorem sX9_design_L373 {G : GG_} {p : Program} {l : Launch} {e : Env} {R : Room} {s : State} {m : MethodId} {args : Array Value} {below : List Frame} {meth : Method} {c : Code} (Y : MX_ G p R s m args meth c cX9_design 10 RX9 none 7 167 0 0 "design") {post : Hp → Prop} {rc158 : Int32 → Int32 → Hp → Prop} {x0 : Nat} {x1 : Int32} {x2 : Int32} {x3 : Int32} {x4 : Int32} {x5 : Int32} {x6 : Int32} {x7 : Int32} {σ : Hp} (hrc158 : ∀ (x4 : Int32) (x5 : Int32) (σ : Hp), rc158 x4 x5 σ → WG_ G p l e R s m args below meth c (MQ below (QV_ G post) args s 0 0 (FR_ G)) BN_ 10 158 [(0, rv_ x0), (1, .int x1), (2, .int x2), (3, .int x3), (4, .int x4), (5, .int x5)] [] σ) (hf : wX9_design_L373 post rc158 x0 x1 x2 x3 x4 x5 x6 x7 σ) : WG_ G p l e R s m args below meth c (MQ below (QV_ G post) args s 0 0 (FR_ G)) BN_ 10 373 [(0, rv_ x0), (1, .int x1), (2, .int x2), (3, .int x3), (4, .int x4), (5, .int x5), (6, .int x6), (7, .int x7)] [] σ := by
  have ⟨X, hlk, hr, hRf, hRl, hRc, hnm⟩ := Y
  have ⟨⟨hx, hb, _, hown, hts⟩, _, _⟩ := X
  intro H locs cells slots ls hP hL hB hl
  obtain ⟨rfl, rfl⟩ := hB
  unfold wX9_design_L373 at hf
  refine lv_iload hx hb dX9_design_373 (lv_at hl 4 rfl) ?_
  refine lv_bipush (v := 8) hx hb dX9_design_375 (by decide) ?_
  refine lv_iload hx hb dX9_design_377 (lv_at hl 7 rfl) ?_
  refine p_calli hL (p_runS X hP (metX9_even l G _ _ _ X.2.2 hf) (va_cwS 1 hts (lw_S q1555 q1556 q106 q1557) rfl rfl rfl (by decide +kernel) ⟨Nat.le_trans (Nat.le_of_ble_eq_true rfl) hRf, Nat.le_trans (Nat.le_of_ble_eq_true rfl) hRl⟩) rfl hl.1 rfl (by rw [(ca_i (ca_i ca_n))]; decide) dX9_design_379 ⟨Nat.zero_le _, Nat.zero_le _⟩) (fun r1 σ₁ H locs hf hP hL => ?_)
  obtain ⟨e₁, hf⟩ := hf
  rw [e₁] at hP
  refine lv_iadd hx hb dX9_design_382 ?_
  refine lv_iadd hx hb dX9_design_383 ?_
  have hl := lv_sub hl [0, 1, 2, 3, 5, 6] rfl
  refine lv_topi (fun y2 hy2 => ?_)
  have hf := hf y2 hy2
  refine p_istore (i := 4) hx hb dX9_design_384 hl (by decide) ⟨⟨ne_ rfl, Or.inl (ne_ rfl)⟩, ⟨⟨ne_ rfl, Or.inl (ne_ rfl)⟩, ⟨⟨ne_ rfl, Or.inl (ne_ rfl)⟩, ⟨⟨ne_ rfl, Or.inr rfl⟩, ⟨⟨ne_ rfl, Or.inl (ne_ rfl)⟩, ⟨⟨ne_ rfl, Or.inl (ne_ rfl)⟩, trivial⟩⟩⟩⟩⟩⟩ (fun ls hl => ?_)
  refine p_aload_n hx hb dX9_design_386 rfl (lv_at hl 1 rfl) ?_
  refine lv_iload hx hb dX9_design_387 (lv_at hl 6 rfl) ?_
  refine lv_sipush (v := 2048) hx hb dX9_design_389 (by decide) ?_
  refine p_aload_n hx hb dX9_design_392 rfl (lv_at hl 1 rfl) ?_
  obtain ⟨ht3, hf⟩ := hf
  refine p_gR X cf8_ (k := 25) (by decide) rfl hP ht3 q1319 (fun _ h => h) dX9_design_393 ?_
  refine lv_iload hx hb dX9_design_396 (lv_at hl 6 rfl) ?_
  obtain ⟨ht4, hf⟩ := hf
  obtain ⟨hi5, hf⟩ := hf
  refine p_iald X hP ht4 hi5 dX9_design_398 ?_
  refine lv_iload_n hx hb dX9_design_399 rfl (lv_at hl 2 rfl) ?_
  refine lv_isub hx hb dX9_design_400 ?_
  refine lv_bipush (v := 16) hx hb dX9_design_401 (by decide) ?_
  refine lv_isub hx hb dX9_design_403 ?_
  refine lv_imul hx hb dX9_design_404 ?_
  refine lv_iconst (v := 1) hx hb dX9_design_405 (by decide) ?_
  refine p_calli hL (p_runV X cf8_ hP ht3 (metX9_along l G _ _ _ _ _ _ X.2.2 hf) (cwV 3 hts (lw_V q1544 q1546 qs58 q106 q1547) rfl rfl rfl (by decide +kernel) ⟨Nat.le_trans (Nat.le_of_ble_eq_true rfl) hRf, Nat.le_trans (Nat.le_of_ble_eq_true rfl) hRl⟩) rfl hl.1 rfl (by decide) dX9_design_406 ⟨Nat.zero_le _, Nat.zero_le _⟩) (fun r6 σ7 H locs hf hP hL => ?_)
  refine lv_pop hx hb dX9_design_409 rfl ?_
  have hl := lv_sub hl [5, 0, 1, 2, 3, 4] rfl
  refine p_iincc (i := 5) (k := 1) hx hb (by decide) dX9_design_410 hl (by decide) ⟨⟨ne_ rfl, Or.inr rfl⟩, ⟨⟨ne_ rfl, Or.inl (ne_ rfl)⟩, ⟨⟨ne_ rfl, Or.inl (ne_ rfl)⟩, ⟨⟨ne_ rfl, Or.inl (ne_ rfl)⟩, ⟨⟨ne_ rfl, Or.inl (ne_ rfl)⟩, trivial⟩⟩⟩⟩⟩ (fun y8 hy8 ls hl => ?_)
  have hf := hf y8 hy8
  refine lv_goto (tgt := 158) hx hb dX9_design_413 (by decide) ?_
  exact hrc158 _ _ _ hf _ _ _ _ _ hP hL ⟨rfl, rfl⟩ (lv_sub hl [2, 3, 4, 5, 1, 0] rfl)
set_option maxHeartbeats 4000000 in
theorem sX9_design_B302 {G : GG_} {p : Program} {l : Launch} {e : Env} {R : Room} {s : State} {m : MethodId} {args : Array Value} {below : List Frame} {meth : Method} {c : Code} (Y : MX_ G p R s m args meth c cX9_design 10 RX9 none 7 167 0 0 "design") {post : Hp → Prop} {rc158 : Int32 → Int32 → Hp → Prop} {rc302 : Int32 → Hp → Prop} {x0 : Nat} {x1 : Int32} {x2 : Int32} {x3 : Int32} {x4 : Int32} {x5 : Int32} {x6 : Int32} {x7 : Int32} {x9 : Int32} {σ : Hp} (hrc158 : ∀ (x4 : Int32) (x5 : Int32) (σ : Hp), rc158 x4 x5 σ → WG_ G p l e R s m args below meth c (MQ below (QV_ G post) args s 0 0 (FR_ G)) BN_ 10 158 [(0, rv_ x0), (1, .int x1), (2, .int x2), (3, .int x3), (4, .int x4), (5, .int x5)] [] σ) (hrc302 : ∀ (x9 : Int32) (σ : Hp), rc302 x9 σ → WG_ G p l e R s m args below meth c (MQ below (QV_ G post) args s 0 0 (FR_ G)) BN_ 10 302 [(0, rv_ x0), (1, .int x1), (2, .int x2), (3, .int x3), (4, .int x4), (5, .int x5), (6, .int x6), (7, .int x7), (9, .int x9)] [] σ) (hf : wX9_design_B302 post rc158 rc302 x0 x1 x2 x3 x4 x5 x6 x7 x9 σ) : WG_ G p l e R s m args below meth c (MQ below (QV_ G post) args s 0 0 (FR_ G)) BN_ 10 302 [(0, rv_ x0), (1, .int x1), (2, .int x2), (3, .int x3), (4, .int x4), (5, .int x5), (6, .int x6), (7, .int x7), (9, .int x9)] [] σ := by
  have ⟨X, hlk, hr, hRf, hRl, hRc, hnm⟩ := Y
  have ⟨⟨hx, hb, _, hown, hts⟩, _, _⟩ := X
  intro H locs cells slots ls hP hL hB hl
  obtain ⟨rfl, rfl⟩ := hB
  unfold wX9_design_B302 at hf
  refine lv_iload hx hb dX9_design_302 (lv_at hl 8 rfl) ?_
  refine lv_iload hx hb dX9_design_304 (lv_at hl 7 rfl) ?_
  refine lv_icmp_ge (tgt := 373) hx hb dX9_design_306 (by decide) (fun c9 => ?_) (fun c9 => ?_)
  · have hf := hf.1 c9
    exact sX9_design_L373 Y hrc158 hf _ _ _ _ _ hP hL ⟨rfl, rfl⟩ (lv_sub hl [0, 1, 2, 3, 4, 5, 6, 7] rfl)
  · have hf := hf.2 c9
    refine lv_iload hx hb dX9_design_309 (lv_at hl 6 rfl) ?_
    refine lv_if_le (tgt := 373) hx hb dX9_design_311 (by decide) (fun c10 => ?_) (fun c10 => ?_)
    · have hf := hf.1 c10
      exact sX9_design_L373 Y hrc158 hf _ _ _ _ _ hP hL ⟨rfl, rfl⟩ (lv_sub hl [0, 1, 2, 3, 4, 5, 6, 7] rfl)
    · have hf := hf.2 c10
      refine p_aload_n hx hb dX9_design_314 rfl (lv_at hl 0 rfl) ?_
      obtain ⟨ht11, hf⟩ := hf
      refine p_gR X cf8_ (k := 21) (by decide) rfl hP ht11 q1316 (fun _ h => h) dX9_design_315 ?_
      refine lv_iload hx hb dX9_design_318 (lv_at hl 4 rfl) ?_
      refine lv_bipush (v := 8) hx hb dX9_design_320 (by decide) ?_
      refine lv_iadd hx hb dX9_design_322 ?_
      refine lv_iload hx hb dX9_design_323 (lv_at hl 8 rfl) ?_
      refine lv_iadd hx hb dX9_design_325 ?_
      refine p_aload_n hx hb dX9_design_326 rfl (lv_at hl 0 rfl) ?_
      refine p_gR X cf8_ (k := 14) (by decide) rfl hP ht11 q1309 (fun _ h => h) dX9_design_327 ?_
      refine lv_iload hx hb dX9_design_330 (lv_at hl 6 rfl) ?_
      obtain ⟨ht12, hf⟩ := hf
      obtain ⟨hi13, hf⟩ := hf
      refine p_lald X hP ht12 hi13 dX9_design_332 ?_
      refine lv_iload hx hb dX9_design_333 (lv_at hl 8 rfl) ?_
      refine p_calli hL (p_runS X hP (metX9_letter l G _ _ _ _ X.2.2 hf) (va_cwS 2 hts (lw_S q1541 q1542 q106 q1543) rfl rfl rfl (by decide +kernel) ⟨Nat.le_trans (Nat.le_of_ble_eq_true rfl) hRf, Nat.le_trans (Nat.le_of_ble_eq_true rfl) hRl⟩) rfl hl.1 rfl (by rw [(ca_i (ca_r ca_n))]; decide) dX9_design_335 ⟨Nat.zero_le _, Nat.zero_le _⟩) (fun r14 σ₁ H locs hf hP hL => ?_)
      obtain ⟨e₁, hf⟩ := hf
      rw [e₁] at hP
      refine lv_i2b hx hb dX9_design_338 rfl ?_
      obtain ⟨ht15, hf⟩ := hf
      obtain ⟨hlo16, hf⟩ := hf
      obtain ⟨hi17, hf⟩ := hf
      refine p_bast X hP hL ht15 hlo16 hi17 dX9_design_339 (fun H locs hP hL => ?_)
      refine p_nmP hP (fun σ18 hσ18 hP => ?_)
      have hf := hf σ18 hσ18
      have ht11 : tg_ σ18 x0 = 9 := by rw [hσ18]; exact ht11
      refine p_aload_n hx hb dX9_design_340 rfl (lv_at hl 0 rfl) ?_
      refine p_gR X cf8_ (k := 21) (by decide) rfl hP ht11 q1316 (fun _ h => h) dX9_design_341 ?_
      refine lv_iload hx hb dX9_design_344 (lv_at hl 4 rfl) ?_
      refine lv_sipush (v := 2056) hx hb dX9_design_346 (by decide) ?_
      refine lv_iadd hx hb dX9_design_349 ?_
      refine lv_iload hx hb dX9_design_350 (lv_at hl 8 rfl) ?_
      refine lv_iadd hx hb dX9_design_352 ?_
      refine p_aload_n hx hb dX9_design_353 rfl (lv_at hl 0 rfl) ?_
      refine p_gR X cf8_ (k := 14) (by decide) rfl hP ht11 q1309 (fun _ h => h) dX9_design_354 ?_
      refine lv_iload hx hb dX9_design_357 (lv_at hl 6 rfl) ?_
      obtain ⟨ht19, hf⟩ := hf
      obtain ⟨hi20, hf⟩ := hf
      refine p_lald X hP ht19 hi20 dX9_design_359 ?_
      refine lv_iload hx hb dX9_design_360 (lv_at hl 8 rfl) ?_
      refine p_calli hL (p_runS X hP (metX9_letter l G _ _ _ _ X.2.2 hf) (va_cwS 2 hts (lw_S q1541 q1542 q106 q1543) rfl rfl rfl (by decide +kernel) ⟨Nat.le_trans (Nat.le_of_ble_eq_true rfl) hRf, Nat.le_trans (Nat.le_of_ble_eq_true rfl) hRl⟩) rfl hl.1 rfl (by rw [(ca_i (ca_r ca_n))]; decide) dX9_design_362 ⟨Nat.zero_le _, Nat.zero_le _⟩) (fun r21 σ₁ H locs hf hP hL => ?_)
      obtain ⟨e₁, hf⟩ := hf
      rw [e₁] at hP
      refine lv_i2b hx hb dX9_design_365 rfl ?_
      obtain ⟨ht22, hf⟩ := hf
      obtain ⟨hlo23, hf⟩ := hf
      obtain ⟨hi24, hf⟩ := hf
      refine p_bast X hP hL ht22 hlo23 hi24 dX9_design_366 (fun H locs hP hL => ?_)
      refine p_nmP hP (fun σ25 hσ25 hP => ?_)
      have hf := hf σ25 hσ25
      have ht11 : tg_ σ25 x0 = 9 := by rw [hσ25]; exact ht11
      have hl := lv_sub hl [8, 0, 1, 2, 3, 4, 5, 6, 7] rfl
      refine p_iincc (i := 9) (k := 1) hx hb (by decide) dX9_design_367 hl (by decide) ⟨⟨ne_ rfl, Or.inl (ne_ rfl)⟩, ⟨⟨ne_ rfl, Or.inl (ne_ rfl)⟩, ⟨⟨ne_ rfl, Or.inl (ne_ rfl)⟩, ⟨⟨ne_ rfl, Or.inl (ne_ rfl)⟩, ⟨⟨ne_ rfl, Or.inl (ne_ rfl)⟩, ⟨⟨ne_ rfl, Or.inl (ne_ rfl)⟩, ⟨⟨ne_ rfl, Or.inl (ne_ rfl)⟩, ⟨⟨ne_ rfl, Or.inl (ne_ rfl)⟩, trivial⟩⟩⟩⟩⟩⟩⟩⟩ (fun y26 hy26 ls hl => ?_)
      have hf := hf y26 hy26
      refine lv_goto (tgt := 302) hx hb dX9_design_370 (by decide) ?_
      exact hrc302 _ _ hf _ _ _ _ _ hP hL ⟨rfl, rfl⟩ (lv_sub hl [1, 2, 3, 4, 5, 6, 7, 8, 0] rfl)
set_option maxHeartbeats 4000000 in
theorem sX9_design_L302 {G : GG_} {p : Program} {l : Launch} {e : Env} {R : Room} {s : State} {m : MethodId} {args : Array Value} {below : List Frame} {meth : Method} {c : Code} (Y : MX_ G p R s m args meth c cX9_design 10 RX9 none 7 167 0 0 "design") {post : Hp → Prop} {rc158 : Int32 → Int32 → Hp → Prop} {x0 : Nat} {x1 : Int32} {x2 : Int32} {x3 : Int32} {x4 : Int32} {x5 : Int32} {x6 : Int32} {x7 : Int32} {x9 : Int32} {σ : Hp} (hrc158 : ∀ (x4 : Int32) (x5 : Int32) (σ : Hp), rc158 x4 x5 σ → WG_ G p l e R s m args below meth c (MQ below (QV_ G post) args s 0 0 (FR_ G)) BN_ 10 158 [(0, rv_ x0), (1, .int x1), (2, .int x2), (3, .int x3), (4, .int x4), (5, .int x5)] [] σ) (hf : wX9_design_L302 post rc158 x0 x1 x2 x3 x4 x5 x6 x7 x9 σ) : WG_ G p l e R s m args below meth c (MQ below (QV_ G post) args s 0 0 (FR_ G)) BN_ 10 302 [(0, rv_ x0), (1, .int x1), (2, .int x2), (3, .int x3), (4, .int x4), (5, .int x5), (6, .int x6), (7, .int x7), (9, .int x9)] [] σ := by
  unfold wX9_design_L302 at hf
  obtain ⟨I, μ, h0, hI⟩ := hf
  have key : ∀ (n : Nat) (x9 : Int32) (σ : Hp), I x9 σ → μ x9 σ < n → WG_ G p l e R s m args below meth c (MQ below (QV_ G post) args s 0 0 (FR_ G)) BN_ 10 302 [(0, rv_ x0), (1, .int x1), (2, .int x2), (3, .int x3), (4, .int x4), (5, .int x5), (6, .int x6), (7, .int x7), (9, .int x9)] [] σ := by
    intro n
    induction n with
    | zero => intro x9 σ _ h; exact absurd h (Nat.not_lt_zero _)
    | succ n ih => intro x9 σ hi hn; exact sX9_design_B302 Y hrc158 (fun x9' σ' h => ih x9' σ' h.1 (Nat.lt_of_lt_of_le h.2 (Nat.le_of_lt_succ hn))) (hI x9 σ hi)
  exact key _ _ _ h0 (Nat.lt_succ_self _)
set_option maxHeartbeats 4000000 in
theorem sX9_design_L214 {G : GG_} {p : Program} {l : Launch} {e : Env} {R : Room} {s : State} {m : MethodId} {args : Array Value} {below : List Frame} {meth : Method} {c : Code} (Y : MX_ G p R s m args meth c cX9_design 10 RX9 none 7 167 0 0 "design") {post : Hp → Prop} {rc158 : Int32 → Int32 → Hp → Prop} {x0 : Nat} {x1 : Int32} {x2 : Int32} {x3 : Int32} {x4 : Int32} {x5 : Int32} {x6 : Int32} {x7 : Int32} {s0 : Int32} {σ : Hp} (hrc158 : ∀ (x4 : Int32) (x5 : Int32) (σ : Hp), rc158 x4 x5 σ → WG_ G p l e R s m args below meth c (MQ below (QV_ G post) args s 0 0 (FR_ G)) BN_ 10 158 [(0, rv_ x0), (1, .int x1), (2, .int x2), (3, .int x3), (4, .int x4), (5, .int x5)] [] σ) (hf : wX9_design_L214 post rc158 x0 x1 x2 x3 x4 x5 x6 x7 s0 σ) : WG_ G p l e R s m args below meth c (MQ below (QV_ G post) args s 0 0 (FR_ G)) BN_ 10 214 [(0, rv_ x0), (1, .int x1), (2, .int x2), (3, .int x3), (4, .int x4), (5, .int x5), (6, .int x6), (7, .int x7)] [.int s0] σ := by
  have ⟨X, hlk, hr, hRf, hRl, hRc, hnm⟩ := Y
  have ⟨⟨hx, hb, _, hown, hts⟩, _, _⟩ := X
  intro H locs cells slots ls hP hL hB hl
  obtain ⟨rfl, rfl⟩ := hB
  unfold wX9_design_L214 at hf
  refine p_istore (i := 8) hx hb dX9_design_214 hl (by decide) ⟨⟨ne_ rfl, Or.inl (ne_ rfl)⟩, ⟨⟨ne_ rfl, Or.inl (ne_ rfl)⟩, ⟨⟨ne_ rfl, Or.inl (ne_ rfl)⟩, ⟨⟨ne_ rfl, Or.inl (ne_ rfl)⟩, ⟨⟨ne_ rfl, Or.inl (ne_ rfl)⟩, ⟨⟨ne_ rfl, Or.inl (ne_ rfl)⟩, ⟨⟨ne_ rfl, Or.inl (ne_ rfl)⟩, ⟨⟨ne_ rfl, Or.inr rfl⟩, trivial⟩⟩⟩⟩⟩⟩⟩⟩ (fun ls hl => ?_)
  refine p_aload_n hx hb dX9_design_216 rfl (lv_at hl 1 rfl) ?_
  obtain ⟨ht27, hf⟩ := hf
  refine p_gR X cf8_ (k := 21) (by decide) rfl hP ht27 q1316 (fun _ h => h) dX9_design_217 ?_
  refine lv_iload hx hb dX9_design_220 (lv_at hl 5 rfl) ?_
  refine lv_iload hx hb dX9_design_222 (lv_at hl 8 rfl) ?_
  refine lv_i2b hx hb dX9_design_224 rfl ?_
  obtain ⟨ht28, hf⟩ := hf
  obtain ⟨hlo29, hf⟩ := hf
  obtain ⟨hi30, hf⟩ := hf
  refine p_bast X hP hL ht28 hlo29 hi30 dX9_design_225 (fun H locs hP hL => ?_)
  refine p_nmP hP (fun σ31 hσ31 hP => ?_)
  have hf := hf σ31 hσ31
  have ht27 : tg_ σ31 x0 = 9 := by rw [hσ31]; exact ht27
  refine p_aload_n hx hb dX9_design_226 rfl (lv_at hl 1 rfl) ?_
  refine p_gR X cf8_ (k := 21) (by decide) rfl hP ht27 q1316 (fun _ h => h) dX9_design_227 ?_
  refine lv_iload hx hb dX9_design_230 (lv_at hl 5 rfl) ?_
  refine lv_sipush (v := 2048) hx hb dX9_design_232 (by decide) ?_
  refine lv_iadd hx hb dX9_design_235 ?_
  refine lv_iload hx hb dX9_design_236 (lv_at hl 8 rfl) ?_
  refine lv_i2b hx hb dX9_design_238 rfl ?_
  obtain ⟨ht32, hf⟩ := hf
  obtain ⟨hlo33, hf⟩ := hf
  obtain ⟨hi34, hf⟩ := hf
  refine p_bast X hP hL ht32 hlo33 hi34 dX9_design_239 (fun H locs hP hL => ?_)
  refine p_nmP hP (fun σ35 hσ35 hP => ?_)
  have hf := hf σ35 hσ35
  have ht27 : tg_ σ35 x0 = 9 := by rw [hσ35]; exact ht27
  refine p_aload_n hx hb dX9_design_240 rfl (lv_at hl 1 rfl) ?_
  refine lv_iload hx hb dX9_design_241 (lv_at hl 5 rfl) ?_
  refine lv_iconst (v := 2) hx hb dX9_design_243 (by decide) ?_
  refine lv_iadd hx hb dX9_design_244 ?_
  refine lv_iconst (v := 4) hx hb dX9_design_245 (by decide) ?_
  refine p_aload_n hx hb dX9_design_246 rfl (lv_at hl 1 rfl) ?_
  refine p_gR X cf8_ (k := 25) (by decide) rfl hP ht27 q1319 (fun _ h => h) dX9_design_247 ?_
  refine lv_iload hx hb dX9_design_250 (lv_at hl 7 rfl) ?_
  obtain ⟨ht36, hf⟩ := hf
  obtain ⟨hi37, hf⟩ := hf
  refine p_iald X hP ht36 hi37 dX9_design_252 ?_
  refine p_callv hL (p_runV X cf8_ hP ht27 (metX9_low l G _ _ _ _ _ _ X.2.2 hf) (cwV 3 hts (lw_V q1566 q1568 qs62 q106 q1569) rfl rfl rfl (by decide +kernel) ⟨Nat.le_trans (Nat.le_of_ble_eq_true rfl) hRf, Nat.le_trans (Nat.le_of_ble_eq_true rfl) hRl⟩) rfl hl.1 rfl (by decide) dX9_design_253 ⟨Nat.zero_le _, Nat.zero_le _⟩) (fun σ38 H locs hf hP hL => ?_)
  refine p_aload_n hx hb dX9_design_256 rfl (lv_at hl 1 rfl) ?_
  refine lv_iload hx hb dX9_design_257 (lv_at hl 5 rfl) ?_
  refine lv_sipush (v := 2050) hx hb dX9_design_259 (by decide) ?_
  refine lv_iadd hx hb dX9_design_262 ?_
  refine lv_iconst (v := 4) hx hb dX9_design_263 (by decide) ?_
  refine p_aload_n hx hb dX9_design_264 rfl (lv_at hl 1 rfl) ?_
  obtain ⟨ht39, hf⟩ := hf
  refine p_gR X cf8_ (k := 25) (by decide) rfl hP ht39 q1319 (fun _ h => h) dX9_design_265 ?_
  refine lv_iload hx hb dX9_design_268 (lv_at hl 7 rfl) ?_
  obtain ⟨ht40, hf⟩ := hf
  obtain ⟨hi41, hf⟩ := hf
  refine p_iald X hP ht40 hi41 dX9_design_270 ?_
  refine p_callv hL (p_runV X cf8_ hP ht39 (metX9_high l G _ _ _ _ _ _ X.2.2 hf) (cwV 3 hts (lw_V q1570 q1572 qs63 q106 q1573) rfl rfl rfl (by decide +kernel) ⟨Nat.le_trans (Nat.le_of_ble_eq_true rfl) hRf, Nat.le_trans (Nat.le_of_ble_eq_true rfl) hRl⟩) rfl hl.1 rfl (by decide) dX9_design_271 ⟨Nat.zero_le _, Nat.zero_le _⟩) (fun σ42 H locs hf hP hL => ?_)
  refine p_aload_n hx hb dX9_design_274 rfl (lv_at hl 1 rfl) ?_
  refine lv_iload hx hb dX9_design_275 (lv_at hl 5 rfl) ?_
  refine lv_bipush (v := 6) hx hb dX9_design_277 (by decide) ?_
  refine lv_iadd hx hb dX9_design_279 ?_
  refine lv_iconst (v := 2) hx hb dX9_design_280 (by decide) ?_
  refine lv_iload hx hb dX9_design_281 (lv_at hl 0 rfl) ?_
  obtain ⟨ht43, hf⟩ := hf
  refine p_callv hL (p_runV X cf8_ hP ht43 (metX9_low l G _ _ _ _ _ _ X.2.2 hf) (cwV 3 hts (lw_V q1566 q1568 qs62 q106 q1569) rfl rfl rfl (by decide +kernel) ⟨Nat.le_trans (Nat.le_of_ble_eq_true rfl) hRf, Nat.le_trans (Nat.le_of_ble_eq_true rfl) hRl⟩) rfl hl.1 rfl (by decide) dX9_design_283 ⟨Nat.zero_le _, Nat.zero_le _⟩) (fun σ44 H locs hf hP hL => ?_)
  refine p_aload_n hx hb dX9_design_286 rfl (lv_at hl 1 rfl) ?_
  refine lv_iload hx hb dX9_design_287 (lv_at hl 5 rfl) ?_
  refine lv_sipush (v := 2054) hx hb dX9_design_289 (by decide) ?_
  refine lv_iadd hx hb dX9_design_292 ?_
  refine lv_iconst (v := 2) hx hb dX9_design_293 (by decide) ?_
  refine lv_iload hx hb dX9_design_294 (lv_at hl 0 rfl) ?_
  obtain ⟨ht45, hf⟩ := hf
  refine p_callv hL (p_runV X cf8_ hP ht45 (metX9_high l G _ _ _ _ _ _ X.2.2 hf) (cwV 3 hts (lw_V q1570 q1572 qs63 q106 q1573) rfl rfl rfl (by decide +kernel) ⟨Nat.le_trans (Nat.le_of_ble_eq_true rfl) hRf, Nat.le_trans (Nat.le_of_ble_eq_true rfl) hRl⟩) rfl hl.1 rfl (by decide) dX9_design_296 ⟨Nat.zero_le _, Nat.zero_le _⟩) (fun σ46 H locs hf hP hL => ?_)
  refine lv_iconst (v := 0) hx hb dX9_design_299 (by decide) ?_
  have hl := lv_sub hl [1, 2, 3, 4, 5, 6, 7, 8] rfl
  refine p_istore (i := 9) hx hb dX9_design_300 hl (by decide) ⟨⟨ne_ rfl, Or.inl (ne_ rfl)⟩, ⟨⟨ne_ rfl, Or.inl (ne_ rfl)⟩, ⟨⟨ne_ rfl, Or.inl (ne_ rfl)⟩, ⟨⟨ne_ rfl, Or.inl (ne_ rfl)⟩, ⟨⟨ne_ rfl, Or.inl (ne_ rfl)⟩, ⟨⟨ne_ rfl, Or.inl (ne_ rfl)⟩, ⟨⟨ne_ rfl, Or.inl (ne_ rfl)⟩, ⟨⟨ne_ rfl, Or.inl (ne_ rfl)⟩, trivial⟩⟩⟩⟩⟩⟩⟩⟩ (fun ls hl => ?_)
  exact sX9_design_L302 Y hrc158 hf _ _ _ _ _ hP hL ⟨rfl, rfl⟩ (lv_sub hl [1, 2, 3, 4, 5, 6, 7, 8, 0] rfl)
set_option maxHeartbeats 4000000 in
theorem sX9_design_L187 {G : GG_} {p : Program} {l : Launch} {e : Env} {R : Room} {s : State} {m : MethodId} {args : Array Value} {below : List Frame} {meth : Method} {c : Code} (Y : MX_ G p R s m args meth c cX9_design 10 RX9 none 7 167 0 0 "design") {post : Hp → Prop} {rc158 : Int32 → Int32 → Hp → Prop} {x0 : Nat} {x1 : Int32} {x2 : Int32} {x3 : Int32} {x4 : Int32} {x5 : Int32} {x6 : Int32} {s0 : Int32} {s1 : Nat} {σ : Hp} (hrc158 : ∀ (x4 : Int32) (x5 : Int32) (σ : Hp), rc158 x4 x5 σ → WG_ G p l e R s m args below meth c (MQ below (QV_ G post) args s 0 0 (FR_ G)) BN_ 10 158 [(0, rv_ x0), (1, .int x1), (2, .int x2), (3, .int x3), (4, .int x4), (5, .int x5)] [] σ) (hf : wX9_design_L187 post rc158 x0 x1 x2 x3 x4 x5 x6 s0 s1 σ) : WG_ G p l e R s m args below meth c (MQ below (QV_ G post) args s 0 0 (FR_ G)) BN_ 10 187 [(0, rv_ x0), (1, .int x1), (2, .int x2), (3, .int x3), (4, .int x4), (5, .int x5), (6, .int x6)] [.int s0, rv_ s1] σ := by
  have ⟨X, hlk, hr, hRf, hRl, hRc, hnm⟩ := Y
  have ⟨⟨hx, hb, _, hown, hts⟩, _, _⟩ := X
  intro H locs cells slots ls hP hL hB hl
  obtain ⟨rfl, rfl⟩ := hB
  unfold wX9_design_L187 at hf
  refine lv_iload hx hb dX9_design_187 (lv_at hl 6 rfl) ?_
  obtain ⟨ht47, hf⟩ := hf
  refine p_calli hL (p_runV X cf8_ hP ht47 (metX9_recordId l G _ _ _ _ _ X.2.2 hf) (cwV 2 hts (lw_V q1548 q1550 qs59 q106 q1551) rfl rfl rfl (by decide +kernel) ⟨Nat.le_trans (Nat.le_of_ble_eq_true rfl) hRf, Nat.le_trans (Nat.le_of_ble_eq_true rfl) hRl⟩) rfl hl.1 rfl (by decide) dX9_design_189 ⟨Nat.zero_le _, Nat.zero_le _⟩) (fun r48 σ₁ H locs hf hP hL => ?_)
  obtain ⟨e₁, hf⟩ := hf
  rw [e₁] at hP
  refine p_istore (i := 7) hx hb dX9_design_192 hl (by decide) ⟨⟨ne_ rfl, Or.inl (ne_ rfl)⟩, ⟨⟨ne_ rfl, Or.inl (ne_ rfl)⟩, ⟨⟨ne_ rfl, Or.inl (ne_ rfl)⟩, ⟨⟨ne_ rfl, Or.inl (ne_ rfl)⟩, ⟨⟨ne_ rfl, Or.inl (ne_ rfl)⟩, ⟨⟨ne_ rfl, Or.inl (ne_ rfl)⟩, ⟨⟨ne_ rfl, Or.inr rfl⟩, trivial⟩⟩⟩⟩⟩⟩⟩ (fun ls hl => ?_)
  refine lv_iload hx hb dX9_design_194 (lv_at hl 7 rfl) ?_
  refine lv_if_ne (tgt := 203) hx hb dX9_design_196 (by decide) (fun c49 => ?_) (fun c49 => ?_)
  · have hf := hf.1 c49
    refine p_aload_n hx hb dX9_design_203 rfl (lv_at hl 1 rfl) ?_
    refine p_aload_n hx hb dX9_design_204 rfl (lv_at hl 1 rfl) ?_
    obtain ⟨ht50, hf⟩ := hf
    refine p_gR X cf8_ (k := 13) (by decide) rfl hP ht50 q1308 (fun _ h => h) dX9_design_205 ?_
    refine lv_iload hx hb dX9_design_208 (lv_at hl 7 rfl) ?_
    obtain ⟨ht51, hf⟩ := hf
    obtain ⟨hi52, hf⟩ := hf
    refine p_iald X hP ht51 hi52 dX9_design_210 ?_
    refine p_calli hL (p_runV X cf8_ hP ht50 (metX9_numberOf l G _ _ _ _ X.2.2 hf) (cwV 1 hts (lw_V q1582 q1584 qs66 q106 q1585) rfl rfl rfl (by decide +kernel) ⟨Nat.le_trans (Nat.le_of_ble_eq_true rfl) hRf, Nat.le_trans (Nat.le_of_ble_eq_true rfl) hRl⟩) rfl hl.1 rfl (by decide) dX9_design_211 ⟨Nat.zero_le _, Nat.zero_le _⟩) (fun r53 σ₁ H locs hf hP hL => ?_)
    obtain ⟨e₁, hf⟩ := hf
    rw [e₁] at hP
    exact sX9_design_L214 Y hrc158 hf _ _ _ _ _ hP hL ⟨rfl, rfl⟩ (lv_sub hl [1, 2, 3, 4, 5, 6, 7, 0] rfl)
  · have hf := hf.2 c49
    refine lv_iconst (v := 1) hx hb dX9_design_199 (by decide) ?_
    refine lv_goto (tgt := 214) hx hb dX9_design_200 (by decide) ?_
    exact sX9_design_L214 Y hrc158 hf _ _ _ _ _ hP hL ⟨rfl, rfl⟩ (lv_sub hl [1, 2, 3, 4, 5, 6, 7, 0] rfl)
set_option maxHeartbeats 4000000 in
theorem sX9_design_B158 {G : GG_} {p : Program} {l : Launch} {e : Env} {R : Room} {s : State} {m : MethodId} {args : Array Value} {below : List Frame} {meth : Method} {c : Code} (Y : MX_ G p R s m args meth c cX9_design 10 RX9 none 7 167 0 0 "design") {post : Hp → Prop} {rc158 : Int32 → Int32 → Hp → Prop} {x0 : Nat} {x1 : Int32} {x2 : Int32} {x3 : Int32} {x4 : Int32} {x5 : Int32} {σ : Hp} (hrc158 : ∀ (x4 : Int32) (x5 : Int32) (σ : Hp), rc158 x4 x5 σ → WG_ G p l e R s m args below meth c (MQ below (QV_ G post) args s 0 0 (FR_ G)) BN_ 10 158 [(0, rv_ x0), (1, .int x1), (2, .int x2), (3, .int x3), (4, .int x4), (5, .int x5)] [] σ) (hf : wX9_design_B158 post rc158 x0 x1 x2 x3 x4 x5 σ) : WG_ G p l e R s m args below meth c (MQ below (QV_ G post) args s 0 0 (FR_ G)) BN_ 10 158 [(0, rv_ x0), (1, .int x1), (2, .int x2), (3, .int x3), (4, .int x4), (5, .int x5)] [] σ := by
  have ⟨X, hlk, hr, hRf, hRl, hRc, hnm⟩ := Y
  have ⟨⟨hx, hb, _, hown, hts⟩, _, _⟩ := X
  intro H locs cells slots ls hP hL hB hl
  obtain ⟨rfl, rfl⟩ := hB
  unfold wX9_design_B158 at hf
  refine lv_iload hx hb dX9_design_158 (lv_at hl 5 rfl) ?_
  refine p_aload_n hx hb dX9_design_160 rfl (lv_at hl 0 rfl) ?_
  obtain ⟨ht54, hf⟩ := hf
  refine p_gI X cf8_ (k := 22) (by decide) rfl hP ht54 q1317 (fun _ h => h) dX9_design_161 ?_
  refine lv_icmp_ge (tgt := 416) hx hb dX9_design_164 (by decide) (fun c55 => ?_) (fun c55 => ?_)
  · have hf := hf.1 c55
    refine p_aload_n hx hb dX9_design_416 rfl (lv_at hl 0 rfl) ?_
    refine lv_sipush (v := 132) hx hb dX9_design_417 (by decide) ?_
    refine lv_iconst (v := 4) hx hb dX9_design_420 (by decide) ?_
    refine lv_iload hx hb dX9_design_421 (lv_at hl 4 rfl) ?_
    refine lv_sipush (v := 4096) hx hb dX9_design_423 (by decide) ?_
    refine lv_isub hx hb dX9_design_426 ?_
    refine p_callv hL (p_runV X cf8_ hP ht54 (metX9_both l G _ _ _ _ _ _ X.2.2 hf) (cwV 3 hts (lw_V q1562 q1564 qs61 q106 q1565) rfl rfl rfl (by decide +kernel) ⟨Nat.le_trans (Nat.le_of_ble_eq_true rfl) hRf, Nat.le_trans (Nat.le_of_ble_eq_true rfl) hRl⟩) rfl hl.1 rfl (by decide) dX9_design_427 ⟨Nat.zero_le _, Nat.zero_le _⟩) (fun σ56 H locs hf hP hL => ?_)
    refine lv_sipush (v := 2048) hx hb dX9_design_430 (by decide) ?_
    refine lv_iload_n hx hb dX9_design_433 rfl (lv_at hl 2 rfl) ?_
    refine lv_bipush (v := 17) hx hb dX9_design_434 (by decide) ?_
    refine lv_isub hx hb dX9_design_436 ?_
    refine lv_imul hx hb dX9_design_437 ?_
    have hl := lv_sub hl [0, 1, 3] rfl
    refine lv_topi (fun y57 hy57 => ?_)
    have hf := hf y57 hy57
    refine p_istore (i := 5) hx hb dX9_design_438 hl (by decide) ⟨⟨ne_ rfl, Or.inl (ne_ rfl)⟩, ⟨⟨ne_ rfl, Or.inl (ne_ rfl)⟩, ⟨⟨ne_ rfl, Or.inl (ne_ rfl)⟩, trivial⟩⟩⟩ (fun ls hl => ?_)
    refine p_aload_n hx hb dX9_design_440 rfl (lv_at hl 1 rfl) ?_
    refine lv_iload hx hb dX9_design_441 (lv_at hl 0 rfl) ?_
    refine lv_bipush (v := 77) hx hb dX9_design_443 (by decide) ?_
    refine lv_bipush (v := 65) hx hb dX9_design_445 (by decide) ?_
    refine lv_bipush (v := 82) hx hb dX9_design_447 (by decide) ?_
    refine lv_bipush (v := 75) hx hb dX9_design_449 (by decide) ?_
    refine lv_iconst (v := 0) hx hb dX9_design_451 (by decide) ?_
    obtain ⟨ht58, hf⟩ := hf
    refine p_callv hL (p_runV X cf8_ hP ht58 (metX9_letters l G _ _ _ _ _ _ _ _ _ X.2.2 hf) (cwV 6 hts (lw_V q1578 q1580 qs65 q106 q1581) rfl rfl rfl (by decide +kernel) ⟨Nat.le_trans (Nat.le_of_ble_eq_true rfl) hRf, Nat.le_trans (Nat.le_of_ble_eq_true rfl) hRl⟩) rfl hl.1 rfl (by decide) dX9_design_452 ⟨Nat.zero_le _, Nat.zero_le _⟩) (fun σ59 H locs hf hP hL => ?_)
    refine p_aload_n hx hb dX9_design_455 rfl (lv_at hl 1 rfl) ?_
    refine lv_iload hx hb dX9_design_456 (lv_at hl 0 rfl) ?_
    refine lv_iconst (v := 4) hx hb dX9_design_458 (by decide) ?_
    refine lv_iadd hx hb dX9_design_459 ?_
    refine lv_iconst (v := 4) hx hb dX9_design_460 (by decide) ?_
    refine lv_iload_n hx hb dX9_design_461 rfl (lv_at hl 2 rfl) ?_
    obtain ⟨ht60, hf⟩ := hf
    refine p_callv hL (p_runV X cf8_ hP ht60 (metX9_low l G _ _ _ _ _ _ X.2.2 hf) (cwV 3 hts (lw_V q1566 q1568 qs62 q106 q1569) rfl rfl rfl (by decide +kernel) ⟨Nat.le_trans (Nat.le_of_ble_eq_true rfl) hRf, Nat.le_trans (Nat.le_of_ble_eq_true rfl) hRl⟩) rfl hl.1 rfl (by decide) dX9_design_462 ⟨Nat.zero_le _, Nat.zero_le _⟩) (fun σ61 H locs hf hP hL => ?_)
    refine p_aload_n hx hb dX9_design_465 rfl (lv_at hl 1 rfl) ?_
    refine lv_iload hx hb dX9_design_466 (lv_at hl 0 rfl) ?_
    refine lv_bipush (v := 8) hx hb dX9_design_468 (by decide) ?_
    refine lv_iadd hx hb dX9_design_470 ?_
    refine lv_iconst (v := 4) hx hb dX9_design_471 (by decide) ?_
    refine lv_iload_n hx hb dX9_design_472 rfl (lv_at hl 3 rfl) ?_
    obtain ⟨ht62, hf⟩ := hf
    refine p_callv hL (p_runV X cf8_ hP ht62 (metX9_low l G _ _ _ _ _ _ X.2.2 hf) (cwV 3 hts (lw_V q1566 q1568 qs62 q106 q1569) rfl rfl rfl (by decide +kernel) ⟨Nat.le_trans (Nat.le_of_ble_eq_true rfl) hRf, Nat.le_trans (Nat.le_of_ble_eq_true rfl) hRl⟩) rfl hl.1 rfl (by decide) dX9_design_473 ⟨Nat.zero_le _, Nat.zero_le _⟩) (fun σ63 H locs hf hP hL => ?_)
    exact p_vret X hlk hP hL (Nat.le_refl _) (Nat.le_refl _) hr dX9_design_476 hf
  · have hf := hf.2 c55
    refine p_aload_n hx hb dX9_design_167 rfl (lv_at hl 0 rfl) ?_
    refine p_gR X cf8_ (k := 24) (by decide) rfl hP ht54 q1318 (fun _ h => h) dX9_design_168 ?_
    refine lv_iload hx hb dX9_design_171 (lv_at hl 5 rfl) ?_
    obtain ⟨ht64, hf⟩ := hf
    obtain ⟨hi65, hf⟩ := hf
    refine p_iald X hP ht64 hi65 dX9_design_173 ?_
    refine lv_topi (fun y66 hy66 => ?_)
    have hf := hf y66 hy66
    refine p_istore (i := 6) hx hb dX9_design_174 hl (by decide) ⟨⟨ne_ rfl, Or.inl (ne_ rfl)⟩, ⟨⟨ne_ rfl, Or.inl (ne_ rfl)⟩, ⟨⟨ne_ rfl, Or.inl (ne_ rfl)⟩, ⟨⟨ne_ rfl, Or.inl (ne_ rfl)⟩, ⟨⟨ne_ rfl, Or.inl (ne_ rfl)⟩, ⟨⟨ne_ rfl, Or.inr rfl⟩, trivial⟩⟩⟩⟩⟩⟩ (fun ls hl => ?_)
    refine p_aload_n hx hb dX9_design_176 rfl (lv_at hl 1 rfl) ?_
    refine lv_iload hx hb dX9_design_177 (lv_at hl 0 rfl) ?_
    refine lv_if_ne (tgt := 186) hx hb dX9_design_179 (by decide) (fun c67 => ?_) (fun c67 => ?_)
    · have hf := hf.1 c67
      refine lv_iconst (v := 2) hx hb dX9_design_186 (by decide) ?_
      exact sX9_design_L187 Y hrc158 hf _ _ _ _ _ hP hL ⟨rfl, rfl⟩ (lv_sub hl [1, 2, 3, 4, 5, 6, 0] rfl)
    · have hf := hf.2 c67
      refine lv_iconst (v := 0) hx hb dX9_design_182 (by decide) ?_
      refine lv_goto (tgt := 187) hx hb dX9_design_183 (by decide) ?_
      exact sX9_design_L187 Y hrc158 hf _ _ _ _ _ hP hL ⟨rfl, rfl⟩ (lv_sub hl [1, 2, 3, 4, 5, 6, 0] rfl)
set_option maxHeartbeats 4000000 in
theorem sX9_design_L158 {G : GG_} {p : Program} {l : Launch} {e : Env} {R : Room} {s : State} {m : MethodId} {args : Array Value} {below : List Frame} {meth : Method} {c : Code} (Y : MX_ G p R s m args meth c cX9_design 10 RX9 none 7 167 0 0 "design") {post : Hp → Prop} {x0 : Nat} {x1 : Int32} {x2 : Int32} {x3 : Int32} {x4 : Int32} {x5 : Int32} {σ : Hp} (hf : wX9_design_L158 post x0 x1 x2 x3 x4 x5 σ) : WG_ G p l e R s m args below meth c (MQ below (QV_ G post) args s 0 0 (FR_ G)) BN_ 10 158 [(0, rv_ x0), (1, .int x1), (2, .int x2), (3, .int x3), (4, .int x4), (5, .int x5)] [] σ := by
  unfold wX9_design_L158 at hf
  obtain ⟨I, μ, h0, hI⟩ := hf
  have key : ∀ (n : Nat) (x4 : Int32) (x5 : Int32) (σ : Hp), I x4 x5 σ → μ x4 x5 σ < n → WG_ G p l e R s m args below meth c (MQ below (QV_ G post) args s 0 0 (FR_ G)) BN_ 10 158 [(0, rv_ x0), (1, .int x1), (2, .int x2), (3, .int x3), (4, .int x4), (5, .int x5)] [] σ := by
    intro n
    induction n with
    | zero => intro x4 x5 σ _ h; exact absurd h (Nat.not_lt_zero _)
    | succ n ih => intro x4 x5 σ hi hn; exact sX9_design_B158 Y (fun x4' x5' σ' h => ih x4' x5' σ' h.1 (Nat.lt_of_lt_of_le h.2 (Nat.le_of_lt_succ hn))) (hI x4 x5 σ hi)
  exact key _ _ _ _ h0 (Nat.lt_succ_self _)
set_option maxHeartbeats 4000000 in
theorem sX9_design_B3 {G : GG_} {p : Program} {l : Launch} {e : Env} {R : Room} {s : State} {m : MethodId} {args : Array Value} {below : List Frame} {meth : Method} {c : Code} (Y : MX_ G p R s m args meth c cX9_design 10 RX9 none 7 167 0 0 "design") {post : Hp → Prop} {rc3 : Int32 → Hp → Prop} {x0 : Nat} {x1 : Int32} {x2 : Int32} {x3 : Int32} {x4 : Int32} {σ : Hp} (hrc3 : ∀ (x4 : Int32) (σ : Hp), rc3 x4 σ → WG_ G p l e R s m args below meth c (MQ below (QV_ G post) args s 0 0 (FR_ G)) BN_ 10 3 [(0, rv_ x0), (1, .int x1), (2, .int x2), (3, .int x3), (4, .int x4)] [] σ) (hf : wX9_design_B3 post rc3 x0 x1 x2 x3 x4 σ) : WG_ G p l e R s m args below meth c (MQ below (QV_ G post) args s 0 0 (FR_ G)) BN_ 10 3 [(0, rv_ x0), (1, .int x1), (2, .int x2), (3, .int x3), (4, .int x4)] [] σ := by
  have ⟨X, hlk, hr, hRf, hRl, hRc, hnm⟩ := Y
  have ⟨⟨hx, hb, _, hown, hts⟩, _, _⟩ := X
  intro H locs cells slots ls hP hL hB hl
  obtain ⟨rfl, rfl⟩ := hB
  unfold wX9_design_B3 at hf
  refine lv_iload hx hb dX9_design_3 (lv_at hl 4 rfl) ?_
  refine lv_sipush (v := 2048) hx hb dX9_design_5 (by decide) ?_
  refine lv_iload_n hx hb dX9_design_8 rfl (lv_at hl 2 rfl) ?_
  refine lv_bipush (v := 16) hx hb dX9_design_9 (by decide) ?_
  refine lv_isub hx hb dX9_design_11 ?_
  refine lv_imul hx hb dX9_design_12 ?_
  refine lv_icmp_ge (tgt := 30) hx hb dX9_design_13 (by decide) (fun c68 => ?_) (fun c68 => ?_)
  · have hf := hf.1 c68
    refine p_aload_n hx hb dX9_design_30 rfl (lv_at hl 0 rfl) ?_
    obtain ⟨ht69, hf⟩ := hf
    refine p_gR X cf8_ (k := 21) (by decide) rfl hP ht69 q1316 (fun _ h => h) dX9_design_31 ?_
    refine lv_iconst (v := 0) hx hb dX9_design_34 (by decide) ?_
    refine lv_iconst (v := 1) hx hb dX9_design_35 (by decide) ?_
    obtain ⟨ht70, hf⟩ := hf
    obtain ⟨hlo71, hf⟩ := hf
    obtain ⟨hi72, hf⟩ := hf
    refine p_bast X hP hL ht70 hlo71 hi72 dX9_design_36 (fun H locs hP hL => ?_)
    refine p_nmP hP (fun σ73 hσ73 hP => ?_)
    have hf := hf σ73 hσ73
    have ht69 : tg_ σ73 x0 = 9 := by rw [hσ73]; exact ht69
    refine p_aload_n hx hb dX9_design_37 rfl (lv_at hl 0 rfl) ?_
    refine lv_iconst (v := 1) hx hb dX9_design_38 (by decide) ?_
    refine lv_bipush (v := 67) hx hb dX9_design_39 (by decide) ?_
    refine lv_bipush (v := 68) hx hb dX9_design_41 (by decide) ?_
    refine lv_bipush (v := 48) hx hb dX9_design_43 (by decide) ?_
    refine lv_bipush (v := 48) hx hb dX9_design_45 (by decide) ?_
    refine lv_bipush (v := 49) hx hb dX9_design_47 (by decide) ?_
    refine p_callv hL (p_runV X cf8_ hP ht69 (metX9_letters l G _ _ _ _ _ _ _ _ _ X.2.2 hf) (cwV 6 hts (lw_V q1578 q1580 qs65 q106 q1581) rfl rfl rfl (by decide +kernel) ⟨Nat.le_trans (Nat.le_of_ble_eq_true rfl) hRf, Nat.le_trans (Nat.le_of_ble_eq_true rfl) hRl⟩) rfl hl.1 rfl (by decide) dX9_design_49 ⟨Nat.zero_le _, Nat.zero_le _⟩) (fun σ74 H locs hf hP hL => ?_)
    refine p_aload_n hx hb dX9_design_52 rfl (lv_at hl 0 rfl) ?_
    obtain ⟨ht75, hf⟩ := hf
    refine p_gR X cf8_ (k := 21) (by decide) rfl hP ht75 q1316 (fun _ h => h) dX9_design_53 ?_
    refine lv_bipush (v := 6) hx hb dX9_design_56 (by decide) ?_
    refine lv_iconst (v := 1) hx hb dX9_design_58 (by decide) ?_
    obtain ⟨ht76, hf⟩ := hf
    obtain ⟨hlo77, hf⟩ := hf
    obtain ⟨hi78, hf⟩ := hf
    refine p_bast X hP hL ht76 hlo77 hi78 dX9_design_59 (fun H locs hP hL => ?_)
    refine p_nmP hP (fun σ79 hσ79 hP => ?_)
    have hf := hf σ79 hσ79
    have ht75 : tg_ σ79 x0 = 9 := by rw [hσ79]; exact ht75
    refine p_aload_n hx hb dX9_design_60 rfl (lv_at hl 0 rfl) ?_
    refine lv_bipush (v := 80) hx hb dX9_design_61 (by decide) ?_
    refine lv_iconst (v := 4) hx hb dX9_design_63 (by decide) ?_
    refine p_aload_n hx hb dX9_design_64 rfl (lv_at hl 0 rfl) ?_
    refine p_gI X cf8_ (k := 1) (by decide) rfl hP ht75 q1296 (fun _ h => h) dX9_design_65 ?_
    refine p_callv hL (p_runV X cf8_ hP ht75 (metX9_both l G _ _ _ _ _ _ X.2.2 hf) (cwV 3 hts (lw_V q1562 q1564 qs61 q106 q1565) rfl rfl rfl (by decide +kernel) ⟨Nat.le_trans (Nat.le_of_ble_eq_true rfl) hRf, Nat.le_trans (Nat.le_of_ble_eq_true rfl) hRl⟩) rfl hl.1 rfl (by decide) dX9_design_68 ⟨Nat.zero_le _, Nat.zero_le _⟩) (fun σ80 H locs hf hP hL => ?_)
    refine p_aload_n hx hb dX9_design_71 rfl (lv_at hl 0 rfl) ?_
    refine lv_sipush (v := 128) hx hb dX9_design_72 (by decide) ?_
    refine lv_iconst (v := 2) hx hb dX9_design_75 (by decide) ?_
    refine lv_sipush (v := 2048) hx hb dX9_design_76 (by decide) ?_
    obtain ⟨ht81, hf⟩ := hf
    refine p_callv hL (p_runV X cf8_ hP ht81 (metX9_both l G _ _ _ _ _ _ X.2.2 hf) (cwV 3 hts (lw_V q1562 q1564 qs61 q106 q1565) rfl rfl rfl (by decide +kernel) ⟨Nat.le_trans (Nat.le_of_ble_eq_true rfl) hRf, Nat.le_trans (Nat.le_of_ble_eq_true rfl) hRl⟩) rfl hl.1 rfl (by decide) dX9_design_79 ⟨Nat.zero_le _, Nat.zero_le _⟩) (fun σ82 H locs hf hP hL => ?_)
    refine p_aload_n hx hb dX9_design_82 rfl (lv_at hl 0 rfl) ?_
    refine lv_sipush (v := 140) hx hb dX9_design_83 (by decide) ?_
    refine lv_iconst (v := 4) hx hb dX9_design_86 (by decide) ?_
    refine lv_iload_n hx hb dX9_design_87 rfl (lv_at hl 1 rfl) ?_
    refine lv_bipush (v := 18) hx hb dX9_design_88 (by decide) ?_
    refine lv_iadd hx hb dX9_design_90 ?_
    obtain ⟨ht83, hf⟩ := hf
    refine p_callv hL (p_runV X cf8_ hP ht83 (metX9_low l G _ _ _ _ _ _ X.2.2 hf) (cwV 3 hts (lw_V q1566 q1568 qs62 q106 q1569) rfl rfl rfl (by decide +kernel) ⟨Nat.le_trans (Nat.le_of_ble_eq_true rfl) hRf, Nat.le_trans (Nat.le_of_ble_eq_true rfl) hRl⟩) rfl hl.1 rfl (by decide) dX9_design_91 ⟨Nat.zero_le _, Nat.zero_le _⟩) (fun σ84 H locs hf hP hL => ?_)
    refine p_aload_n hx hb dX9_design_94 rfl (lv_at hl 0 rfl) ?_
    refine lv_sipush (v := 148) hx hb dX9_design_95 (by decide) ?_
    refine lv_iconst (v := 4) hx hb dX9_design_98 (by decide) ?_
    refine lv_iload_n hx hb dX9_design_99 rfl (lv_at hl 1 rfl) ?_
    refine lv_bipush (v := 19) hx hb dX9_design_100 (by decide) ?_
    refine lv_iadd hx hb dX9_design_102 ?_
    obtain ⟨ht85, hf⟩ := hf
    refine p_callv hL (p_runV X cf8_ hP ht85 (metX9_high l G _ _ _ _ _ _ X.2.2 hf) (cwV 3 hts (lw_V q1570 q1572 qs63 q106 q1573) rfl rfl rfl (by decide +kernel) ⟨Nat.le_trans (Nat.le_of_ble_eq_true rfl) hRf, Nat.le_trans (Nat.le_of_ble_eq_true rfl) hRl⟩) rfl hl.1 rfl (by decide) dX9_design_103 ⟨Nat.zero_le _, Nat.zero_le _⟩) (fun σ86 H locs hf hP hL => ?_)
    refine p_aload_n hx hb dX9_design_106 rfl (lv_at hl 0 rfl) ?_
    refine lv_sipush (v := 156) hx hb dX9_design_107 (by decide) ?_
    refine lv_iconst (v := 0) hx hb dX9_design_110 (by decide) ?_
    refine lv_iconst (v := 0) hx hb dX9_design_111 (by decide) ?_
    obtain ⟨ht87, hf⟩ := hf
    refine p_callv hL (p_runV X cf8_ hP ht87 (metX9_record l G _ _ _ _ _ _ X.2.2 hf) (cwV 3 hts (lw_V q1558 q1560 qs60 q106 q1561) rfl rfl rfl (by decide +kernel) ⟨Nat.le_trans (Nat.le_of_ble_eq_true rfl) hRf, Nat.le_trans (Nat.le_of_ble_eq_true rfl) hRl⟩) rfl hl.1 rfl (by decide) dX9_design_112 ⟨Nat.zero_le _, Nat.zero_le _⟩) (fun σ88 H locs hf hP hL => ?_)
    refine p_aload_n hx hb dX9_design_115 rfl (lv_at hl 0 rfl) ?_
    obtain ⟨ht89, hf⟩ := hf
    refine p_gR X cf8_ (k := 21) (by decide) rfl hP ht89 q1316 (fun _ h => h) dX9_design_116 ?_
    refine lv_sipush (v := 2048) hx hb dX9_design_119 (by decide) ?_
    refine lv_iconst (v := (-1)) hx hb dX9_design_122 (by decide) ?_
    obtain ⟨ht90, hf⟩ := hf
    obtain ⟨hlo91, hf⟩ := hf
    obtain ⟨hi92, hf⟩ := hf
    refine p_bast X hP hL ht90 hlo91 hi92 dX9_design_123 (fun H locs hP hL => ?_)
    refine p_nmP hP (fun σ93 hσ93 hP => ?_)
    have hf := hf σ93 hσ93
    have ht89 : tg_ σ93 x0 = 9 := by rw [hσ93]; exact ht89
    refine p_aload_n hx hb dX9_design_124 rfl (lv_at hl 0 rfl) ?_
    refine lv_sipush (v := 2049) hx hb dX9_design_125 (by decide) ?_
    refine lv_bipush (v := 67) hx hb dX9_design_128 (by decide) ?_
    refine lv_bipush (v := 68) hx hb dX9_design_130 (by decide) ?_
    refine lv_bipush (v := 48) hx hb dX9_design_132 (by decide) ?_
    refine lv_bipush (v := 48) hx hb dX9_design_134 (by decide) ?_
    refine lv_bipush (v := 49) hx hb dX9_design_136 (by decide) ?_
    refine p_callv hL (p_runV X cf8_ hP ht89 (metX9_letters l G _ _ _ _ _ _ _ _ _ X.2.2 hf) (cwV 6 hts (lw_V q1578 q1580 qs65 q106 q1581) rfl rfl rfl (by decide +kernel) ⟨Nat.le_trans (Nat.le_of_ble_eq_true rfl) hRf, Nat.le_trans (Nat.le_of_ble_eq_true rfl) hRl⟩) rfl hl.1 rfl (by decide) dX9_design_138 ⟨Nat.zero_le _, Nat.zero_le _⟩) (fun σ94 H locs hf hP hL => ?_)
    refine p_aload_n hx hb dX9_design_141 rfl (lv_at hl 0 rfl) ?_
    obtain ⟨ht95, hf⟩ := hf
    refine p_gR X cf8_ (k := 21) (by decide) rfl hP ht95 q1316 (fun _ h => h) dX9_design_142 ?_
    refine lv_sipush (v := 2054) hx hb dX9_design_145 (by decide) ?_
    refine lv_iconst (v := 1) hx hb dX9_design_148 (by decide) ?_
    obtain ⟨ht96, hf⟩ := hf
    obtain ⟨hlo97, hf⟩ := hf
    obtain ⟨hi98, hf⟩ := hf
    refine p_bast X hP hL ht96 hlo97 hi98 dX9_design_149 (fun H locs hP hL => ?_)
    refine p_nmP hP (fun σ99 hσ99 hP => ?_)
    have hf := hf σ99 hσ99
    have ht95 : tg_ σ99 x0 = 9 := by rw [hσ99]; exact ht95
    refine lv_sipush (v := 4096) hx hb dX9_design_150 (by decide) ?_
    have hl := lv_sub hl [0, 1, 2, 3] rfl
    refine p_istore (i := 4) hx hb dX9_design_153 hl (by decide) ⟨⟨ne_ rfl, Or.inl (ne_ rfl)⟩, ⟨⟨ne_ rfl, Or.inl (ne_ rfl)⟩, ⟨⟨ne_ rfl, Or.inl (ne_ rfl)⟩, ⟨⟨ne_ rfl, Or.inr rfl⟩, trivial⟩⟩⟩⟩ (fun ls hl => ?_)
    refine lv_iconst (v := 0) hx hb dX9_design_155 (by decide) ?_
    refine p_istore (i := 5) hx hb dX9_design_156 hl (by decide) ⟨⟨ne_ rfl, Or.inr rfl⟩, ⟨⟨ne_ rfl, Or.inl (ne_ rfl)⟩, ⟨⟨ne_ rfl, Or.inl (ne_ rfl)⟩, ⟨⟨ne_ rfl, Or.inl (ne_ rfl)⟩, ⟨⟨ne_ rfl, Or.inl (ne_ rfl)⟩, trivial⟩⟩⟩⟩⟩ (fun ls hl => ?_)
    exact sX9_design_L158 Y hf _ _ _ _ _ hP hL ⟨rfl, rfl⟩ (lv_sub hl [2, 3, 4, 5, 1, 0] rfl)
  · have hf := hf.2 c68
    refine p_aload_n hx hb dX9_design_16 rfl (lv_at hl 0 rfl) ?_
    obtain ⟨ht100, hf⟩ := hf
    refine p_gR X cf8_ (k := 21) (by decide) rfl hP ht100 q1316 (fun _ h => h) dX9_design_17 ?_
    refine lv_iload hx hb dX9_design_20 (lv_at hl 4 rfl) ?_
    refine lv_iconst (v := 0) hx hb dX9_design_22 (by decide) ?_
    obtain ⟨ht101, hf⟩ := hf
    obtain ⟨hlo102, hf⟩ := hf
    obtain ⟨hi103, hf⟩ := hf
    refine p_bast X hP hL ht101 hlo102 hi103 dX9_design_23 (fun H locs hP hL => ?_)
    refine p_nmP hP (fun σ104 hσ104 hP => ?_)
    have hf := hf σ104 hσ104
    have ht100 : tg_ σ104 x0 = 9 := by rw [hσ104]; exact ht100
    have hl := lv_sub hl [4, 0, 1, 2, 3] rfl
    refine p_iincc (i := 4) (k := 1) hx hb (by decide) dX9_design_24 hl (by decide) ⟨⟨ne_ rfl, Or.inl (ne_ rfl)⟩, ⟨⟨ne_ rfl, Or.inl (ne_ rfl)⟩, ⟨⟨ne_ rfl, Or.inl (ne_ rfl)⟩, ⟨⟨ne_ rfl, Or.inr rfl⟩, trivial⟩⟩⟩⟩ (fun y105 hy105 ls hl => ?_)
    have hf := hf y105 hy105
    refine lv_goto (tgt := 3) hx hb dX9_design_27 (by decide) ?_
    exact hrc3 _ _ hf _ _ _ _ _ hP hL ⟨rfl, rfl⟩ (lv_sub hl [1, 2, 3, 4, 0] rfl)
set_option maxHeartbeats 4000000 in
theorem sX9_design_L3 {G : GG_} {p : Program} {l : Launch} {e : Env} {R : Room} {s : State} {m : MethodId} {args : Array Value} {below : List Frame} {meth : Method} {c : Code} (Y : MX_ G p R s m args meth c cX9_design 10 RX9 none 7 167 0 0 "design") {post : Hp → Prop} {x0 : Nat} {x1 : Int32} {x2 : Int32} {x3 : Int32} {x4 : Int32} {σ : Hp} (hf : wX9_design_L3 post x0 x1 x2 x3 x4 σ) : WG_ G p l e R s m args below meth c (MQ below (QV_ G post) args s 0 0 (FR_ G)) BN_ 10 3 [(0, rv_ x0), (1, .int x1), (2, .int x2), (3, .int x3), (4, .int x4)] [] σ := by
  unfold wX9_design_L3 at hf
  obtain ⟨I, μ, h0, hI⟩ := hf
  have key : ∀ (n : Nat) (x4 : Int32) (σ : Hp), I x4 σ → μ x4 σ < n → WG_ G p l e R s m args below meth c (MQ below (QV_ G post) args s 0 0 (FR_ G)) BN_ 10 3 [(0, rv_ x0), (1, .int x1), (2, .int x2), (3, .int x3), (4, .int x4)] [] σ := by
    intro n
    induction n with
    | zero => intro x4 σ _ h; exact absurd h (Nat.not_lt_zero _)
    | succ n ih => intro x4 σ hi hn; exact sX9_design_B3 Y (fun x4' σ' h => ih x4' σ' h.1 (Nat.lt_of_lt_of_le h.2 (Nat.le_of_lt_succ hn))) (hI x4 σ hi)
  exact key _ _ _ h0 (Nat.lt_succ_self _)
set_option maxHeartbeats 4000000 in
theorem sX9_design {G : GG_} {p : Program} {l : Launch} {e : Env} {R : Room} {s : State} {m : MethodId} {args : Array Value} {below : List Frame} {meth : Method} {c : Code} (Y : MX_ G p R s m args meth c cX9_design 10 RX9 none 7 167 0 0 "design") {post : Hp → Prop} {x0 : Nat} {x1 : Int32} {x2 : Int32} {x3 : Int32} {σ : Hp} (hf : wX9_design x0 x1 x2 x3 σ post) : WG_ G p l e R s m args below meth c (MQ below (QV_ G post) args s 0 0 (FR_ G)) BN_ 10 0 [(0, rv_ x0), (1, .int x1), (2, .int x2), (3, .int x3)] [] σ := by
  have ⟨X, hlk, hr, hRf, hRl, hRc, hnm⟩ := Y
  have ⟨⟨hx, hb, _, hown, hts⟩, _, _⟩ := X
  intro H locs cells slots ls hP hL hB hl
  obtain ⟨rfl, rfl⟩ := hB
  unfold wX9_design at hf
  refine lv_iconst (v := 0) hx hb dX9_design_0 (by decide) ?_
  refine p_istore (i := 4) hx hb dX9_design_1 hl (by decide) ⟨⟨ne_ rfl, Or.inl (ne_ rfl)⟩, ⟨⟨ne_ rfl, Or.inl (ne_ rfl)⟩, ⟨⟨ne_ rfl, Or.inl (ne_ rfl)⟩, ⟨⟨ne_ rfl, Or.inr rfl⟩, trivial⟩⟩⟩⟩ (fun ls hl => ?_)
  exact sX9_design_L3 Y hf _ _ _ _ _ hP hL ⟨rfl, rfl⟩ (lv_sub hl [1, 2, 3, 4, 0] rfl)
set_option maxHeartbeats 4000000 in
theorem metX9_design (l : Launch) (G : GG_) (x0 : Nat) (x1 : Int32) (x2 : Int32) (x3 : Int32) (σ : Hp) (post : Hp → Prop) (hG : GOK_ G) (hf : wX9_design x0 x1 x2 x3 σ post) : Met l yX9_design (ws_ yX9_design cX9_design 10 none) { frames := 7, cells := 0, slots := 0, locals := 167 } (PC_ G [rv_ x0, .int x1, .int x2, .int x3] σ) (QV_ G post) 0 0 (FR_ G) := by
  refine Met.ofW (cc := cX9_design) (maxL := 10) (ret := none) (by decide) rfl ?_
  intro p e s m args below meth c s₁ B hml hv
  obtain ⟨rfl, hP, hW⟩ := hv
  have hts := atoms_spec (ws := ws_ yX9_design cX9_design 10 none) B.pre
  have hts : ∀ w ∈ lw_all, w.before _ s = true := fun w h => hts w (List.mem_cons_of_mem _ h)
  rw [lg_entry_eq]
  have hl := en_entry [rv_ x0, .int x1, .int x2, .int x3] [1, 1, 1, 1] (n := 10) (ca_r (ca_i (ca_i (ca_i ca_n)))) (by decide)
  exact sX9_design ⟨⟨⟨B.exec, B.bytes, hml, findClass_of_methodNamed B.named, hts⟩, hW, hG⟩, B.notSynchronized, B.returns, Nat.le_refl _, Nat.le_refl _, ⟨rfl, rfl⟩, (name_of_methodNamed B.named B.method).1⟩ hf _ _ _ _ _ hP (LO_nil G) ⟨rfl, rfl⟩ hl
abbrev cX9_session : ByteArray := prog_11_method_46_code
def yX9_session : MethodName := ⟨RX9, "session", "(II)I"⟩
theorem dX9_session_0 : decode cX9_session 0 = .ok (.aload_n 0, 1) := by decide +kernel
theorem dX9_session_1 : decode cX9_session 1 = .ok (.iload_n 1, 1) := by decide +kernel
theorem dX9_session_2 : decode cX9_session 2 = .ok (.invokevirtual 228, 3) := by decide +kernel
theorem dX9_session_5 : decode cX9_session 5 = .ok (.istore_n 3, 1) := by decide +kernel
theorem dX9_session_6 : decode cX9_session 6 = .ok (.aload_n 0, 1) := by decide +kernel
theorem dX9_session_7 : decode cX9_session 7 = .ok (.iload_n 3, 1) := by decide +kernel
theorem dX9_session_8 : decode cX9_session 8 = .ok (.invokevirtual 238, 3) := by decide +kernel
theorem dX9_session_11 : decode cX9_session 11 = .ok (.istore 4, 2) := by decide +kernel
theorem dX9_session_13 : decode cX9_session 13 = .ok (.iload_n 3, 1) := by decide +kernel
theorem dX9_session_14 : decode cX9_session 14 = .ok (.iload 4, 2) := by decide +kernel
theorem dX9_session_16 : decode cX9_session 16 = .ok (.iadd, 1) := by decide +kernel
theorem dX9_session_17 : decode cX9_session 17 = .ok (.aload_n 0, 1) := by decide +kernel
theorem dX9_session_18 : decode cX9_session 18 = .ok (.getfield 99, 3) := by decide +kernel
theorem dX9_session_21 : decode cX9_session 21 = .ok (.if_icmp .le 6, 3) := by decide +kernel
theorem dX9_session_24 : decode cX9_session 24 = .ok (.bipush (-3), 2) := by decide +kernel
theorem dX9_session_26 : decode cX9_session 26 = .ok (.ireturn, 1) := by decide +kernel
theorem dX9_session_27 : decode cX9_session 27 = .ok (.aload_n 0, 1) := by decide +kernel
theorem dX9_session_28 : decode cX9_session 28 = .ok (.iload_n 3, 1) := by decide +kernel
theorem dX9_session_29 : decode cX9_session 29 = .ok (.iload 4, 2) := by decide +kernel
theorem dX9_session_31 : decode cX9_session 31 = .ok (.iload_n 2, 1) := by decide +kernel
theorem dX9_session_32 : decode cX9_session 32 = .ok (.invokevirtual 241, 3) := by decide +kernel
theorem dX9_session_35 : decode cX9_session 35 = .ok (.iconst 0, 1) := by decide +kernel
theorem dX9_session_36 : decode cX9_session 36 = .ok (.istore 5, 2) := by decide +kernel
theorem dX9_session_38 : decode cX9_session 38 = .ok (.bipush 16, 2) := by decide +kernel
theorem dX9_session_40 : decode cX9_session 40 = .ok (.istore 6, 2) := by decide +kernel
theorem dX9_session_42 : decode cX9_session 42 = .ok (.iload 6, 2) := by decide +kernel
theorem dX9_session_44 : decode cX9_session 44 = .ok (.iload 4, 2) := by decide +kernel
theorem dX9_session_46 : decode cX9_session 46 = .ok (.if_icmp .ge 66, 3) := by decide +kernel
theorem dX9_session_49 : decode cX9_session 49 = .ok (.iload 5, 2) := by decide +kernel
theorem dX9_session_51 : decode cX9_session 51 = .ok (.ifCond .ne 61, 3) := by decide +kernel
theorem dX9_session_54 : decode cX9_session 54 = .ok (.iconst 0, 1) := by decide +kernel
theorem dX9_session_55 : decode cX9_session 55 = .ok (.istore 7, 2) := by decide +kernel
theorem dX9_session_57 : decode cX9_session 57 = .ok (.iload 7, 2) := by decide +kernel
theorem dX9_session_59 : decode cX9_session 59 = .ok (.sipush 2048, 3) := by decide +kernel
theorem dX9_session_62 : decode cX9_session 62 = .ok (.if_icmp .ge 33, 3) := by decide +kernel
theorem dX9_session_65 : decode cX9_session 65 = .ok (.aload_n 0, 1) := by decide +kernel
theorem dX9_session_66 : decode cX9_session 66 = .ok (.getfield 21, 3) := by decide +kernel
theorem dX9_session_69 : decode cX9_session 69 = .ok (.iload 7, 2) := by decide +kernel
theorem dX9_session_71 : decode cX9_session 71 = .ok (.aload_n 0, 1) := by decide +kernel
theorem dX9_session_72 : decode cX9_session 72 = .ok (.getfield 54, 3) := by decide +kernel
theorem dX9_session_75 : decode cX9_session 75 = .ok (.sipush 2048, 3) := by decide +kernel
theorem dX9_session_78 : decode cX9_session 78 = .ok (.iload 6, 2) := by decide +kernel
theorem dX9_session_80 : decode cX9_session 80 = .ok (.bipush 16, 2) := by decide +kernel
theorem dX9_session_82 : decode cX9_session 82 = .ok (.isub, 1) := by decide +kernel
theorem dX9_session_83 : decode cX9_session 83 = .ok (.imul, 1) := by decide +kernel
theorem dX9_session_84 : decode cX9_session 84 = .ok (.iload 7, 2) := by decide +kernel
theorem dX9_session_86 : decode cX9_session 86 = .ok (.iadd, 1) := by decide +kernel
theorem dX9_session_87 : decode cX9_session 87 = .ok (.baload, 1) := by decide +kernel
theorem dX9_session_88 : decode cX9_session 88 = .ok (.bastore, 1) := by decide +kernel
theorem dX9_session_89 : decode cX9_session 89 = .ok (.iinc 7 1, 3) := by decide +kernel
theorem dX9_session_92 : decode cX9_session 92 = .ok (.goto (-35), 3) := by decide +kernel
theorem dX9_session_95 : decode cX9_session 95 = .ok (.aload_n 0, 1) := by decide +kernel
theorem dX9_session_96 : decode cX9_session 96 = .ok (.iload_n 1, 1) := by decide +kernel
theorem dX9_session_97 : decode cX9_session 97 = .ok (.iload_n 3, 1) := by decide +kernel
theorem dX9_session_98 : decode cX9_session 98 = .ok (.iload 6, 2) := by decide +kernel
theorem dX9_session_100 : decode cX9_session 100 = .ok (.iadd, 1) := by decide +kernel
theorem dX9_session_101 : decode cX9_session 101 = .ok (.invokevirtual 235, 3) := by decide +kernel
theorem dX9_session_104 : decode cX9_session 104 = .ok (.istore 5, 2) := by decide +kernel
theorem dX9_session_106 : decode cX9_session 106 = .ok (.iinc 6 1, 3) := by decide +kernel
theorem dX9_session_109 : decode cX9_session 109 = .ok (.goto (-67), 3) := by decide +kernel
theorem dX9_session_112 : decode cX9_session 112 = .ok (.iload 5, 2) := by decide +kernel
theorem dX9_session_114 : decode cX9_session 114 = .ok (.iconst 2, 1) := by decide +kernel
theorem dX9_session_115 : decode cX9_session 115 = .ok (.if_icmp .ne 6, 3) := by decide +kernel
theorem dX9_session_118 : decode cX9_session 118 = .ok (.bipush (-4), 2) := by decide +kernel
theorem dX9_session_120 : decode cX9_session 120 = .ok (.ireturn, 1) := by decide +kernel
theorem dX9_session_121 : decode cX9_session 121 = .ok (.iload 5, 2) := by decide +kernel
theorem dX9_session_123 : decode cX9_session 123 = .ok (.ifCond .ne 5, 3) := by decide +kernel
theorem dX9_session_126 : decode cX9_session 126 = .ok (.iload_n 2, 1) := by decide +kernel
theorem dX9_session_127 : decode cX9_session 127 = .ok (.ireturn, 1) := by decide +kernel
theorem dX9_session_128 : decode cX9_session 128 = .ok (.goto (-128), 3) := by decide +kernel
/-- WriteOnceDiscModel.session(II)I -/
def wX9_session_L112 (post : Int32 → Hp → Prop) (rc0 : Hp → Prop) (x0 : Nat) (x1 : Int32) (x2 : Int32) (x5 : Int32) (σ : Hp) : Prop :=
((¬ x5 = (2 : Int32) →
  ((¬ x5 = 0 →
   rc0 σ) ∧
  (x5 = 0 →
   post x2 σ))) ∧
 (x5 = (2 : Int32) →
  post (-4 : Int32) σ))
def wX9_session_B57 (post : Int32 → Hp → Prop) (rc0 : Hp → Prop) (rc42 : Int32 → Int32 → Hp → Prop) (rc57 : Int32 → Hp → Prop) (x0 : Nat) (x1 : Int32) (x2 : Int32) (x3 : Int32) (x4 : Int32) (x6 : Int32) (x7 : Int32) (σ : Hp) : Prop :=
(((2048 : Int32) ≤ x7 →
  (tg_ σ x0 = 9 ∧ (wX9_burn x0 x1 (x3 + x6) σ (fun r5 σ6 => (∀ y7 : Int32, y7 = x6 + 1 → rc42 r5 y7 σ6))))) ∧
 (¬ (2048 : Int32) ≤ x7 →
  (tg_ σ x0 = 9 ∧ (tg_ σ (fR_ σ 8 21 x0) = 100 ∧ (vp_in (((2048 : Int32) * (x6 - (16 : Int32))) + x7) (ln_ σ (fR_ σ 8 21 x0)) ∧ (tg_ σ (fR_ σ 8 9 x0) = 100 ∧ (lo_ σ < (fR_ σ 8 9 x0) ∧ (vp_in x7 (ln_ σ (fR_ σ 8 9 x0)) ∧ (∀ σ14, σ14 = wI_ σ (fR_ σ 8 9 x0) (x7).toNatClampNeg (vp_nar .byte (aI_ σ (fR_ σ 8 21 x0) ((((2048 : Int32) * (x6 - (16 : Int32))) + x7)).toNatClampNeg)) → (∀ y15 : Int32, y15 = x7 + 1 → rc57 y15 σ14))))))))))
def wX9_session_L57 (post : Int32 → Hp → Prop) (rc0 : Hp → Prop) (rc42 : Int32 → Int32 → Hp → Prop) (x0 : Nat) (x1 : Int32) (x2 : Int32) (x3 : Int32) (x4 : Int32) (x6 : Int32) (x7 : Int32) (σ : Hp) : Prop :=
 ∃ (I : Int32 → Hp → Prop) (μ : Int32 → Hp → Nat), I x7 σ ∧ ∀ (x7 : Int32) (σ : Hp), I x7 σ → wX9_session_B57 post rc0 rc42 (fun x7' σ' => I x7' σ' ∧ μ x7' σ' < μ x7 σ) x0 x1 x2 x3 x4 x6 x7 σ
def wX9_session_B42 (post : Int32 → Hp → Prop) (rc0 : Hp → Prop) (rc42 : Int32 → Int32 → Hp → Prop) (x0 : Nat) (x1 : Int32) (x2 : Int32) (x3 : Int32) (x4 : Int32) (x5 : Int32) (x6 : Int32) (σ : Hp) : Prop :=
((x4 ≤ x6 →
  wX9_session_L112 post rc0 x0 x1 x2 x5 σ) ∧
 (¬ x4 ≤ x6 →
  ((¬ x5 = 0 →
   wX9_session_L112 post rc0 x0 x1 x2 x5 σ) ∧
  (x5 = 0 →
   wX9_session_L57 post rc0 rc42 x0 x1 x2 x3 x4 x6 (0 : Int32) σ))))
def wX9_session_L42 (post : Int32 → Hp → Prop) (rc0 : Hp → Prop) (x0 : Nat) (x1 : Int32) (x2 : Int32) (x3 : Int32) (x4 : Int32) (x5 : Int32) (x6 : Int32) (σ : Hp) : Prop :=
 ∃ (I : Int32 → Int32 → Hp → Prop) (μ : Int32 → Int32 → Hp → Nat), I x5 x6 σ ∧ ∀ (x5 : Int32) (x6 : Int32) (σ : Hp), I x5 x6 σ → wX9_session_B42 post rc0 (fun x5' x6' σ' => I x5' x6' σ' ∧ μ x5' x6' σ' < μ x5 x6 σ) x0 x1 x2 x3 x4 x5 x6 σ
def wX9_session_B0 (post : Int32 → Hp → Prop) (rc0 : Hp → Prop) (x0 : Nat) (x1 : Int32) (x2 : Int32) (σ : Hp) : Prop :=
(tg_ σ x0 = 9 ∧ (wX9_frontOf x0 x1 σ (fun r19 => (wX9_measure x0 r19 σ (fun r20 σ21 => (tg_ σ21 x0 = 9 ∧ (((r19 + r20) ≤ (fI_ σ21 8 1 x0) →
  (wX9_design x0 r19 r20 x2 σ21 (fun σ24 => wX9_session_L42 post rc0 x0 x1 x2 r19 r20 (0 : Int32) (16 : Int32) σ24))) ∧
 (¬ (r19 + r20) ≤ (fI_ σ21 8 1 x0) →
  post (-3 : Int32) σ21))))))))
def wX9_session_L0 (post : Int32 → Hp → Prop) (x0 : Nat) (x1 : Int32) (x2 : Int32) (σ : Hp) : Prop :=
 ∃ (I : Hp → Prop) (μ : Hp → Nat), I σ ∧ ∀  (σ : Hp), I σ → wX9_session_B0 post (fun σ' => I σ' ∧ μ σ' < μ σ) x0 x1 x2 σ
def wX9_session (x0 : Nat) (x1 : Int32) (x2 : Int32) (σ : Hp) (post : Int32 → Hp → Prop) : Prop :=
 wX9_session_L0 post x0 x1 x2 σ
set_option maxHeartbeats 4000000 in
theorem sX9_session_L112 {G : GG_} {p : Program} {l : Launch} {e : Env} {R : Room} {s : State} {m : MethodId} {args : Array Value} {below : List Frame} {meth : Method} {c : Code} (Y : MX_ G p R s m args meth c cX9_session 8 RX9 (some Jvm.ClassFile.FieldType.int) 8 196 0 0 "session") {post : Int32 → Hp → Prop} {rc0 : Hp → Prop} {x0 : Nat} {x1 : Int32} {x2 : Int32} {x5 : Int32} {σ : Hp} (hrc0 : ∀  (σ : Hp), rc0 σ → WG_ G p l e R s m args below meth c (MQ below (QI_ G post) args s 0 0 (FR_ G)) BN_ 8 0 [(0, rv_ x0), (1, .int x1), (2, .int x2)] [] σ) (hf : wX9_session_L112 post rc0 x0 x1 x2 x5 σ) : WG_ G p l e R s m args below meth c (MQ below (QI_ G post) args s 0 0 (FR_ G)) BN_ 8 112 [(0, rv_ x0), (1, .int x1), (2, .int x2), (5, .int x5)] [] σ := by
  have ⟨X, hlk, hr, hRf, hRl, hRc, hnm⟩ := Y
  have ⟨⟨hx, hb, _, hown, hts⟩, _, _⟩ := X
  intro H locs cells slots ls hP hL hB hl
  obtain ⟨rfl, rfl⟩ := hB
  unfold wX9_session_L112 at hf
  refine lv_iload hx hb dX9_session_112 (lv_at hl 3 rfl) ?_
  refine lv_iconst (v := 2) hx hb dX9_session_114 (by decide) ?_
  refine lv_icmp_ne (tgt := 121) hx hb dX9_session_115 (by decide) (fun c1 => ?_) (fun c1 => ?_)
  · have hf := hf.1 c1
    refine lv_iload hx hb dX9_session_121 (lv_at hl 3 rfl) ?_
    refine lv_if_ne (tgt := 128) hx hb dX9_session_123 (by decide) (fun c2 => ?_) (fun c2 => ?_)
    · have hf := hf.1 c2
      refine lv_goto (tgt := 0) hx hb dX9_session_128 (by decide) ?_
      exact hrc0 _ hf _ _ _ _ _ hP hL ⟨rfl, rfl⟩ (lv_sub hl [0, 1, 2] rfl)
    · have hf := hf.2 c2
      refine lv_iload_n hx hb dX9_session_126 rfl (lv_at hl 2 rfl) ?_
      exact p_iret X hlk hP hL (Nat.le_refl _) (Nat.le_refl _) hr dX9_session_127 hf
  · have hf := hf.2 c1
    refine lv_bipush (v := (-4)) hx hb dX9_session_118 (by decide) ?_
    exact p_iret X hlk hP hL (Nat.le_refl _) (Nat.le_refl _) hr dX9_session_120 hf
set_option maxHeartbeats 4000000 in
theorem sX9_session_B57 {G : GG_} {p : Program} {l : Launch} {e : Env} {R : Room} {s : State} {m : MethodId} {args : Array Value} {below : List Frame} {meth : Method} {c : Code} (Y : MX_ G p R s m args meth c cX9_session 8 RX9 (some Jvm.ClassFile.FieldType.int) 8 196 0 0 "session") {post : Int32 → Hp → Prop} {rc0 : Hp → Prop} {rc42 : Int32 → Int32 → Hp → Prop} {rc57 : Int32 → Hp → Prop} {x0 : Nat} {x1 : Int32} {x2 : Int32} {x3 : Int32} {x4 : Int32} {x6 : Int32} {x7 : Int32} {σ : Hp} (hrc0 : ∀  (σ : Hp), rc0 σ → WG_ G p l e R s m args below meth c (MQ below (QI_ G post) args s 0 0 (FR_ G)) BN_ 8 0 [(0, rv_ x0), (1, .int x1), (2, .int x2)] [] σ) (hrc42 : ∀ (x5 : Int32) (x6 : Int32) (σ : Hp), rc42 x5 x6 σ → WG_ G p l e R s m args below meth c (MQ below (QI_ G post) args s 0 0 (FR_ G)) BN_ 8 42 [(0, rv_ x0), (1, .int x1), (2, .int x2), (3, .int x3), (4, .int x4), (5, .int x5), (6, .int x6)] [] σ) (hrc57 : ∀ (x7 : Int32) (σ : Hp), rc57 x7 σ → WG_ G p l e R s m args below meth c (MQ below (QI_ G post) args s 0 0 (FR_ G)) BN_ 8 57 [(0, rv_ x0), (1, .int x1), (2, .int x2), (3, .int x3), (4, .int x4), (6, .int x6), (7, .int x7)] [] σ) (hf : wX9_session_B57 post rc0 rc42 rc57 x0 x1 x2 x3 x4 x6 x7 σ) : WG_ G p l e R s m args below meth c (MQ below (QI_ G post) args s 0 0 (FR_ G)) BN_ 8 57 [(0, rv_ x0), (1, .int x1), (2, .int x2), (3, .int x3), (4, .int x4), (6, .int x6), (7, .int x7)] [] σ := by
  have ⟨X, hlk, hr, hRf, hRl, hRc, hnm⟩ := Y
  have ⟨⟨hx, hb, _, hown, hts⟩, _, _⟩ := X
  intro H locs cells slots ls hP hL hB hl
  obtain ⟨rfl, rfl⟩ := hB
  unfold wX9_session_B57 at hf
  refine lv_iload hx hb dX9_session_57 (lv_at hl 6 rfl) ?_
  refine lv_sipush (v := 2048) hx hb dX9_session_59 (by decide) ?_
  refine lv_icmp_ge (tgt := 95) hx hb dX9_session_62 (by decide) (fun c3 => ?_) (fun c3 => ?_)
  · have hf := hf.1 c3
    refine p_aload_n hx hb dX9_session_95 rfl (lv_at hl 0 rfl) ?_
    refine lv_iload_n hx hb dX9_session_96 rfl (lv_at hl 1 rfl) ?_
    refine lv_iload_n hx hb dX9_session_97 rfl (lv_at hl 3 rfl) ?_
    refine lv_iload hx hb dX9_session_98 (lv_at hl 5 rfl) ?_
    refine lv_iadd hx hb dX9_session_100 ?_
    obtain ⟨ht4, hf⟩ := hf
    refine p_calli hL (p_runV X cf8_ hP ht4 (metX9_burn l G _ _ _ _ _ X.2.2 hf) (cwV 2 hts (lw_V q1512 q1514 qs53 q106 q1515) rfl rfl rfl (by decide +kernel) ⟨Nat.le_trans (Nat.le_of_ble_eq_true rfl) hRf, Nat.le_trans (Nat.le_of_ble_eq_true rfl) hRl⟩) rfl hl.1 rfl (by decide) dX9_session_101 ⟨Nat.zero_le _, Nat.zero_le _⟩) (fun r5 σ6 H locs hf hP hL => ?_)
    have hl := lv_sub hl [0, 1, 2, 3, 4, 5] rfl
    refine p_istore (i := 5) hx hb dX9_session_104 hl (by decide) ⟨⟨ne_ rfl, Or.inl (ne_ rfl)⟩, ⟨⟨ne_ rfl, Or.inl (ne_ rfl)⟩, ⟨⟨ne_ rfl, Or.inl (ne_ rfl)⟩, ⟨⟨ne_ rfl, Or.inl (ne_ rfl)⟩, ⟨⟨ne_ rfl, Or.inr rfl⟩, ⟨⟨ne_ rfl, Or.inl (ne_ rfl)⟩, trivial⟩⟩⟩⟩⟩⟩ (fun ls hl => ?_)
    have hl := lv_sub hl [6, 0, 1, 2, 3, 4, 5] rfl
    refine p_iincc (i := 6) (k := 1) hx hb (by decide) dX9_session_106 hl (by decide) ⟨⟨ne_ rfl, Or.inr rfl⟩, ⟨⟨ne_ rfl, Or.inl (ne_ rfl)⟩, ⟨⟨ne_ rfl, Or.inl (ne_ rfl)⟩, ⟨⟨ne_ rfl, Or.inl (ne_ rfl)⟩, ⟨⟨ne_ rfl, Or.inl (ne_ rfl)⟩, ⟨⟨ne_ rfl, Or.inl (ne_ rfl)⟩, trivial⟩⟩⟩⟩⟩⟩ (fun y7 hy7 ls hl => ?_)
    have hf := hf y7 hy7
    refine lv_goto (tgt := 42) hx hb dX9_session_109 (by decide) ?_
    exact hrc42 _ _ _ hf _ _ _ _ _ hP hL ⟨rfl, rfl⟩ (lv_sub hl [2, 3, 4, 5, 6, 1, 0] rfl)
  · have hf := hf.2 c3
    refine p_aload_n hx hb dX9_session_65 rfl (lv_at hl 0 rfl) ?_
    obtain ⟨ht8, hf⟩ := hf
    refine p_gR X cf8_ (k := 9) (by decide) rfl hP ht8 q1304 (fun _ h => h) dX9_session_66 ?_
    refine lv_iload hx hb dX9_session_69 (lv_at hl 6 rfl) ?_
    refine p_aload_n hx hb dX9_session_71 rfl (lv_at hl 0 rfl) ?_
    refine p_gR X cf8_ (k := 21) (by decide) rfl hP ht8 q1316 (fun _ h => h) dX9_session_72 ?_
    refine lv_sipush (v := 2048) hx hb dX9_session_75 (by decide) ?_
    refine lv_iload hx hb dX9_session_78 (lv_at hl 5 rfl) ?_
    refine lv_bipush (v := 16) hx hb dX9_session_80 (by decide) ?_
    refine lv_isub hx hb dX9_session_82 ?_
    refine lv_imul hx hb dX9_session_83 ?_
    refine lv_iload hx hb dX9_session_84 (lv_at hl 6 rfl) ?_
    refine lv_iadd hx hb dX9_session_86 ?_
    obtain ⟨ht9, hf⟩ := hf
    obtain ⟨hi10, hf⟩ := hf
    refine p_bald X hP ht9 hi10 dX9_session_87 ?_
    obtain ⟨ht11, hf⟩ := hf
    obtain ⟨hlo12, hf⟩ := hf
    obtain ⟨hi13, hf⟩ := hf
    refine p_bast X hP hL ht11 hlo12 hi13 dX9_session_88 (fun H locs hP hL => ?_)
    refine p_nmP hP (fun σ14 hσ14 hP => ?_)
    have hf := hf σ14 hσ14
    have ht8 : tg_ σ14 x0 = 9 := by rw [hσ14]; exact ht8
    have hl := lv_sub hl [6, 0, 1, 2, 3, 4, 5] rfl
    refine p_iincc (i := 7) (k := 1) hx hb (by decide) dX9_session_89 hl (by decide) ⟨⟨ne_ rfl, Or.inl (ne_ rfl)⟩, ⟨⟨ne_ rfl, Or.inl (ne_ rfl)⟩, ⟨⟨ne_ rfl, Or.inl (ne_ rfl)⟩, ⟨⟨ne_ rfl, Or.inl (ne_ rfl)⟩, ⟨⟨ne_ rfl, Or.inl (ne_ rfl)⟩, ⟨⟨ne_ rfl, Or.inr rfl⟩, trivial⟩⟩⟩⟩⟩⟩ (fun y15 hy15 ls hl => ?_)
    have hf := hf y15 hy15
    refine lv_goto (tgt := 57) hx hb dX9_session_92 (by decide) ?_
    exact hrc57 _ _ hf _ _ _ _ _ hP hL ⟨rfl, rfl⟩ (lv_sub hl [1, 2, 3, 4, 5, 6, 0] rfl)
set_option maxHeartbeats 4000000 in
theorem sX9_session_L57 {G : GG_} {p : Program} {l : Launch} {e : Env} {R : Room} {s : State} {m : MethodId} {args : Array Value} {below : List Frame} {meth : Method} {c : Code} (Y : MX_ G p R s m args meth c cX9_session 8 RX9 (some Jvm.ClassFile.FieldType.int) 8 196 0 0 "session") {post : Int32 → Hp → Prop} {rc0 : Hp → Prop} {rc42 : Int32 → Int32 → Hp → Prop} {x0 : Nat} {x1 : Int32} {x2 : Int32} {x3 : Int32} {x4 : Int32} {x6 : Int32} {x7 : Int32} {σ : Hp} (hrc0 : ∀  (σ : Hp), rc0 σ → WG_ G p l e R s m args below meth c (MQ below (QI_ G post) args s 0 0 (FR_ G)) BN_ 8 0 [(0, rv_ x0), (1, .int x1), (2, .int x2)] [] σ) (hrc42 : ∀ (x5 : Int32) (x6 : Int32) (σ : Hp), rc42 x5 x6 σ → WG_ G p l e R s m args below meth c (MQ below (QI_ G post) args s 0 0 (FR_ G)) BN_ 8 42 [(0, rv_ x0), (1, .int x1), (2, .int x2), (3, .int x3), (4, .int x4), (5, .int x5), (6, .int x6)] [] σ) (hf : wX9_session_L57 post rc0 rc42 x0 x1 x2 x3 x4 x6 x7 σ) : WG_ G p l e R s m args below meth c (MQ below (QI_ G post) args s 0 0 (FR_ G)) BN_ 8 57 [(0, rv_ x0), (1, .int x1), (2, .int x2), (3, .int x3), (4, .int x4), (6, .int x6), (7, .int x7)] [] σ := by
  unfold wX9_session_L57 at hf
  obtain ⟨I, μ, h0, hI⟩ := hf
  have key : ∀ (n : Nat) (x7 : Int32) (σ : Hp), I x7 σ → μ x7 σ < n → WG_ G p l e R s m args below meth c (MQ below (QI_ G post) args s 0 0 (FR_ G)) BN_ 8 57 [(0, rv_ x0), (1, .int x1), (2, .int x2), (3, .int x3), (4, .int x4), (6, .int x6), (7, .int x7)] [] σ := by
    intro n
    induction n with
    | zero => intro x7 σ _ h; exact absurd h (Nat.not_lt_zero _)
    | succ n ih => intro x7 σ hi hn; exact sX9_session_B57 Y hrc0 hrc42 (fun x7' σ' h => ih x7' σ' h.1 (Nat.lt_of_lt_of_le h.2 (Nat.le_of_lt_succ hn))) (hI x7 σ hi)
  exact key _ _ _ h0 (Nat.lt_succ_self _)
set_option maxHeartbeats 4000000 in
theorem sX9_session_B42 {G : GG_} {p : Program} {l : Launch} {e : Env} {R : Room} {s : State} {m : MethodId} {args : Array Value} {below : List Frame} {meth : Method} {c : Code} (Y : MX_ G p R s m args meth c cX9_session 8 RX9 (some Jvm.ClassFile.FieldType.int) 8 196 0 0 "session") {post : Int32 → Hp → Prop} {rc0 : Hp → Prop} {rc42 : Int32 → Int32 → Hp → Prop} {x0 : Nat} {x1 : Int32} {x2 : Int32} {x3 : Int32} {x4 : Int32} {x5 : Int32} {x6 : Int32} {σ : Hp} (hrc0 : ∀  (σ : Hp), rc0 σ → WG_ G p l e R s m args below meth c (MQ below (QI_ G post) args s 0 0 (FR_ G)) BN_ 8 0 [(0, rv_ x0), (1, .int x1), (2, .int x2)] [] σ) (hrc42 : ∀ (x5 : Int32) (x6 : Int32) (σ : Hp), rc42 x5 x6 σ → WG_ G p l e R s m args below meth c (MQ below (QI_ G post) args s 0 0 (FR_ G)) BN_ 8 42 [(0, rv_ x0), (1, .int x1), (2, .int x2), (3, .int x3), (4, .int x4), (5, .int x5), (6, .int x6)] [] σ) (hf : wX9_session_B42 post rc0 rc42 x0 x1 x2 x3 x4 x5 x6 σ) : WG_ G p l e R s m args below meth c (MQ below (QI_ G post) args s 0 0 (FR_ G)) BN_ 8 42 [(0, rv_ x0), (1, .int x1), (2, .int x2), (3, .int x3), (4, .int x4), (5, .int x5), (6, .int x6)] [] σ := by
  have ⟨X, hlk, hr, hRf, hRl, hRc, hnm⟩ := Y
  have ⟨⟨hx, hb, _, hown, hts⟩, _, _⟩ := X
  intro H locs cells slots ls hP hL hB hl
  obtain ⟨rfl, rfl⟩ := hB
  unfold wX9_session_B42 at hf
  refine lv_iload hx hb dX9_session_42 (lv_at hl 6 rfl) ?_
  refine lv_iload hx hb dX9_session_44 (lv_at hl 4 rfl) ?_
  refine lv_icmp_ge (tgt := 112) hx hb dX9_session_46 (by decide) (fun c16 => ?_) (fun c16 => ?_)
  · have hf := hf.1 c16
    exact sX9_session_L112 Y hrc0 hf _ _ _ _ _ hP hL ⟨rfl, rfl⟩ (lv_sub hl [0, 1, 2, 5] rfl)
  · have hf := hf.2 c16
    refine lv_iload hx hb dX9_session_49 (lv_at hl 5 rfl) ?_
    refine lv_if_ne (tgt := 112) hx hb dX9_session_51 (by decide) (fun c17 => ?_) (fun c17 => ?_)
    · have hf := hf.1 c17
      exact sX9_session_L112 Y hrc0 hf _ _ _ _ _ hP hL ⟨rfl, rfl⟩ (lv_sub hl [0, 1, 2, 5] rfl)
    · have hf := hf.2 c17
      refine lv_iconst (v := 0) hx hb dX9_session_54 (by decide) ?_
      have hl := lv_sub hl [0, 1, 2, 3, 4, 6] rfl
      refine p_istore (i := 7) hx hb dX9_session_55 hl (by decide) ⟨⟨ne_ rfl, Or.inl (ne_ rfl)⟩, ⟨⟨ne_ rfl, Or.inl (ne_ rfl)⟩, ⟨⟨ne_ rfl, Or.inl (ne_ rfl)⟩, ⟨⟨ne_ rfl, Or.inl (ne_ rfl)⟩, ⟨⟨ne_ rfl, Or.inl (ne_ rfl)⟩, ⟨⟨ne_ rfl, Or.inr rfl⟩, trivial⟩⟩⟩⟩⟩⟩ (fun ls hl => ?_)
      exact sX9_session_L57 Y hrc0 hrc42 hf _ _ _ _ _ hP hL ⟨rfl, rfl⟩ (lv_sub hl [1, 2, 3, 4, 5, 6, 0] rfl)
set_option maxHeartbeats 4000000 in
theorem sX9_session_L42 {G : GG_} {p : Program} {l : Launch} {e : Env} {R : Room} {s : State} {m : MethodId} {args : Array Value} {below : List Frame} {meth : Method} {c : Code} (Y : MX_ G p R s m args meth c cX9_session 8 RX9 (some Jvm.ClassFile.FieldType.int) 8 196 0 0 "session") {post : Int32 → Hp → Prop} {rc0 : Hp → Prop} {x0 : Nat} {x1 : Int32} {x2 : Int32} {x3 : Int32} {x4 : Int32} {x5 : Int32} {x6 : Int32} {σ : Hp} (hrc0 : ∀  (σ : Hp), rc0 σ → WG_ G p l e R s m args below meth c (MQ below (QI_ G post) args s 0 0 (FR_ G)) BN_ 8 0 [(0, rv_ x0), (1, .int x1), (2, .int x2)] [] σ) (hf : wX9_session_L42 post rc0 x0 x1 x2 x3 x4 x5 x6 σ) : WG_ G p l e R s m args below meth c (MQ below (QI_ G post) args s 0 0 (FR_ G)) BN_ 8 42 [(0, rv_ x0), (1, .int x1), (2, .int x2), (3, .int x3), (4, .int x4), (5, .int x5), (6, .int x6)] [] σ := by
  unfold wX9_session_L42 at hf
  obtain ⟨I, μ, h0, hI⟩ := hf
  have key : ∀ (n : Nat) (x5 : Int32) (x6 : Int32) (σ : Hp), I x5 x6 σ → μ x5 x6 σ < n → WG_ G p l e R s m args below meth c (MQ below (QI_ G post) args s 0 0 (FR_ G)) BN_ 8 42 [(0, rv_ x0), (1, .int x1), (2, .int x2), (3, .int x3), (4, .int x4), (5, .int x5), (6, .int x6)] [] σ := by
    intro n
    induction n with
    | zero => intro x5 x6 σ _ h; exact absurd h (Nat.not_lt_zero _)
    | succ n ih => intro x5 x6 σ hi hn; exact sX9_session_B42 Y hrc0 (fun x5' x6' σ' h => ih x5' x6' σ' h.1 (Nat.lt_of_lt_of_le h.2 (Nat.le_of_lt_succ hn))) (hI x5 x6 σ hi)
  exact key _ _ _ _ h0 (Nat.lt_succ_self _)
set_option maxHeartbeats 4000000 in
theorem sX9_session_B0 {G : GG_} {p : Program} {l : Launch} {e : Env} {R : Room} {s : State} {m : MethodId} {args : Array Value} {below : List Frame} {meth : Method} {c : Code} (Y : MX_ G p R s m args meth c cX9_session 8 RX9 (some Jvm.ClassFile.FieldType.int) 8 196 0 0 "session") {post : Int32 → Hp → Prop} {rc0 : Hp → Prop} {x0 : Nat} {x1 : Int32} {x2 : Int32} {σ : Hp} (hrc0 : ∀  (σ : Hp), rc0 σ → WG_ G p l e R s m args below meth c (MQ below (QI_ G post) args s 0 0 (FR_ G)) BN_ 8 0 [(0, rv_ x0), (1, .int x1), (2, .int x2)] [] σ) (hf : wX9_session_B0 post rc0 x0 x1 x2 σ) : WG_ G p l e R s m args below meth c (MQ below (QI_ G post) args s 0 0 (FR_ G)) BN_ 8 0 [(0, rv_ x0), (1, .int x1), (2, .int x2)] [] σ := by
  have ⟨X, hlk, hr, hRf, hRl, hRc, hnm⟩ := Y
  have ⟨⟨hx, hb, _, hown, hts⟩, _, _⟩ := X
  intro H locs cells slots ls hP hL hB hl
  obtain ⟨rfl, rfl⟩ := hB
  unfold wX9_session_B0 at hf
  refine p_aload_n hx hb dX9_session_0 rfl (lv_at hl 0 rfl) ?_
  refine lv_iload_n hx hb dX9_session_1 rfl (lv_at hl 1 rfl) ?_
  obtain ⟨ht18, hf⟩ := hf
  refine p_calli hL (p_runV X cf8_ hP ht18 (metX9_frontOf l G _ _ _ _ X.2.2 hf) (cwV 1 hts (lw_V q1500 q1502 qs50 q106 q1503) rfl rfl rfl (by decide +kernel) ⟨Nat.le_trans (Nat.le_of_ble_eq_true rfl) hRf, Nat.le_trans (Nat.le_of_ble_eq_true rfl) hRl⟩) rfl hl.1 rfl (by decide) dX9_session_2 ⟨Nat.zero_le _, Nat.zero_le _⟩) (fun r19 σ₁ H locs hf hP hL => ?_)
  obtain ⟨e₁, hf⟩ := hf
  rw [e₁] at hP
  refine p_istore_n (i := 3) hx hb dX9_session_5 rfl hl (by decide) ⟨⟨ne_ rfl, Or.inl (ne_ rfl)⟩, ⟨⟨ne_ rfl, Or.inl (ne_ rfl)⟩, ⟨⟨ne_ rfl, Or.inr rfl⟩, trivial⟩⟩⟩ (fun ls hl => ?_)
  refine p_aload_n hx hb dX9_session_6 rfl (lv_at hl 1 rfl) ?_
  refine lv_iload_n hx hb dX9_session_7 rfl (lv_at hl 0 rfl) ?_
  refine p_calli hL (p_runV X cf8_ hP ht18 (metX9_measure l G _ _ _ _ X.2.2 hf) (cwV 1 hts (lw_V q1520 q1522 qs55 q106 q1523) rfl rfl rfl (by decide +kernel) ⟨Nat.le_trans (Nat.le_of_ble_eq_true rfl) hRf, Nat.le_trans (Nat.le_of_ble_eq_true rfl) hRl⟩) rfl hl.1 rfl (by decide) dX9_session_8 ⟨Nat.zero_le _, Nat.zero_le _⟩) (fun r20 σ21 H locs hf hP hL => ?_)
  refine p_istore (i := 4) hx hb dX9_session_11 hl (by decide) ⟨⟨ne_ rfl, Or.inr rfl⟩, ⟨⟨ne_ rfl, Or.inl (ne_ rfl)⟩, ⟨⟨ne_ rfl, Or.inl (ne_ rfl)⟩, ⟨⟨ne_ rfl, Or.inl (ne_ rfl)⟩, trivial⟩⟩⟩⟩ (fun ls hl => ?_)
  refine lv_iload_n hx hb dX9_session_13 rfl (lv_at hl 1 rfl) ?_
  refine lv_iload hx hb dX9_session_14 (lv_at hl 0 rfl) ?_
  refine lv_iadd hx hb dX9_session_16 ?_
  refine p_aload_n hx hb dX9_session_17 rfl (lv_at hl 2 rfl) ?_
  obtain ⟨ht22, hf⟩ := hf
  refine p_gI X cf8_ (k := 1) (by decide) rfl hP ht22 q1296 (fun _ h => h) dX9_session_18 ?_
  refine lv_icmp_le (tgt := 27) hx hb dX9_session_21 (by decide) (fun c23 => ?_) (fun c23 => ?_)
  · have hf := hf.1 c23
    refine p_aload_n hx hb dX9_session_27 rfl (lv_at hl 2 rfl) ?_
    refine lv_iload_n hx hb dX9_session_28 rfl (lv_at hl 1 rfl) ?_
    refine lv_iload hx hb dX9_session_29 (lv_at hl 0 rfl) ?_
    refine lv_iload_n hx hb dX9_session_31 rfl (lv_at hl 4 rfl) ?_
    refine p_callv hL (p_runV X cf8_ hP ht22 (metX9_design l G _ _ _ _ _ _ X.2.2 hf) (cwV 3 hts (lw_V q1574 q1576 qs64 q106 q1577) rfl rfl rfl (by decide +kernel) ⟨Nat.le_trans (Nat.le_of_ble_eq_true rfl) hRf, Nat.le_trans (Nat.le_of_ble_eq_true rfl) hRl⟩) rfl hl.1 rfl (by decide) dX9_session_32 ⟨Nat.zero_le _, Nat.zero_le _⟩) (fun σ24 H locs hf hP hL => ?_)
    refine lv_iconst (v := 0) hx hb dX9_session_35 (by decide) ?_
    refine p_istore (i := 5) hx hb dX9_session_36 hl (by decide) ⟨⟨ne_ rfl, Or.inr rfl⟩, ⟨⟨ne_ rfl, Or.inl (ne_ rfl)⟩, ⟨⟨ne_ rfl, Or.inl (ne_ rfl)⟩, ⟨⟨ne_ rfl, Or.inl (ne_ rfl)⟩, ⟨⟨ne_ rfl, Or.inl (ne_ rfl)⟩, trivial⟩⟩⟩⟩⟩ (fun ls hl => ?_)
    refine lv_bipush (v := 16) hx hb dX9_session_38 (by decide) ?_
    refine p_istore (i := 6) hx hb dX9_session_40 hl (by decide) ⟨⟨ne_ rfl, Or.inr rfl⟩, ⟨⟨ne_ rfl, Or.inl (ne_ rfl)⟩, ⟨⟨ne_ rfl, Or.inl (ne_ rfl)⟩, ⟨⟨ne_ rfl, Or.inl (ne_ rfl)⟩, ⟨⟨ne_ rfl, Or.inl (ne_ rfl)⟩, ⟨⟨ne_ rfl, Or.inl (ne_ rfl)⟩, trivial⟩⟩⟩⟩⟩⟩ (fun ls hl => ?_)
    exact sX9_session_L42 Y hrc0 hf _ _ _ _ _ hP hL ⟨rfl, rfl⟩ (lv_sub hl [4, 5, 6, 3, 2, 1, 0] rfl)
  · have hf := hf.2 c23
    refine lv_bipush (v := (-3)) hx hb dX9_session_24 (by decide) ?_
    exact p_iret X hlk hP hL (Nat.le_refl _) (Nat.le_refl _) hr dX9_session_26 hf
set_option maxHeartbeats 4000000 in
theorem sX9_session_L0 {G : GG_} {p : Program} {l : Launch} {e : Env} {R : Room} {s : State} {m : MethodId} {args : Array Value} {below : List Frame} {meth : Method} {c : Code} (Y : MX_ G p R s m args meth c cX9_session 8 RX9 (some Jvm.ClassFile.FieldType.int) 8 196 0 0 "session") {post : Int32 → Hp → Prop} {x0 : Nat} {x1 : Int32} {x2 : Int32} {σ : Hp} (hf : wX9_session_L0 post x0 x1 x2 σ) : WG_ G p l e R s m args below meth c (MQ below (QI_ G post) args s 0 0 (FR_ G)) BN_ 8 0 [(0, rv_ x0), (1, .int x1), (2, .int x2)] [] σ := by
  unfold wX9_session_L0 at hf
  obtain ⟨I, μ, h0, hI⟩ := hf
  have key : ∀ (n : Nat)  (σ : Hp), I σ → μ σ < n → WG_ G p l e R s m args below meth c (MQ below (QI_ G post) args s 0 0 (FR_ G)) BN_ 8 0 [(0, rv_ x0), (1, .int x1), (2, .int x2)] [] σ := by
    intro n
    induction n with
    | zero => intro σ _ h; exact absurd h (Nat.not_lt_zero _)
    | succ n ih => intro σ hi hn; exact sX9_session_B0 Y (fun σ' h => ih σ' h.1 (Nat.lt_of_lt_of_le h.2 (Nat.le_of_lt_succ hn))) (hI σ hi)
  exact key _ _ h0 (Nat.lt_succ_self _)
set_option maxHeartbeats 4000000 in
theorem sX9_session {G : GG_} {p : Program} {l : Launch} {e : Env} {R : Room} {s : State} {m : MethodId} {args : Array Value} {below : List Frame} {meth : Method} {c : Code} (Y : MX_ G p R s m args meth c cX9_session 8 RX9 (some Jvm.ClassFile.FieldType.int) 8 196 0 0 "session") {post : Int32 → Hp → Prop} {x0 : Nat} {x1 : Int32} {x2 : Int32} {σ : Hp} (hf : wX9_session x0 x1 x2 σ post) : WG_ G p l e R s m args below meth c (MQ below (QI_ G post) args s 0 0 (FR_ G)) BN_ 8 0 [(0, rv_ x0), (1, .int x1), (2, .int x2)] [] σ := by
  intro H locs cells slots ls hP hL hB hl
  exact sX9_session_L0 Y hf _ _ _ _ _ hP hL hB (lv_sub hl [0, 1, 2] rfl)
set_option maxHeartbeats 4000000 in
theorem metX9_session (l : Launch) (G : GG_) (x0 : Nat) (x1 : Int32) (x2 : Int32) (σ : Hp) (post : Int32 → Hp → Prop) (hG : GOK_ G) (hf : wX9_session x0 x1 x2 σ post) : Met l yX9_session (ws_ yX9_session cX9_session 8 (some Jvm.ClassFile.FieldType.int)) { frames := 8, cells := 0, slots := 0, locals := 196 } (PC_ G [rv_ x0, .int x1, .int x2] σ) (QI_ G post) 0 0 (FR_ G) := by
  refine Met.ofW (cc := cX9_session) (maxL := 8) (ret := (some Jvm.ClassFile.FieldType.int)) (by decide) rfl ?_
  intro p e s m args below meth c s₁ B hml hv
  obtain ⟨rfl, hP, hW⟩ := hv
  have hts := atoms_spec (ws := ws_ yX9_session cX9_session 8 (some Jvm.ClassFile.FieldType.int)) B.pre
  have hts : ∀ w ∈ lw_all, w.before _ s = true := fun w h => hts w (List.mem_cons_of_mem _ h)
  rw [lg_entry_eq]
  have hl := en_entry [rv_ x0, .int x1, .int x2] [1, 1, 1] (n := 8) (ca_r (ca_i (ca_i ca_n))) (by decide)
  exact sX9_session ⟨⟨⟨B.exec, B.bytes, hml, findClass_of_methodNamed B.named, hts⟩, hW, hG⟩, B.notSynchronized, B.returns, Nat.le_refl _, Nat.le_refl _, ⟨rfl, rfl⟩, (name_of_methodNamed B.named B.method).1⟩ hf _ _ _ _ _ hP (LO_nil G) ⟨rfl, rfl⟩ hl
abbrev cX9_commit : ByteArray := prog_11_method_47_code
def yX9_commit : MethodName := ⟨RX9, "commit", "()I"⟩
theorem dX9_commit_0 : decode cX9_commit 0 = .ok (.aload_n 0, 1) := by decide +kernel
theorem dX9_commit_1 : decode cX9_commit 1 = .ok (.iconst 0, 1) := by decide +kernel
theorem dX9_commit_2 : decode cX9_commit 2 = .ok (.putfield 109, 3) := by decide +kernel
theorem dX9_commit_5 : decode cX9_commit 5 = .ok (.aload_n 0, 1) := by decide +kernel
theorem dX9_commit_6 : decode cX9_commit 6 = .ok (.getfield 125, 3) := by decide +kernel
theorem dX9_commit_9 : decode cX9_commit 9 = .ok (.ifCond .eq 6, 3) := by decide +kernel
theorem dX9_commit_12 : decode cX9_commit 12 = .ok (.bipush (-4), 2) := by decide +kernel
theorem dX9_commit_14 : decode cX9_commit 14 = .ok (.ireturn, 1) := by decide +kernel
theorem dX9_commit_15 : decode cX9_commit 15 = .ok (.iconst 1, 1) := by decide +kernel
theorem dX9_commit_16 : decode cX9_commit 16 = .ok (.istore_n 1, 1) := by decide +kernel
theorem dX9_commit_17 : decode cX9_commit 17 = .ok (.iload_n 1, 1) := by decide +kernel
theorem dX9_commit_18 : decode cX9_commit 18 = .ok (.aload_n 0, 1) := by decide +kernel
theorem dX9_commit_19 : decode cX9_commit 19 = .ok (.getfield 112, 3) := by decide +kernel
theorem dX9_commit_22 : decode cX9_commit 22 = .ok (.if_icmp .ge 72, 3) := by decide +kernel
theorem dX9_commit_25 : decode cX9_commit 25 = .ok (.aload_n 0, 1) := by decide +kernel
theorem dX9_commit_26 : decode cX9_commit 26 = .ok (.getfield 24, 3) := by decide +kernel
theorem dX9_commit_29 : decode cX9_commit 29 = .ok (.iload_n 1, 1) := by decide +kernel
theorem dX9_commit_30 : decode cX9_commit 30 = .ok (.baload, 1) := by decide +kernel
theorem dX9_commit_31 : decode cX9_commit 31 = .ok (.ifCond .eq 57, 3) := by decide +kernel
theorem dX9_commit_34 : decode cX9_commit 34 = .ok (.aload_n 0, 1) := by decide +kernel
theorem dX9_commit_35 : decode cX9_commit 35 = .ok (.getfield 27, 3) := by decide +kernel
theorem dX9_commit_38 : decode cX9_commit 38 = .ok (.iload_n 1, 1) := by decide +kernel
theorem dX9_commit_39 : decode cX9_commit 39 = .ok (.baload, 1) := by decide +kernel
theorem dX9_commit_40 : decode cX9_commit 40 = .ok (.ifCond .ne 48, 3) := by decide +kernel
theorem dX9_commit_43 : decode cX9_commit 43 = .ok (.aload_n 0, 1) := by decide +kernel
theorem dX9_commit_44 : decode cX9_commit 44 = .ok (.getfield 38, 3) := by decide +kernel
theorem dX9_commit_47 : decode cX9_commit 47 = .ok (.iload_n 1, 1) := by decide +kernel
theorem dX9_commit_48 : decode cX9_commit 48 = .ok (.iaload, 1) := by decide +kernel
theorem dX9_commit_49 : decode cX9_commit 49 = .ok (.ifCond .eq 39, 3) := by decide +kernel
theorem dX9_commit_52 : decode cX9_commit 52 = .ok (.aload_n 0, 1) := by decide +kernel
theorem dX9_commit_53 : decode cX9_commit 53 = .ok (.getfield 44, 3) := by decide +kernel
theorem dX9_commit_56 : decode cX9_commit 56 = .ok (.iload_n 1, 1) := by decide +kernel
theorem dX9_commit_57 : decode cX9_commit 57 = .ok (.baload, 1) := by decide +kernel
theorem dX9_commit_58 : decode cX9_commit 58 = .ok (.ifCond .eq 6, 3) := by decide +kernel
theorem dX9_commit_61 : decode cX9_commit 61 = .ok (.goto 27, 3) := by decide +kernel
theorem dX9_commit_64 : decode cX9_commit 64 = .ok (.aload_n 0, 1) := by decide +kernel
theorem dX9_commit_65 : decode cX9_commit 65 = .ok (.aload_n 0, 1) := by decide +kernel
theorem dX9_commit_66 : decode cX9_commit 66 = .ok (.getfield 115, 3) := by decide +kernel
theorem dX9_commit_69 : decode cX9_commit 69 = .ok (.iload_n 1, 1) := by decide +kernel
theorem dX9_commit_70 : decode cX9_commit 70 = .ok (.iconst 0, 1) := by decide +kernel
theorem dX9_commit_71 : decode cX9_commit 71 = .ok (.invokevirtual 244, 3) := by decide +kernel
theorem dX9_commit_74 : decode cX9_commit 74 = .ok (.istore_n 2, 1) := by decide +kernel
theorem dX9_commit_75 : decode cX9_commit 75 = .ok (.iload_n 2, 1) := by decide +kernel
theorem dX9_commit_76 : decode cX9_commit 76 = .ok (.ifCond .ge 5, 3) := by decide +kernel
theorem dX9_commit_79 : decode cX9_commit 79 = .ok (.iload_n 2, 1) := by decide +kernel
theorem dX9_commit_80 : decode cX9_commit 80 = .ok (.ireturn, 1) := by decide +kernel
theorem dX9_commit_81 : decode cX9_commit 81 = .ok (.aload_n 0, 1) := by decide +kernel
theorem dX9_commit_82 : decode cX9_commit 82 = .ok (.getfield 44, 3) := by decide +kernel
theorem dX9_commit_85 : decode cX9_commit 85 = .ok (.iload_n 1, 1) := by decide +kernel
theorem dX9_commit_86 : decode cX9_commit 86 = .ok (.iconst 1, 1) := by decide +kernel
theorem dX9_commit_87 : decode cX9_commit 87 = .ok (.bastore, 1) := by decide +kernel
theorem dX9_commit_88 : decode cX9_commit 88 = .ok (.iinc 1 1, 3) := by decide +kernel
theorem dX9_commit_91 : decode cX9_commit 91 = .ok (.goto (-74), 3) := by decide +kernel
theorem dX9_commit_94 : decode cX9_commit 94 = .ok (.aload_n 0, 1) := by decide +kernel
theorem dX9_commit_95 : decode cX9_commit 95 = .ok (.aload_n 0, 1) := by decide +kernel
theorem dX9_commit_96 : decode cX9_commit 96 = .ok (.getfield 115, 3) := by decide +kernel
theorem dX9_commit_99 : decode cX9_commit 99 = .ok (.aload_n 0, 1) := by decide +kernel
theorem dX9_commit_100 : decode cX9_commit 100 = .ok (.getfield 247, 3) := by decide +kernel
theorem dX9_commit_103 : decode cX9_commit 103 = .ok (.iconst 1, 1) := by decide +kernel
theorem dX9_commit_104 : decode cX9_commit 104 = .ok (.iadd, 1) := by decide +kernel
theorem dX9_commit_105 : decode cX9_commit 105 = .ok (.invokevirtual 250, 3) := by decide +kernel
theorem dX9_commit_108 : decode cX9_commit 108 = .ok (.istore_n 1, 1) := by decide +kernel
theorem dX9_commit_109 : decode cX9_commit 109 = .ok (.iload_n 1, 1) := by decide +kernel
theorem dX9_commit_110 : decode cX9_commit 110 = .ok (.bipush (-4), 2) := by decide +kernel
theorem dX9_commit_112 : decode cX9_commit 112 = .ok (.if_icmp .eq 9, 3) := by decide +kernel
theorem dX9_commit_115 : decode cX9_commit 115 = .ok (.iload_n 1, 1) := by decide +kernel
theorem dX9_commit_116 : decode cX9_commit 116 = .ok (.bipush (-3), 2) := by decide +kernel
theorem dX9_commit_118 : decode cX9_commit 118 = .ok (.if_icmp .ne 5, 3) := by decide +kernel
theorem dX9_commit_121 : decode cX9_commit 121 = .ok (.iload_n 1, 1) := by decide +kernel
theorem dX9_commit_122 : decode cX9_commit 122 = .ok (.ireturn, 1) := by decide +kernel
theorem dX9_commit_123 : decode cX9_commit 123 = .ok (.aload_n 0, 1) := by decide +kernel
theorem dX9_commit_124 : decode cX9_commit 124 = .ok (.dup, 1) := by decide +kernel
theorem dX9_commit_125 : decode cX9_commit 125 = .ok (.getfield 247, 3) := by decide +kernel
theorem dX9_commit_128 : decode cX9_commit 128 = .ok (.iconst 1, 1) := by decide +kernel
theorem dX9_commit_129 : decode cX9_commit 129 = .ok (.iadd, 1) := by decide +kernel
theorem dX9_commit_130 : decode cX9_commit 130 = .ok (.putfield 247, 3) := by decide +kernel
theorem dX9_commit_133 : decode cX9_commit 133 = .ok (.aload_n 0, 1) := by decide +kernel
theorem dX9_commit_134 : decode cX9_commit 134 = .ok (.getfield 247, 3) := by decide +kernel
theorem dX9_commit_137 : decode cX9_commit 137 = .ok (.ireturn, 1) := by decide +kernel
/-- WriteOnceDiscModel.commit()I -/
def wX9_commit_L88 (post : Int32 → Hp → Prop) (rc17 : Int32 → Hp → Prop) (x0 : Nat) (x1 : Int32) (σ : Hp) : Prop :=
(∀ y1 : Int32, y1 = x1 + 1 → rc17 y1 σ)
def wX9_commit_B17 (post : Int32 → Hp → Prop) (rc17 : Int32 → Hp → Prop) (x0 : Nat) (x1 : Int32) (σ : Hp) : Prop :=
(tg_ σ x0 = 9 ∧ (((fI_ σ 8 10 x0) ≤ x1 →
  (wX9_session x0 (fI_ σ 8 2 x0) ((fI_ σ 8 20 x0) + (1 : Int32)) σ (fun r4 σ5 => ((r4 = (-4 : Int32) →
   post r4 σ5) ∧
  (¬ r4 = (-4 : Int32) →
   ((¬ r4 = (-3 : Int32) →
    (tg_ σ5 x0 = 9 ∧ (∀ σ9, σ9 = sI_ σ5 8 20 x0 ((fI_ σ5 8 20 x0) + (1 : Int32)) → post (fI_ σ9 8 20 x0) σ9))) ∧
   (r4 = (-3 : Int32) →
    post r4 σ5))))))) ∧
 (¬ (fI_ σ 8 10 x0) ≤ x1 →
  (tg_ σ (fR_ σ 8 11 x0) = 101 ∧ (vp_in x1 (ln_ σ (fR_ σ 8 11 x0)) ∧ (((aI_ σ (fR_ σ 8 11 x0) (x1).toNatClampNeg) = 0 →
   wX9_commit_L88 post rc17 x0 x1 σ) ∧
  (¬ (aI_ σ (fR_ σ 8 11 x0) (x1).toNatClampNeg) = 0 →
   (tg_ σ (fR_ σ 8 12 x0) = 101 ∧ (vp_in x1 (ln_ σ (fR_ σ 8 12 x0)) ∧ ((¬ (aI_ σ (fR_ σ 8 12 x0) (x1).toNatClampNeg) = 0 →
    wX9_commit_L88 post rc17 x0 x1 σ) ∧
   ((aI_ σ (fR_ σ 8 12 x0) (x1).toNatClampNeg) = 0 →
    (tg_ σ (fR_ σ 8 15 x0) = 102 ∧ (vp_in x1 (ln_ σ (fR_ σ 8 15 x0)) ∧ (((aI_ σ (fR_ σ 8 15 x0) (x1).toNatClampNeg) = 0 →
     wX9_commit_L88 post rc17 x0 x1 σ) ∧
    (¬ (aI_ σ (fR_ σ 8 15 x0) (x1).toNatClampNeg) = 0 →
     (tg_ σ (fR_ σ 8 17 x0) = 101 ∧ (vp_in x1 (ln_ σ (fR_ σ 8 17 x0)) ∧ (((aI_ σ (fR_ σ 8 17 x0) (x1).toNatClampNeg) = 0 →
      (wX9_lay x0 (fI_ σ 8 2 x0) x1 (0 : Int32) σ (fun r22 σ23 => ((0 ≤ r22 →
       (tg_ σ23 x0 = 9 ∧ (tg_ σ23 (fR_ σ23 8 17 x0) = 101 ∧ (vp_in x1 (ln_ σ23 (fR_ σ23 8 17 x0)) ∧ (∀ σ28, σ28 = wI_ σ23 (fR_ σ23 8 17 x0) (x1).toNatClampNeg (vp_nar .boolean (1 : Int32)) → wX9_commit_L88 post rc17 x0 x1 σ28))))) ∧
      (¬ 0 ≤ r22 →
       post r22 σ23))))) ∧
     (¬ (aI_ σ (fR_ σ 8 17 x0) (x1).toNatClampNeg) = 0 →
      wX9_commit_L88 post rc17 x0 x1 σ)))))))))))))))))))
def wX9_commit_L17 (post : Int32 → Hp → Prop) (x0 : Nat) (x1 : Int32) (σ : Hp) : Prop :=
 ∃ (I : Int32 → Hp → Prop) (μ : Int32 → Hp → Nat), I x1 σ ∧ ∀ (x1 : Int32) (σ : Hp), I x1 σ → wX9_commit_B17 post (fun x1' σ' => I x1' σ' ∧ μ x1' σ' < μ x1 σ) x0 x1 σ
def wX9_commit (x0 : Nat) (σ : Hp) (post : Int32 → Hp → Prop) : Prop :=
(tg_ σ x0 = 9 ∧ (∀ σ30, σ30 = sI_ σ 8 0 x0 (0 : Int32) → (((fI_ σ30 8 6 x0) = 0 →
  wX9_commit_L17 post x0 (1 : Int32) σ30) ∧
 (¬ (fI_ σ30 8 6 x0) = 0 →
  post (-4 : Int32) σ30))))
set_option maxHeartbeats 4000000 in
theorem sX9_commit_L88 {G : GG_} {p : Program} {l : Launch} {e : Env} {R : Room} {s : State} {m : MethodId} {args : Array Value} {below : List Frame} {meth : Method} {c : Code} (Y : MX_ G p R s m args meth c cX9_commit 3 RX9 (some Jvm.ClassFile.FieldType.int) 9 223 0 0 "commit") {post : Int32 → Hp → Prop} {rc17 : Int32 → Hp → Prop} {x0 : Nat} {x1 : Int32} {σ : Hp} (hrc17 : ∀ (x1 : Int32) (σ : Hp), rc17 x1 σ → WG_ G p l e R s m args below meth c (MQ below (QI_ G post) args s 0 0 (FR_ G)) BN_ 3 17 [(0, rv_ x0), (1, .int x1)] [] σ) (hf : wX9_commit_L88 post rc17 x0 x1 σ) : WG_ G p l e R s m args below meth c (MQ below (QI_ G post) args s 0 0 (FR_ G)) BN_ 3 88 [(0, rv_ x0), (1, .int x1)] [] σ := by
  have ⟨X, hlk, hr, hRf, hRl, hRc, hnm⟩ := Y
  have ⟨⟨hx, hb, _, hown, hts⟩, _, _⟩ := X
  intro H locs cells slots ls hP hL hB hl
  obtain ⟨rfl, rfl⟩ := hB
  unfold wX9_commit_L88 at hf
  have hl := lv_sub hl [1, 0] rfl
  refine p_iincc (i := 1) (k := 1) hx hb (by decide) dX9_commit_88 hl (by decide) ⟨⟨ne_ rfl, Or.inr (rv_cat _)⟩, trivial⟩ (fun y1 hy1 ls hl => ?_)
  have hf := hf y1 hy1
  refine lv_goto (tgt := 17) hx hb dX9_commit_91 (by decide) ?_
  exact hrc17 _ _ hf _ _ _ _ _ hP hL ⟨rfl, rfl⟩ (lv_sub hl [1, 0] rfl)
set_option maxHeartbeats 4000000 in
theorem sX9_commit_B17 {G : GG_} {p : Program} {l : Launch} {e : Env} {R : Room} {s : State} {m : MethodId} {args : Array Value} {below : List Frame} {meth : Method} {c : Code} (Y : MX_ G p R s m args meth c cX9_commit 3 RX9 (some Jvm.ClassFile.FieldType.int) 9 223 0 0 "commit") {post : Int32 → Hp → Prop} {rc17 : Int32 → Hp → Prop} {x0 : Nat} {x1 : Int32} {σ : Hp} (hrc17 : ∀ (x1 : Int32) (σ : Hp), rc17 x1 σ → WG_ G p l e R s m args below meth c (MQ below (QI_ G post) args s 0 0 (FR_ G)) BN_ 3 17 [(0, rv_ x0), (1, .int x1)] [] σ) (hf : wX9_commit_B17 post rc17 x0 x1 σ) : WG_ G p l e R s m args below meth c (MQ below (QI_ G post) args s 0 0 (FR_ G)) BN_ 3 17 [(0, rv_ x0), (1, .int x1)] [] σ := by
  have ⟨X, hlk, hr, hRf, hRl, hRc, hnm⟩ := Y
  have ⟨⟨hx, hb, _, hown, hts⟩, _, _⟩ := X
  intro H locs cells slots ls hP hL hB hl
  obtain ⟨rfl, rfl⟩ := hB
  unfold wX9_commit_B17 at hf
  refine lv_iload_n hx hb dX9_commit_17 rfl (lv_at hl 1 rfl) ?_
  refine p_aload_n hx hb dX9_commit_18 rfl (lv_at hl 0 rfl) ?_
  obtain ⟨ht2, hf⟩ := hf
  refine p_gI X cf8_ (k := 10) (by decide) rfl hP ht2 q1305 (fun _ h => h) dX9_commit_19 ?_
  refine lv_icmp_ge (tgt := 94) hx hb dX9_commit_22 (by decide) (fun c3 => ?_) (fun c3 => ?_)
  · have hf := hf.1 c3
    refine p_aload_n hx hb dX9_commit_94 rfl (lv_at hl 0 rfl) ?_
    refine p_aload_n hx hb dX9_commit_95 rfl (lv_at hl 0 rfl) ?_
    refine p_gI X cf8_ (k := 2) (by decide) rfl hP ht2 q1297 (fun _ h => h) dX9_commit_96 ?_
    refine p_aload_n hx hb dX9_commit_99 rfl (lv_at hl 0 rfl) ?_
    refine p_gI X cf8_ (k := 20) (by decide) rfl hP ht2 q1315 (fun _ h => h) dX9_commit_100 ?_
    refine lv_iconst (v := 1) hx hb dX9_commit_103 (by decide) ?_
    refine lv_iadd hx hb dX9_commit_104 ?_
    refine p_calli hL (p_runV X cf8_ hP ht2 (metX9_session l G _ _ _ _ _ X.2.2 hf) (cwV 2 hts (lw_V q1516 q1518 qs54 q106 q1519) rfl rfl rfl (by decide +kernel) ⟨Nat.le_trans (Nat.le_of_ble_eq_true rfl) hRf, Nat.le_trans (Nat.le_of_ble_eq_true rfl) hRl⟩) rfl hl.1 rfl (by decide) dX9_commit_105 ⟨Nat.zero_le _, Nat.zero_le _⟩) (fun r4 σ5 H locs hf hP hL => ?_)
    have hl := lv_sub hl [0] rfl
    refine p_istore_n (i := 1) hx hb dX9_commit_108 rfl hl (by decide) ⟨⟨ne_ rfl, Or.inr (rv_cat _)⟩, trivial⟩ (fun ls hl => ?_)
    refine lv_iload_n hx hb dX9_commit_109 rfl (lv_at hl 0 rfl) ?_
    refine lv_bipush (v := (-4)) hx hb dX9_commit_110 (by decide) ?_
    refine lv_icmp_eq (tgt := 121) hx hb dX9_commit_112 (by decide) (fun c6 => ?_) (fun c6 => ?_)
    · have hf := hf.1 c6
      refine lv_iload_n hx hb dX9_commit_121 rfl (lv_at hl 0 rfl) ?_
      exact p_iret X hlk hP hL (Nat.le_refl _) (Nat.le_refl _) hr dX9_commit_122 hf
    · have hf := hf.2 c6
      refine lv_iload_n hx hb dX9_commit_115 rfl (lv_at hl 0 rfl) ?_
      refine lv_bipush (v := (-3)) hx hb dX9_commit_116 (by decide) ?_
      refine lv_icmp_ne (tgt := 123) hx hb dX9_commit_118 (by decide) (fun c7 => ?_) (fun c7 => ?_)
      · have hf := hf.1 c7
        refine p_aload_n hx hb dX9_commit_123 rfl (lv_at hl 1 rfl) ?_
        refine lv_dup hx hb dX9_commit_124 (rv_cat _) ?_
        obtain ⟨ht8, hf⟩ := hf
        refine p_gI X cf8_ (k := 20) (by decide) rfl hP ht8 q1315 (fun _ h => h) dX9_commit_125 ?_
        refine lv_iconst (v := 1) hx hb dX9_commit_128 (by decide) ?_
        refine lv_iadd hx hb dX9_commit_129 ?_
        refine p_pI X cf8_ (k := 20) (by decide) rfl hP hL ht8 (p_ow hP ht8 rfl) q1315 (fun _ h => h) (Or.inl rfl) rfl rfl dX9_commit_130 (fun H locs hP hL => ?_)
        refine p_nmP hP (fun σ9 hσ9 hP => ?_)
        have hf := hf σ9 hσ9
        have ht8 : tg_ σ9 x0 = 9 := by rw [hσ9]; exact ht8
        refine p_aload_n hx hb dX9_commit_133 rfl (lv_at hl 1 rfl) ?_
        refine p_gI X cf8_ (k := 20) (by decide) rfl hP ht8 q1315 (fun _ h => h) dX9_commit_134 ?_
        exact p_iret X hlk hP hL (Nat.le_refl _) (Nat.le_refl _) hr dX9_commit_137 hf
      · have hf := hf.2 c7
        refine lv_iload_n hx hb dX9_commit_121 rfl (lv_at hl 0 rfl) ?_
        exact p_iret X hlk hP hL (Nat.le_refl _) (Nat.le_refl _) hr dX9_commit_122 hf
  · have hf := hf.2 c3
    refine p_aload_n hx hb dX9_commit_25 rfl (lv_at hl 0 rfl) ?_
    refine p_gR X cf8_ (k := 11) (by decide) rfl hP ht2 q1306 (fun _ h => h) dX9_commit_26 ?_
    refine lv_iload_n hx hb dX9_commit_29 rfl (lv_at hl 1 rfl) ?_
    obtain ⟨ht10, hf⟩ := hf
    obtain ⟨hi11, hf⟩ := hf
    refine p_zald X hP ht10 hi11 dX9_commit_30 ?_
    refine lv_if_eq (tgt := 88) hx hb dX9_commit_31 (by decide) (fun c12 => ?_) (fun c12 => ?_)
    · have hf := hf.1 c12
      exact sX9_commit_L88 Y hrc17 hf _ _ _ _ _ hP hL ⟨rfl, rfl⟩ (lv_sub hl [0, 1] rfl)
    · have hf := hf.2 c12
      refine p_aload_n hx hb dX9_commit_34 rfl (lv_at hl 0 rfl) ?_
      refine p_gR X cf8_ (k := 12) (by decide) rfl hP ht2 q1307 (fun _ h => h) dX9_commit_35 ?_
      refine lv_iload_n hx hb dX9_commit_38 rfl (lv_at hl 1 rfl) ?_
      obtain ⟨ht13, hf⟩ := hf
      obtain ⟨hi14, hf⟩ := hf
      refine p_zald X hP ht13 hi14 dX9_commit_39 ?_
      refine lv_if_ne (tgt := 88) hx hb dX9_commit_40 (by decide) (fun c15 => ?_) (fun c15 => ?_)
      · have hf := hf.1 c15
        exact sX9_commit_L88 Y hrc17 hf _ _ _ _ _ hP hL ⟨rfl, rfl⟩ (lv_sub hl [0, 1] rfl)
      · have hf := hf.2 c15
        refine p_aload_n hx hb dX9_commit_43 rfl (lv_at hl 0 rfl) ?_
        refine p_gR X cf8_ (k := 15) (by decide) rfl hP ht2 q1310 (fun _ h => h) dX9_commit_44 ?_
        refine lv_iload_n hx hb dX9_commit_47 rfl (lv_at hl 1 rfl) ?_
        obtain ⟨ht16, hf⟩ := hf
        obtain ⟨hi17, hf⟩ := hf
        refine p_iald X hP ht16 hi17 dX9_commit_48 ?_
        refine lv_if_eq (tgt := 88) hx hb dX9_commit_49 (by decide) (fun c18 => ?_) (fun c18 => ?_)
        · have hf := hf.1 c18
          exact sX9_commit_L88 Y hrc17 hf _ _ _ _ _ hP hL ⟨rfl, rfl⟩ (lv_sub hl [0, 1] rfl)
        · have hf := hf.2 c18
          refine p_aload_n hx hb dX9_commit_52 rfl (lv_at hl 0 rfl) ?_
          refine p_gR X cf8_ (k := 17) (by decide) rfl hP ht2 q1312 (fun _ h => h) dX9_commit_53 ?_
          refine lv_iload_n hx hb dX9_commit_56 rfl (lv_at hl 1 rfl) ?_
          obtain ⟨ht19, hf⟩ := hf
          obtain ⟨hi20, hf⟩ := hf
          refine p_zald X hP ht19 hi20 dX9_commit_57 ?_
          refine lv_if_eq (tgt := 64) hx hb dX9_commit_58 (by decide) (fun c21 => ?_) (fun c21 => ?_)
          · have hf := hf.1 c21
            refine p_aload_n hx hb dX9_commit_64 rfl (lv_at hl 0 rfl) ?_
            refine p_aload_n hx hb dX9_commit_65 rfl (lv_at hl 0 rfl) ?_
            refine p_gI X cf8_ (k := 2) (by decide) rfl hP ht2 q1297 (fun _ h => h) dX9_commit_66 ?_
            refine lv_iload_n hx hb dX9_commit_69 rfl (lv_at hl 1 rfl) ?_
            refine lv_iconst (v := 0) hx hb dX9_commit_70 (by decide) ?_
            refine p_calli hL (p_runV X cf8_ hP ht2 (metX9_lay l G _ _ _ _ _ _ X.2.2 hf) (cwV 3 hts (lw_V q1496 q1498 qs49 q106 q1499) rfl rfl rfl (by decide +kernel) ⟨Nat.le_trans (Nat.le_of_ble_eq_true rfl) hRf, Nat.le_trans (Nat.le_of_ble_eq_true rfl) hRl⟩) rfl hl.1 rfl (by decide) dX9_commit_71 ⟨Nat.zero_le _, Nat.zero_le _⟩) (fun r22 σ23 H locs hf hP hL => ?_)
            refine p_istore_n (i := 2) hx hb dX9_commit_74 rfl hl (by decide) ⟨⟨ne_ rfl, Or.inl (ne_ rfl)⟩, ⟨⟨ne_ rfl, Or.inr rfl⟩, trivial⟩⟩ (fun ls hl => ?_)
            refine lv_iload_n hx hb dX9_commit_75 rfl (lv_at hl 0 rfl) ?_
            refine lv_if_ge (tgt := 81) hx hb dX9_commit_76 (by decide) (fun c24 => ?_) (fun c24 => ?_)
            · have hf := hf.1 c24
              refine p_aload_n hx hb dX9_commit_81 rfl (lv_at hl 1 rfl) ?_
              obtain ⟨ht25, hf⟩ := hf
              refine p_gR X cf8_ (k := 17) (by decide) rfl hP ht25 q1312 (fun _ h => h) dX9_commit_82 ?_
              refine lv_iload_n hx hb dX9_commit_85 rfl (lv_at hl 2 rfl) ?_
              refine lv_iconst (v := 1) hx hb dX9_commit_86 (by decide) ?_
              obtain ⟨ht26, hf⟩ := hf
              obtain ⟨hi27, hf⟩ := hf
              refine p_zast X hP hL ht26 (p_ow hP ht26 rfl) hi27 dX9_commit_87 (fun H locs hP hL => ?_)
              refine p_nmP hP (fun σ28 hσ28 hP => ?_)
              have hf := hf σ28 hσ28
              have ht25 : tg_ σ28 x0 = 9 := by rw [hσ28]; exact ht25
              exact sX9_commit_L88 Y hrc17 hf _ _ _ _ _ hP hL ⟨rfl, rfl⟩ (lv_sub hl [1, 2] rfl)
            · have hf := hf.2 c24
              refine lv_iload_n hx hb dX9_commit_79 rfl (lv_at hl 0 rfl) ?_
              exact p_iret X hlk hP hL (Nat.le_refl _) (Nat.le_refl _) hr dX9_commit_80 hf
          · have hf := hf.2 c21
            refine lv_goto (tgt := 88) hx hb dX9_commit_61 (by decide) ?_
            exact sX9_commit_L88 Y hrc17 hf _ _ _ _ _ hP hL ⟨rfl, rfl⟩ (lv_sub hl [0, 1] rfl)
set_option maxHeartbeats 4000000 in
theorem sX9_commit_L17 {G : GG_} {p : Program} {l : Launch} {e : Env} {R : Room} {s : State} {m : MethodId} {args : Array Value} {below : List Frame} {meth : Method} {c : Code} (Y : MX_ G p R s m args meth c cX9_commit 3 RX9 (some Jvm.ClassFile.FieldType.int) 9 223 0 0 "commit") {post : Int32 → Hp → Prop} {x0 : Nat} {x1 : Int32} {σ : Hp} (hf : wX9_commit_L17 post x0 x1 σ) : WG_ G p l e R s m args below meth c (MQ below (QI_ G post) args s 0 0 (FR_ G)) BN_ 3 17 [(0, rv_ x0), (1, .int x1)] [] σ := by
  unfold wX9_commit_L17 at hf
  obtain ⟨I, μ, h0, hI⟩ := hf
  have key : ∀ (n : Nat) (x1 : Int32) (σ : Hp), I x1 σ → μ x1 σ < n → WG_ G p l e R s m args below meth c (MQ below (QI_ G post) args s 0 0 (FR_ G)) BN_ 3 17 [(0, rv_ x0), (1, .int x1)] [] σ := by
    intro n
    induction n with
    | zero => intro x1 σ _ h; exact absurd h (Nat.not_lt_zero _)
    | succ n ih => intro x1 σ hi hn; exact sX9_commit_B17 Y (fun x1' σ' h => ih x1' σ' h.1 (Nat.lt_of_lt_of_le h.2 (Nat.le_of_lt_succ hn))) (hI x1 σ hi)
  exact key _ _ _ h0 (Nat.lt_succ_self _)
set_option maxHeartbeats 4000000 in
theorem sX9_commit {G : GG_} {p : Program} {l : Launch} {e : Env} {R : Room} {s : State} {m : MethodId} {args : Array Value} {below : List Frame} {meth : Method} {c : Code} (Y : MX_ G p R s m args meth c cX9_commit 3 RX9 (some Jvm.ClassFile.FieldType.int) 9 223 0 0 "commit") {post : Int32 → Hp → Prop} {x0 : Nat} {σ : Hp} (hf : wX9_commit x0 σ post) : WG_ G p l e R s m args below meth c (MQ below (QI_ G post) args s 0 0 (FR_ G)) BN_ 3 0 [(0, rv_ x0)] [] σ := by
  have ⟨X, hlk, hr, hRf, hRl, hRc, hnm⟩ := Y
  have ⟨⟨hx, hb, _, hown, hts⟩, _, _⟩ := X
  intro H locs cells slots ls hP hL hB hl
  obtain ⟨rfl, rfl⟩ := hB
  unfold wX9_commit at hf
  refine p_aload_n hx hb dX9_commit_0 rfl (lv_at hl 0 rfl) ?_
  refine lv_iconst (v := 0) hx hb dX9_commit_1 (by decide) ?_
  obtain ⟨ht29, hf⟩ := hf
  refine p_pI X cf8_ (k := 0) (by decide) rfl hP hL ht29 (p_ow hP ht29 rfl) q1295 (fun _ h => h) (Or.inl rfl) rfl rfl dX9_commit_2 (fun H locs hP hL => ?_)
  refine p_nmP hP (fun σ30 hσ30 hP => ?_)
  have hf := hf σ30 hσ30
  have ht29 : tg_ σ30 x0 = 9 := by rw [hσ30]; exact ht29
  refine p_aload_n hx hb dX9_commit_5 rfl (lv_at hl 0 rfl) ?_
  refine p_gI X cf8_ (k := 6) (by decide) rfl hP ht29 q1301 (fun _ h => h) dX9_commit_6 ?_
  refine lv_if_eq (tgt := 15) hx hb dX9_commit_9 (by decide) (fun c31 => ?_) (fun c31 => ?_)
  · have hf := hf.1 c31
    refine lv_iconst (v := 1) hx hb dX9_commit_15 (by decide) ?_
    refine p_istore_n (i := 1) hx hb dX9_commit_16 rfl hl (by decide) ⟨⟨ne_ rfl, Or.inr (rv_cat _)⟩, trivial⟩ (fun ls hl => ?_)
    exact sX9_commit_L17 Y hf _ _ _ _ _ hP hL ⟨rfl, rfl⟩ (lv_sub hl [1, 0] rfl)
  · have hf := hf.2 c31
    refine lv_bipush (v := (-4)) hx hb dX9_commit_12 (by decide) ?_
    exact p_iret X hlk hP hL (Nat.le_refl _) (Nat.le_refl _) hr dX9_commit_14 hf
set_option maxHeartbeats 4000000 in
theorem metX9_commit (l : Launch) (G : GG_) (x0 : Nat) (σ : Hp) (post : Int32 → Hp → Prop) (hG : GOK_ G) (hf : wX9_commit x0 σ post) : Met l yX9_commit (ws_ yX9_commit cX9_commit 3 (some Jvm.ClassFile.FieldType.int)) { frames := 9, cells := 0, slots := 0, locals := 223 } (PC_ G [rv_ x0] σ) (QI_ G post) 0 0 (FR_ G) := by
  refine Met.ofW (cc := cX9_commit) (maxL := 3) (ret := (some Jvm.ClassFile.FieldType.int)) (by decide) rfl ?_
  intro p e s m args below meth c s₁ B hml hv
  obtain ⟨rfl, hP, hW⟩ := hv
  have hts := atoms_spec (ws := ws_ yX9_commit cX9_commit 3 (some Jvm.ClassFile.FieldType.int)) B.pre
  have hts : ∀ w ∈ lw_all, w.before _ s = true := fun w h => hts w (List.mem_cons_of_mem _ h)
  rw [lg_entry_eq]
  have hl := en_entry [rv_ x0] [1] (n := 3) (ca_r ca_n) (by decide)
  exact sX9_commit ⟨⟨⟨B.exec, B.bytes, hml, findClass_of_methodNamed B.named, hts⟩, hW, hG⟩, B.notSynchronized, B.returns, Nat.le_refl _, Nat.le_refl _, ⟨rfl, rfl⟩, (name_of_methodNamed B.named B.method).1⟩ hf _ _ _ _ _ hP (LO_nil G) ⟨rfl, rfl⟩ hl
