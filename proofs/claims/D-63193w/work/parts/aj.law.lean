set_option maxRecDepth 100000
abbrev cL_law : ByteArray := code
theorem dL_law_0 : decode cL_law 0 = .ok (.new 8, 3) := by decide +kernel
theorem dL_law_3 : decode cL_law 3 = .ok (.dup, 1) := by decide +kernel
theorem dL_law_4 : decode cL_law 4 = .ok (.aload_n 0, 1) := by decide +kernel
theorem dL_law_5 : decode cL_law 5 = .ok (.iconst 0, 1) := by decide +kernel
theorem dL_law_6 : decode cL_law 6 = .ok (.invokestatic 28, 3) := by decide +kernel
theorem dL_law_9 : decode cL_law 9 = .ok (.invokespecial 34, 3) := by decide +kernel
theorem dL_law_12 : decode cL_law 12 = .ok (.astore_n 1, 1) := by decide +kernel
theorem dL_law_13 : decode cL_law 13 = .ok (.new 37, 3) := by decide +kernel
theorem dL_law_16 : decode cL_law 16 = .ok (.dup, 1) := by decide +kernel
theorem dL_law_17 : decode cL_law 17 = .ok (.aload_n 0, 1) := by decide +kernel
theorem dL_law_18 : decode cL_law 18 = .ok (.iconst 0, 1) := by decide +kernel
theorem dL_law_19 : decode cL_law 19 = .ok (.invokestatic 28, 3) := by decide +kernel
theorem dL_law_22 : decode cL_law 22 = .ok (.invokespecial 39, 3) := by decide +kernel
theorem dL_law_25 : decode cL_law 25 = .ok (.astore_n 2, 1) := by decide +kernel
theorem dL_law_26 : decode cL_law 26 = .ok (.iconst 1, 1) := by decide +kernel
theorem dL_law_27 : decode cL_law 27 = .ok (.newarray .long, 2) := by decide +kernel
theorem dL_law_29 : decode cL_law 29 = .ok (.astore_n 3, 1) := by decide +kernel
theorem dL_law_30 : decode cL_law 30 = .ok (.iconst 1, 1) := by decide +kernel
theorem dL_law_31 : decode cL_law 31 = .ok (.istore 4, 2) := by decide +kernel
theorem dL_law_33 : decode cL_law 33 = .ok (.iload 4, 2) := by decide +kernel
theorem dL_law_35 : decode cL_law 35 = .ok (.aload_n 0, 1) := by decide +kernel
theorem dL_law_36 : decode cL_law 36 = .ok (.arraylength, 1) := by decide +kernel
theorem dL_law_37 : decode cL_law 37 = .ok (.bipush 6, 2) := by decide +kernel
theorem dL_law_39 : decode cL_law 39 = .ok (.isub, 1) := by decide +kernel
theorem dL_law_40 : decode cL_law 40 = .ok (.if_icmp .gt 966, 3) := by decide +kernel
theorem dL_law_43 : decode cL_law 43 = .ok (.aload_n 0, 1) := by decide +kernel
theorem dL_law_44 : decode cL_law 44 = .ok (.iload 4, 2) := by decide +kernel
theorem dL_law_46 : decode cL_law 46 = .ok (.iaload, 1) := by decide +kernel
theorem dL_law_47 : decode cL_law 47 = .ok (.bipush 31, 2) := by decide +kernel
theorem dL_law_49 : decode cL_law 49 = .ok (.iand, 1) := by decide +kernel
theorem dL_law_50 : decode cL_law 50 = .ok (.tableswitch 950 0 19 #[94, 119, 142, 211, 304, 353, 378, 459, 472, 485, 498, 523, 548, 585, 598, 666, 691, 759, 814, 882], 94) := by decide +kernel
theorem dL_law_144 : decode cL_law 144 = .ok (.aload_n 1, 1) := by decide +kernel
theorem dL_law_145 : decode cL_law 145 = .ok (.aload_n 0, 1) := by decide +kernel
theorem dL_law_146 : decode cL_law 146 = .ok (.iload 4, 2) := by decide +kernel
theorem dL_law_148 : decode cL_law 148 = .ok (.iconst 1, 1) := by decide +kernel
theorem dL_law_149 : decode cL_law 149 = .ok (.iadd, 1) := by decide +kernel
theorem dL_law_150 : decode cL_law 150 = .ok (.iaload, 1) := by decide +kernel
theorem dL_law_151 : decode cL_law 151 = .ok (.invokevirtual 40, 3) := by decide +kernel
theorem dL_law_154 : decode cL_law 154 = .ok (.aload_n 2, 1) := by decide +kernel
theorem dL_law_155 : decode cL_law 155 = .ok (.aload_n 0, 1) := by decide +kernel
theorem dL_law_156 : decode cL_law 156 = .ok (.iload 4, 2) := by decide +kernel
theorem dL_law_158 : decode cL_law 158 = .ok (.iconst 1, 1) := by decide +kernel
theorem dL_law_159 : decode cL_law 159 = .ok (.iadd, 1) := by decide +kernel
theorem dL_law_160 : decode cL_law 160 = .ok (.iaload, 1) := by decide +kernel
theorem dL_law_161 : decode cL_law 161 = .ok (.invokevirtual 44, 3) := by decide +kernel
theorem dL_law_164 : decode cL_law 164 = .ok (.if_icmp .eq 836, 3) := by decide +kernel
theorem dL_law_167 : decode cL_law 167 = .ok (.iconst 0, 1) := by decide +kernel
theorem dL_law_168 : decode cL_law 168 = .ok (.ireturn, 1) := by decide +kernel
theorem dL_law_169 : decode cL_law 169 = .ok (.aload_n 1, 1) := by decide +kernel
theorem dL_law_170 : decode cL_law 170 = .ok (.aload_n 0, 1) := by decide +kernel
theorem dL_law_171 : decode cL_law 171 = .ok (.iload 4, 2) := by decide +kernel
theorem dL_law_173 : decode cL_law 173 = .ok (.iconst 1, 1) := by decide +kernel
theorem dL_law_174 : decode cL_law 174 = .ok (.iadd, 1) := by decide +kernel
theorem dL_law_175 : decode cL_law 175 = .ok (.iaload, 1) := by decide +kernel
theorem dL_law_176 : decode cL_law 176 = .ok (.invokevirtual 45, 3) := by decide +kernel
theorem dL_law_179 : decode cL_law 179 = .ok (.aload_n 2, 1) := by decide +kernel
theorem dL_law_180 : decode cL_law 180 = .ok (.aload_n 0, 1) := by decide +kernel
theorem dL_law_181 : decode cL_law 181 = .ok (.iload 4, 2) := by decide +kernel
theorem dL_law_183 : decode cL_law 183 = .ok (.iconst 1, 1) := by decide +kernel
theorem dL_law_184 : decode cL_law 184 = .ok (.iadd, 1) := by decide +kernel
theorem dL_law_185 : decode cL_law 185 = .ok (.iaload, 1) := by decide +kernel
theorem dL_law_186 : decode cL_law 186 = .ok (.invokevirtual 48, 3) := by decide +kernel
theorem dL_law_189 : decode cL_law 189 = .ok (.goto 811, 3) := by decide +kernel
theorem dL_law_192 : decode cL_law 192 = .ok (.aload_n 1, 1) := by decide +kernel
theorem dL_law_193 : decode cL_law 193 = .ok (.aload_n 0, 1) := by decide +kernel
theorem dL_law_194 : decode cL_law 194 = .ok (.iload 4, 2) := by decide +kernel
theorem dL_law_196 : decode cL_law 196 = .ok (.iconst 1, 1) := by decide +kernel
theorem dL_law_197 : decode cL_law 197 = .ok (.iadd, 1) := by decide +kernel
theorem dL_law_198 : decode cL_law 198 = .ok (.iaload, 1) := by decide +kernel
theorem dL_law_199 : decode cL_law 199 = .ok (.aload_n 0, 1) := by decide +kernel
theorem dL_law_200 : decode cL_law 200 = .ok (.iload 4, 2) := by decide +kernel
theorem dL_law_202 : decode cL_law 202 = .ok (.iconst 2, 1) := by decide +kernel
theorem dL_law_203 : decode cL_law 203 = .ok (.iadd, 1) := by decide +kernel
theorem dL_law_204 : decode cL_law 204 = .ok (.iaload, 1) := by decide +kernel
theorem dL_law_205 : decode cL_law 205 = .ok (.i2l, 1) := by decide +kernel
theorem dL_law_206 : decode cL_law 206 = .ok (.bipush 32, 2) := by decide +kernel
theorem dL_law_208 : decode cL_law 208 = .ok (.lshl, 1) := by decide +kernel
theorem dL_law_209 : decode cL_law 209 = .ok (.aload_n 0, 1) := by decide +kernel
theorem dL_law_210 : decode cL_law 210 = .ok (.iload 4, 2) := by decide +kernel
theorem dL_law_212 : decode cL_law 212 = .ok (.iconst 3, 1) := by decide +kernel
theorem dL_law_213 : decode cL_law 213 = .ok (.iadd, 1) := by decide +kernel
theorem dL_law_214 : decode cL_law 214 = .ok (.iaload, 1) := by decide +kernel
theorem dL_law_215 : decode cL_law 215 = .ok (.i2l, 1) := by decide +kernel
theorem dL_law_216 : decode cL_law 216 = .ok (.ldc2_w 49, 3) := by decide +kernel
theorem dL_law_219 : decode cL_law 219 = .ok (.land, 1) := by decide +kernel
theorem dL_law_220 : decode cL_law 220 = .ok (.lor, 1) := by decide +kernel
theorem dL_law_221 : decode cL_law 221 = .ok (.invokevirtual 51, 3) := by decide +kernel
theorem dL_law_224 : decode cL_law 224 = .ok (.aload_n 2, 1) := by decide +kernel
theorem dL_law_225 : decode cL_law 225 = .ok (.aload_n 0, 1) := by decide +kernel
theorem dL_law_226 : decode cL_law 226 = .ok (.iload 4, 2) := by decide +kernel
theorem dL_law_228 : decode cL_law 228 = .ok (.iconst 1, 1) := by decide +kernel
theorem dL_law_229 : decode cL_law 229 = .ok (.iadd, 1) := by decide +kernel
theorem dL_law_230 : decode cL_law 230 = .ok (.iaload, 1) := by decide +kernel
theorem dL_law_231 : decode cL_law 231 = .ok (.aload_n 0, 1) := by decide +kernel
theorem dL_law_232 : decode cL_law 232 = .ok (.iload 4, 2) := by decide +kernel
theorem dL_law_234 : decode cL_law 234 = .ok (.iconst 2, 1) := by decide +kernel
theorem dL_law_235 : decode cL_law 235 = .ok (.iadd, 1) := by decide +kernel
theorem dL_law_236 : decode cL_law 236 = .ok (.iaload, 1) := by decide +kernel
theorem dL_law_237 : decode cL_law 237 = .ok (.i2l, 1) := by decide +kernel
theorem dL_law_238 : decode cL_law 238 = .ok (.bipush 32, 2) := by decide +kernel
theorem dL_law_240 : decode cL_law 240 = .ok (.lshl, 1) := by decide +kernel
theorem dL_law_241 : decode cL_law 241 = .ok (.aload_n 0, 1) := by decide +kernel
theorem dL_law_242 : decode cL_law 242 = .ok (.iload 4, 2) := by decide +kernel
theorem dL_law_244 : decode cL_law 244 = .ok (.iconst 3, 1) := by decide +kernel
theorem dL_law_245 : decode cL_law 245 = .ok (.iadd, 1) := by decide +kernel
theorem dL_law_246 : decode cL_law 246 = .ok (.iaload, 1) := by decide +kernel
theorem dL_law_247 : decode cL_law 247 = .ok (.i2l, 1) := by decide +kernel
theorem dL_law_248 : decode cL_law 248 = .ok (.ldc2_w 49, 3) := by decide +kernel
theorem dL_law_251 : decode cL_law 251 = .ok (.land, 1) := by decide +kernel
theorem dL_law_252 : decode cL_law 252 = .ok (.lor, 1) := by decide +kernel
theorem dL_law_253 : decode cL_law 253 = .ok (.invokevirtual 55, 3) := by decide +kernel
theorem dL_law_256 : decode cL_law 256 = .ok (.if_icmp .eq 744, 3) := by decide +kernel
theorem dL_law_259 : decode cL_law 259 = .ok (.iconst 0, 1) := by decide +kernel
theorem dL_law_260 : decode cL_law 260 = .ok (.ireturn, 1) := by decide +kernel
theorem dL_law_261 : decode cL_law 261 = .ok (.aload_n 1, 1) := by decide +kernel
theorem dL_law_262 : decode cL_law 262 = .ok (.aload_n 0, 1) := by decide +kernel
theorem dL_law_263 : decode cL_law 263 = .ok (.iload 4, 2) := by decide +kernel
theorem dL_law_265 : decode cL_law 265 = .ok (.iconst 1, 1) := by decide +kernel
theorem dL_law_266 : decode cL_law 266 = .ok (.iadd, 1) := by decide +kernel
theorem dL_law_267 : decode cL_law 267 = .ok (.iaload, 1) := by decide +kernel
theorem dL_law_268 : decode cL_law 268 = .ok (.aload_n 0, 1) := by decide +kernel
theorem dL_law_269 : decode cL_law 269 = .ok (.iload 4, 2) := by decide +kernel
theorem dL_law_271 : decode cL_law 271 = .ok (.iconst 2, 1) := by decide +kernel
theorem dL_law_272 : decode cL_law 272 = .ok (.iadd, 1) := by decide +kernel
theorem dL_law_273 : decode cL_law 273 = .ok (.iaload, 1) := by decide +kernel
theorem dL_law_274 : decode cL_law 274 = .ok (.i2l, 1) := by decide +kernel
theorem dL_law_275 : decode cL_law 275 = .ok (.bipush 32, 2) := by decide +kernel
theorem dL_law_277 : decode cL_law 277 = .ok (.lshl, 1) := by decide +kernel
theorem dL_law_278 : decode cL_law 278 = .ok (.aload_n 0, 1) := by decide +kernel
theorem dL_law_279 : decode cL_law 279 = .ok (.iload 4, 2) := by decide +kernel
theorem dL_law_281 : decode cL_law 281 = .ok (.iconst 3, 1) := by decide +kernel
theorem dL_law_282 : decode cL_law 282 = .ok (.iadd, 1) := by decide +kernel
theorem dL_law_283 : decode cL_law 283 = .ok (.iaload, 1) := by decide +kernel
theorem dL_law_284 : decode cL_law 284 = .ok (.i2l, 1) := by decide +kernel
theorem dL_law_285 : decode cL_law 285 = .ok (.ldc2_w 49, 3) := by decide +kernel
theorem dL_law_288 : decode cL_law 288 = .ok (.land, 1) := by decide +kernel
theorem dL_law_289 : decode cL_law 289 = .ok (.lor, 1) := by decide +kernel
theorem dL_law_290 : decode cL_law 290 = .ok (.aload_n 0, 1) := by decide +kernel
theorem dL_law_291 : decode cL_law 291 = .ok (.iload 4, 2) := by decide +kernel
theorem dL_law_293 : decode cL_law 293 = .ok (.iconst 4, 1) := by decide +kernel
theorem dL_law_294 : decode cL_law 294 = .ok (.iadd, 1) := by decide +kernel
theorem dL_law_295 : decode cL_law 295 = .ok (.iaload, 1) := by decide +kernel
theorem dL_law_296 : decode cL_law 296 = .ok (.aload_n 0, 1) := by decide +kernel
theorem dL_law_297 : decode cL_law 297 = .ok (.iload 4, 2) := by decide +kernel
theorem dL_law_299 : decode cL_law 299 = .ok (.iconst 5, 1) := by decide +kernel
theorem dL_law_300 : decode cL_law 300 = .ok (.iadd, 1) := by decide +kernel
theorem dL_law_301 : decode cL_law 301 = .ok (.iaload, 1) := by decide +kernel
theorem dL_law_302 : decode cL_law 302 = .ok (.invokevirtual 56, 3) := by decide +kernel
theorem dL_law_305 : decode cL_law 305 = .ok (.aload_n 2, 1) := by decide +kernel
theorem dL_law_306 : decode cL_law 306 = .ok (.aload_n 0, 1) := by decide +kernel
theorem dL_law_307 : decode cL_law 307 = .ok (.iload 4, 2) := by decide +kernel
theorem dL_law_309 : decode cL_law 309 = .ok (.iconst 1, 1) := by decide +kernel
theorem dL_law_310 : decode cL_law 310 = .ok (.iadd, 1) := by decide +kernel
theorem dL_law_311 : decode cL_law 311 = .ok (.iaload, 1) := by decide +kernel
theorem dL_law_312 : decode cL_law 312 = .ok (.aload_n 0, 1) := by decide +kernel
theorem dL_law_313 : decode cL_law 313 = .ok (.iload 4, 2) := by decide +kernel
theorem dL_law_315 : decode cL_law 315 = .ok (.iconst 2, 1) := by decide +kernel
theorem dL_law_316 : decode cL_law 316 = .ok (.iadd, 1) := by decide +kernel
theorem dL_law_317 : decode cL_law 317 = .ok (.iaload, 1) := by decide +kernel
theorem dL_law_318 : decode cL_law 318 = .ok (.i2l, 1) := by decide +kernel
theorem dL_law_319 : decode cL_law 319 = .ok (.bipush 32, 2) := by decide +kernel
theorem dL_law_321 : decode cL_law 321 = .ok (.lshl, 1) := by decide +kernel
theorem dL_law_322 : decode cL_law 322 = .ok (.aload_n 0, 1) := by decide +kernel
theorem dL_law_323 : decode cL_law 323 = .ok (.iload 4, 2) := by decide +kernel
theorem dL_law_325 : decode cL_law 325 = .ok (.iconst 3, 1) := by decide +kernel
theorem dL_law_326 : decode cL_law 326 = .ok (.iadd, 1) := by decide +kernel
theorem dL_law_327 : decode cL_law 327 = .ok (.iaload, 1) := by decide +kernel
theorem dL_law_328 : decode cL_law 328 = .ok (.i2l, 1) := by decide +kernel
theorem dL_law_329 : decode cL_law 329 = .ok (.ldc2_w 49, 3) := by decide +kernel
theorem dL_law_332 : decode cL_law 332 = .ok (.land, 1) := by decide +kernel
theorem dL_law_333 : decode cL_law 333 = .ok (.lor, 1) := by decide +kernel
theorem dL_law_334 : decode cL_law 334 = .ok (.aload_n 0, 1) := by decide +kernel
theorem dL_law_335 : decode cL_law 335 = .ok (.iload 4, 2) := by decide +kernel
theorem dL_law_337 : decode cL_law 337 = .ok (.iconst 4, 1) := by decide +kernel
theorem dL_law_338 : decode cL_law 338 = .ok (.iadd, 1) := by decide +kernel
theorem dL_law_339 : decode cL_law 339 = .ok (.iaload, 1) := by decide +kernel
theorem dL_law_340 : decode cL_law 340 = .ok (.aload_n 0, 1) := by decide +kernel
theorem dL_law_341 : decode cL_law 341 = .ok (.iload 4, 2) := by decide +kernel
theorem dL_law_343 : decode cL_law 343 = .ok (.iconst 5, 1) := by decide +kernel
theorem dL_law_344 : decode cL_law 344 = .ok (.iadd, 1) := by decide +kernel
theorem dL_law_345 : decode cL_law 345 = .ok (.iaload, 1) := by decide +kernel
theorem dL_law_346 : decode cL_law 346 = .ok (.invokevirtual 60, 3) := by decide +kernel
theorem dL_law_349 : decode cL_law 349 = .ok (.if_icmp .eq 651, 3) := by decide +kernel
theorem dL_law_352 : decode cL_law 352 = .ok (.iconst 0, 1) := by decide +kernel
theorem dL_law_353 : decode cL_law 353 = .ok (.ireturn, 1) := by decide +kernel
theorem dL_law_354 : decode cL_law 354 = .ok (.aload_n 1, 1) := by decide +kernel
theorem dL_law_355 : decode cL_law 355 = .ok (.aload_n 0, 1) := by decide +kernel
theorem dL_law_356 : decode cL_law 356 = .ok (.iload 4, 2) := by decide +kernel
theorem dL_law_358 : decode cL_law 358 = .ok (.iconst 1, 1) := by decide +kernel
theorem dL_law_359 : decode cL_law 359 = .ok (.iadd, 1) := by decide +kernel
theorem dL_law_360 : decode cL_law 360 = .ok (.iaload, 1) := by decide +kernel
theorem dL_law_361 : decode cL_law 361 = .ok (.aload_n 0, 1) := by decide +kernel
theorem dL_law_362 : decode cL_law 362 = .ok (.iload 4, 2) := by decide +kernel
theorem dL_law_364 : decode cL_law 364 = .ok (.iconst 2, 1) := by decide +kernel
theorem dL_law_365 : decode cL_law 365 = .ok (.iadd, 1) := by decide +kernel
theorem dL_law_366 : decode cL_law 366 = .ok (.iaload, 1) := by decide +kernel
theorem dL_law_367 : decode cL_law 367 = .ok (.aload_n 0, 1) := by decide +kernel
theorem dL_law_368 : decode cL_law 368 = .ok (.iload 4, 2) := by decide +kernel
theorem dL_law_370 : decode cL_law 370 = .ok (.iconst 3, 1) := by decide +kernel
theorem dL_law_371 : decode cL_law 371 = .ok (.iadd, 1) := by decide +kernel
theorem dL_law_372 : decode cL_law 372 = .ok (.iaload, 1) := by decide +kernel
theorem dL_law_373 : decode cL_law 373 = .ok (.invokevirtual 61, 3) := by decide +kernel
theorem dL_law_376 : decode cL_law 376 = .ok (.aload_n 2, 1) := by decide +kernel
theorem dL_law_377 : decode cL_law 377 = .ok (.aload_n 0, 1) := by decide +kernel
theorem dL_law_378 : decode cL_law 378 = .ok (.iload 4, 2) := by decide +kernel
theorem dL_law_380 : decode cL_law 380 = .ok (.iconst 1, 1) := by decide +kernel
theorem dL_law_381 : decode cL_law 381 = .ok (.iadd, 1) := by decide +kernel
theorem dL_law_382 : decode cL_law 382 = .ok (.iaload, 1) := by decide +kernel
theorem dL_law_383 : decode cL_law 383 = .ok (.aload_n 0, 1) := by decide +kernel
theorem dL_law_384 : decode cL_law 384 = .ok (.iload 4, 2) := by decide +kernel
theorem dL_law_386 : decode cL_law 386 = .ok (.iconst 2, 1) := by decide +kernel
theorem dL_law_387 : decode cL_law 387 = .ok (.iadd, 1) := by decide +kernel
theorem dL_law_388 : decode cL_law 388 = .ok (.iaload, 1) := by decide +kernel
theorem dL_law_389 : decode cL_law 389 = .ok (.aload_n 0, 1) := by decide +kernel
theorem dL_law_390 : decode cL_law 390 = .ok (.iload 4, 2) := by decide +kernel
theorem dL_law_392 : decode cL_law 392 = .ok (.iconst 3, 1) := by decide +kernel
theorem dL_law_393 : decode cL_law 393 = .ok (.iadd, 1) := by decide +kernel
theorem dL_law_394 : decode cL_law 394 = .ok (.iaload, 1) := by decide +kernel
theorem dL_law_395 : decode cL_law 395 = .ok (.invokevirtual 65, 3) := by decide +kernel
theorem dL_law_398 : decode cL_law 398 = .ok (.if_icmp .eq 602, 3) := by decide +kernel
theorem dL_law_401 : decode cL_law 401 = .ok (.iconst 0, 1) := by decide +kernel
theorem dL_law_402 : decode cL_law 402 = .ok (.ireturn, 1) := by decide +kernel
theorem dL_law_403 : decode cL_law 403 = .ok (.aload_n 1, 1) := by decide +kernel
theorem dL_law_404 : decode cL_law 404 = .ok (.aload_n 0, 1) := by decide +kernel
theorem dL_law_405 : decode cL_law 405 = .ok (.iload 4, 2) := by decide +kernel
theorem dL_law_407 : decode cL_law 407 = .ok (.iconst 1, 1) := by decide +kernel
theorem dL_law_408 : decode cL_law 408 = .ok (.iadd, 1) := by decide +kernel
theorem dL_law_409 : decode cL_law 409 = .ok (.iaload, 1) := by decide +kernel
theorem dL_law_410 : decode cL_law 410 = .ok (.invokevirtual 66, 3) := by decide +kernel
theorem dL_law_413 : decode cL_law 413 = .ok (.aload_n 2, 1) := by decide +kernel
theorem dL_law_414 : decode cL_law 414 = .ok (.aload_n 0, 1) := by decide +kernel
theorem dL_law_415 : decode cL_law 415 = .ok (.iload 4, 2) := by decide +kernel
theorem dL_law_417 : decode cL_law 417 = .ok (.iconst 1, 1) := by decide +kernel
theorem dL_law_418 : decode cL_law 418 = .ok (.iadd, 1) := by decide +kernel
theorem dL_law_419 : decode cL_law 419 = .ok (.iaload, 1) := by decide +kernel
theorem dL_law_420 : decode cL_law 420 = .ok (.invokevirtual 70, 3) := by decide +kernel
theorem dL_law_423 : decode cL_law 423 = .ok (.if_icmp .eq 577, 3) := by decide +kernel
theorem dL_law_426 : decode cL_law 426 = .ok (.iconst 0, 1) := by decide +kernel
theorem dL_law_427 : decode cL_law 427 = .ok (.ireturn, 1) := by decide +kernel
theorem dL_law_428 : decode cL_law 428 = .ok (.aload_n 1, 1) := by decide +kernel
theorem dL_law_429 : decode cL_law 429 = .ok (.aload_n 0, 1) := by decide +kernel
theorem dL_law_430 : decode cL_law 430 = .ok (.iload 4, 2) := by decide +kernel
theorem dL_law_432 : decode cL_law 432 = .ok (.iconst 1, 1) := by decide +kernel
theorem dL_law_433 : decode cL_law 433 = .ok (.iadd, 1) := by decide +kernel
theorem dL_law_434 : decode cL_law 434 = .ok (.iaload, 1) := by decide +kernel
theorem dL_law_435 : decode cL_law 435 = .ok (.aload_n 0, 1) := by decide +kernel
theorem dL_law_436 : decode cL_law 436 = .ok (.iload 4, 2) := by decide +kernel
theorem dL_law_438 : decode cL_law 438 = .ok (.iconst 2, 1) := by decide +kernel
theorem dL_law_439 : decode cL_law 439 = .ok (.iadd, 1) := by decide +kernel
theorem dL_law_440 : decode cL_law 440 = .ok (.iaload, 1) := by decide +kernel
theorem dL_law_441 : decode cL_law 441 = .ok (.aload_n 0, 1) := by decide +kernel
theorem dL_law_442 : decode cL_law 442 = .ok (.iload 4, 2) := by decide +kernel
theorem dL_law_444 : decode cL_law 444 = .ok (.iconst 3, 1) := by decide +kernel
theorem dL_law_445 : decode cL_law 445 = .ok (.iadd, 1) := by decide +kernel
theorem dL_law_446 : decode cL_law 446 = .ok (.iaload, 1) := by decide +kernel
theorem dL_law_447 : decode cL_law 447 = .ok (.i2l, 1) := by decide +kernel
theorem dL_law_448 : decode cL_law 448 = .ok (.bipush 32, 2) := by decide +kernel
theorem dL_law_450 : decode cL_law 450 = .ok (.lshl, 1) := by decide +kernel
theorem dL_law_451 : decode cL_law 451 = .ok (.aload_n 0, 1) := by decide +kernel
theorem dL_law_452 : decode cL_law 452 = .ok (.iload 4, 2) := by decide +kernel
theorem dL_law_454 : decode cL_law 454 = .ok (.iconst 4, 1) := by decide +kernel
theorem dL_law_455 : decode cL_law 455 = .ok (.iadd, 1) := by decide +kernel
theorem dL_law_456 : decode cL_law 456 = .ok (.iaload, 1) := by decide +kernel
theorem dL_law_457 : decode cL_law 457 = .ok (.i2l, 1) := by decide +kernel
theorem dL_law_458 : decode cL_law 458 = .ok (.ldc2_w 49, 3) := by decide +kernel
theorem dL_law_461 : decode cL_law 461 = .ok (.land, 1) := by decide +kernel
theorem dL_law_462 : decode cL_law 462 = .ok (.lor, 1) := by decide +kernel
theorem dL_law_463 : decode cL_law 463 = .ok (.invokevirtual 71, 3) := by decide +kernel
theorem dL_law_466 : decode cL_law 466 = .ok (.aload_n 2, 1) := by decide +kernel
theorem dL_law_467 : decode cL_law 467 = .ok (.aload_n 0, 1) := by decide +kernel
theorem dL_law_468 : decode cL_law 468 = .ok (.iload 4, 2) := by decide +kernel
theorem dL_law_470 : decode cL_law 470 = .ok (.iconst 1, 1) := by decide +kernel
theorem dL_law_471 : decode cL_law 471 = .ok (.iadd, 1) := by decide +kernel
theorem dL_law_472 : decode cL_law 472 = .ok (.iaload, 1) := by decide +kernel
theorem dL_law_473 : decode cL_law 473 = .ok (.aload_n 0, 1) := by decide +kernel
theorem dL_law_474 : decode cL_law 474 = .ok (.iload 4, 2) := by decide +kernel
theorem dL_law_476 : decode cL_law 476 = .ok (.iconst 2, 1) := by decide +kernel
theorem dL_law_477 : decode cL_law 477 = .ok (.iadd, 1) := by decide +kernel
theorem dL_law_478 : decode cL_law 478 = .ok (.iaload, 1) := by decide +kernel
theorem dL_law_479 : decode cL_law 479 = .ok (.aload_n 0, 1) := by decide +kernel
theorem dL_law_480 : decode cL_law 480 = .ok (.iload 4, 2) := by decide +kernel
theorem dL_law_482 : decode cL_law 482 = .ok (.iconst 3, 1) := by decide +kernel
theorem dL_law_483 : decode cL_law 483 = .ok (.iadd, 1) := by decide +kernel
theorem dL_law_484 : decode cL_law 484 = .ok (.iaload, 1) := by decide +kernel
theorem dL_law_485 : decode cL_law 485 = .ok (.i2l, 1) := by decide +kernel
theorem dL_law_486 : decode cL_law 486 = .ok (.bipush 32, 2) := by decide +kernel
theorem dL_law_488 : decode cL_law 488 = .ok (.lshl, 1) := by decide +kernel
theorem dL_law_489 : decode cL_law 489 = .ok (.aload_n 0, 1) := by decide +kernel
theorem dL_law_490 : decode cL_law 490 = .ok (.iload 4, 2) := by decide +kernel
theorem dL_law_492 : decode cL_law 492 = .ok (.iconst 4, 1) := by decide +kernel
theorem dL_law_493 : decode cL_law 493 = .ok (.iadd, 1) := by decide +kernel
theorem dL_law_494 : decode cL_law 494 = .ok (.iaload, 1) := by decide +kernel
theorem dL_law_495 : decode cL_law 495 = .ok (.i2l, 1) := by decide +kernel
theorem dL_law_496 : decode cL_law 496 = .ok (.ldc2_w 49, 3) := by decide +kernel
theorem dL_law_499 : decode cL_law 499 = .ok (.land, 1) := by decide +kernel
theorem dL_law_500 : decode cL_law 500 = .ok (.lor, 1) := by decide +kernel
theorem dL_law_501 : decode cL_law 501 = .ok (.invokevirtual 75, 3) := by decide +kernel
theorem dL_law_504 : decode cL_law 504 = .ok (.if_icmp .eq 496, 3) := by decide +kernel
theorem dL_law_507 : decode cL_law 507 = .ok (.iconst 0, 1) := by decide +kernel
theorem dL_law_508 : decode cL_law 508 = .ok (.ireturn, 1) := by decide +kernel
theorem dL_law_509 : decode cL_law 509 = .ok (.aload_n 1, 1) := by decide +kernel
theorem dL_law_510 : decode cL_law 510 = .ok (.invokevirtual 76, 3) := by decide +kernel
theorem dL_law_513 : decode cL_law 513 = .ok (.aload_n 2, 1) := by decide +kernel
theorem dL_law_514 : decode cL_law 514 = .ok (.invokevirtual 80, 3) := by decide +kernel
theorem dL_law_517 : decode cL_law 517 = .ok (.if_icmp .eq 483, 3) := by decide +kernel
theorem dL_law_520 : decode cL_law 520 = .ok (.iconst 0, 1) := by decide +kernel
theorem dL_law_521 : decode cL_law 521 = .ok (.ireturn, 1) := by decide +kernel
theorem dL_law_522 : decode cL_law 522 = .ok (.aload_n 1, 1) := by decide +kernel
theorem dL_law_523 : decode cL_law 523 = .ok (.invokevirtual 81, 3) := by decide +kernel
theorem dL_law_526 : decode cL_law 526 = .ok (.aload_n 2, 1) := by decide +kernel
theorem dL_law_527 : decode cL_law 527 = .ok (.invokevirtual 84, 3) := by decide +kernel
theorem dL_law_530 : decode cL_law 530 = .ok (.if_icmp .eq 470, 3) := by decide +kernel
theorem dL_law_533 : decode cL_law 533 = .ok (.iconst 0, 1) := by decide +kernel
theorem dL_law_534 : decode cL_law 534 = .ok (.ireturn, 1) := by decide +kernel
theorem dL_law_535 : decode cL_law 535 = .ok (.aload_n 1, 1) := by decide +kernel
theorem dL_law_536 : decode cL_law 536 = .ok (.invokevirtual 85, 3) := by decide +kernel
theorem dL_law_539 : decode cL_law 539 = .ok (.aload_n 2, 1) := by decide +kernel
theorem dL_law_540 : decode cL_law 540 = .ok (.invokevirtual 88, 3) := by decide +kernel
theorem dL_law_543 : decode cL_law 543 = .ok (.if_icmp .eq 457, 3) := by decide +kernel
theorem dL_law_546 : decode cL_law 546 = .ok (.iconst 0, 1) := by decide +kernel
theorem dL_law_547 : decode cL_law 547 = .ok (.ireturn, 1) := by decide +kernel
theorem dL_law_548 : decode cL_law 548 = .ok (.aload_n 1, 1) := by decide +kernel
theorem dL_law_549 : decode cL_law 549 = .ok (.aload_n 0, 1) := by decide +kernel
theorem dL_law_550 : decode cL_law 550 = .ok (.iload 4, 2) := by decide +kernel
theorem dL_law_552 : decode cL_law 552 = .ok (.iconst 1, 1) := by decide +kernel
theorem dL_law_553 : decode cL_law 553 = .ok (.iadd, 1) := by decide +kernel
theorem dL_law_554 : decode cL_law 554 = .ok (.iaload, 1) := by decide +kernel
theorem dL_law_555 : decode cL_law 555 = .ok (.invokevirtual 89, 3) := by decide +kernel
theorem dL_law_558 : decode cL_law 558 = .ok (.aload_n 2, 1) := by decide +kernel
theorem dL_law_559 : decode cL_law 559 = .ok (.aload_n 0, 1) := by decide +kernel
theorem dL_law_560 : decode cL_law 560 = .ok (.iload 4, 2) := by decide +kernel
theorem dL_law_562 : decode cL_law 562 = .ok (.iconst 1, 1) := by decide +kernel
theorem dL_law_563 : decode cL_law 563 = .ok (.iadd, 1) := by decide +kernel
theorem dL_law_564 : decode cL_law 564 = .ok (.iaload, 1) := by decide +kernel
theorem dL_law_565 : decode cL_law 565 = .ok (.invokevirtual 92, 3) := by decide +kernel
theorem dL_law_568 : decode cL_law 568 = .ok (.if_icmp .eq 432, 3) := by decide +kernel
theorem dL_law_571 : decode cL_law 571 = .ok (.iconst 0, 1) := by decide +kernel
theorem dL_law_572 : decode cL_law 572 = .ok (.ireturn, 1) := by decide +kernel
theorem dL_law_573 : decode cL_law 573 = .ok (.aload_n 1, 1) := by decide +kernel
theorem dL_law_574 : decode cL_law 574 = .ok (.aload_n 0, 1) := by decide +kernel
theorem dL_law_575 : decode cL_law 575 = .ok (.iload 4, 2) := by decide +kernel
theorem dL_law_577 : decode cL_law 577 = .ok (.iconst 1, 1) := by decide +kernel
theorem dL_law_578 : decode cL_law 578 = .ok (.iadd, 1) := by decide +kernel
theorem dL_law_579 : decode cL_law 579 = .ok (.iaload, 1) := by decide +kernel
theorem dL_law_580 : decode cL_law 580 = .ok (.invokevirtual 93, 3) := by decide +kernel
theorem dL_law_583 : decode cL_law 583 = .ok (.aload_n 2, 1) := by decide +kernel
theorem dL_law_584 : decode cL_law 584 = .ok (.aload_n 0, 1) := by decide +kernel
theorem dL_law_585 : decode cL_law 585 = .ok (.iload 4, 2) := by decide +kernel
theorem dL_law_587 : decode cL_law 587 = .ok (.iconst 1, 1) := by decide +kernel
theorem dL_law_588 : decode cL_law 588 = .ok (.iadd, 1) := by decide +kernel
theorem dL_law_589 : decode cL_law 589 = .ok (.iaload, 1) := by decide +kernel
theorem dL_law_590 : decode cL_law 590 = .ok (.invokevirtual 96, 3) := by decide +kernel
theorem dL_law_593 : decode cL_law 593 = .ok (.if_icmp .eq 407, 3) := by decide +kernel
theorem dL_law_596 : decode cL_law 596 = .ok (.iconst 0, 1) := by decide +kernel
theorem dL_law_597 : decode cL_law 597 = .ok (.ireturn, 1) := by decide +kernel
theorem dL_law_598 : decode cL_law 598 = .ok (.aload_n 1, 1) := by decide +kernel
theorem dL_law_599 : decode cL_law 599 = .ok (.aload_n 0, 1) := by decide +kernel
theorem dL_law_600 : decode cL_law 600 = .ok (.iload 4, 2) := by decide +kernel
theorem dL_law_602 : decode cL_law 602 = .ok (.iconst 1, 1) := by decide +kernel
theorem dL_law_603 : decode cL_law 603 = .ok (.iadd, 1) := by decide +kernel
theorem dL_law_604 : decode cL_law 604 = .ok (.iaload, 1) := by decide +kernel
theorem dL_law_605 : decode cL_law 605 = .ok (.aload_n 0, 1) := by decide +kernel
theorem dL_law_606 : decode cL_law 606 = .ok (.iload 4, 2) := by decide +kernel
theorem dL_law_608 : decode cL_law 608 = .ok (.iconst 2, 1) := by decide +kernel
theorem dL_law_609 : decode cL_law 609 = .ok (.iadd, 1) := by decide +kernel
theorem dL_law_610 : decode cL_law 610 = .ok (.iaload, 1) := by decide +kernel
theorem dL_law_611 : decode cL_law 611 = .ok (.invokevirtual 97, 3) := by decide +kernel
theorem dL_law_614 : decode cL_law 614 = .ok (.aload_n 2, 1) := by decide +kernel
theorem dL_law_615 : decode cL_law 615 = .ok (.aload_n 0, 1) := by decide +kernel
theorem dL_law_616 : decode cL_law 616 = .ok (.iload 4, 2) := by decide +kernel
theorem dL_law_618 : decode cL_law 618 = .ok (.iconst 1, 1) := by decide +kernel
theorem dL_law_619 : decode cL_law 619 = .ok (.iadd, 1) := by decide +kernel
theorem dL_law_620 : decode cL_law 620 = .ok (.iaload, 1) := by decide +kernel
theorem dL_law_621 : decode cL_law 621 = .ok (.aload_n 0, 1) := by decide +kernel
theorem dL_law_622 : decode cL_law 622 = .ok (.iload 4, 2) := by decide +kernel
theorem dL_law_624 : decode cL_law 624 = .ok (.iconst 2, 1) := by decide +kernel
theorem dL_law_625 : decode cL_law 625 = .ok (.iadd, 1) := by decide +kernel
theorem dL_law_626 : decode cL_law 626 = .ok (.iaload, 1) := by decide +kernel
theorem dL_law_627 : decode cL_law 627 = .ok (.invokevirtual 100, 3) := by decide +kernel
theorem dL_law_630 : decode cL_law 630 = .ok (.if_icmp .eq 370, 3) := by decide +kernel
theorem dL_law_633 : decode cL_law 633 = .ok (.iconst 0, 1) := by decide +kernel
theorem dL_law_634 : decode cL_law 634 = .ok (.ireturn, 1) := by decide +kernel
theorem dL_law_635 : decode cL_law 635 = .ok (.aload_n 1, 1) := by decide +kernel
theorem dL_law_636 : decode cL_law 636 = .ok (.invokevirtual 101, 3) := by decide +kernel
theorem dL_law_639 : decode cL_law 639 = .ok (.aload_n 2, 1) := by decide +kernel
theorem dL_law_640 : decode cL_law 640 = .ok (.invokevirtual 104, 3) := by decide +kernel
theorem dL_law_643 : decode cL_law 643 = .ok (.if_icmp .eq 357, 3) := by decide +kernel
theorem dL_law_646 : decode cL_law 646 = .ok (.iconst 0, 1) := by decide +kernel
theorem dL_law_647 : decode cL_law 647 = .ok (.ireturn, 1) := by decide +kernel
theorem dL_law_648 : decode cL_law 648 = .ok (.aload_n 1, 1) := by decide +kernel
theorem dL_law_649 : decode cL_law 649 = .ok (.aload_n 0, 1) := by decide +kernel
theorem dL_law_650 : decode cL_law 650 = .ok (.iload 4, 2) := by decide +kernel
theorem dL_law_652 : decode cL_law 652 = .ok (.iconst 1, 1) := by decide +kernel
theorem dL_law_653 : decode cL_law 653 = .ok (.iadd, 1) := by decide +kernel
theorem dL_law_654 : decode cL_law 654 = .ok (.iaload, 1) := by decide +kernel
theorem dL_law_655 : decode cL_law 655 = .ok (.aload_n 0, 1) := by decide +kernel
theorem dL_law_656 : decode cL_law 656 = .ok (.iload 4, 2) := by decide +kernel
theorem dL_law_658 : decode cL_law 658 = .ok (.iconst 2, 1) := by decide +kernel
theorem dL_law_659 : decode cL_law 659 = .ok (.iadd, 1) := by decide +kernel
theorem dL_law_660 : decode cL_law 660 = .ok (.iaload, 1) := by decide +kernel
theorem dL_law_661 : decode cL_law 661 = .ok (.aload_n 3, 1) := by decide +kernel
theorem dL_law_662 : decode cL_law 662 = .ok (.invokestatic 105, 3) := by decide +kernel
theorem dL_law_665 : decode cL_law 665 = .ok (.istore 5, 2) := by decide +kernel
theorem dL_law_667 : decode cL_law 667 = .ok (.aload_n 2, 1) := by decide +kernel
theorem dL_law_668 : decode cL_law 668 = .ok (.aload_n 0, 1) := by decide +kernel
theorem dL_law_669 : decode cL_law 669 = .ok (.iload 4, 2) := by decide +kernel
theorem dL_law_671 : decode cL_law 671 = .ok (.iconst 1, 1) := by decide +kernel
theorem dL_law_672 : decode cL_law 672 = .ok (.iadd, 1) := by decide +kernel
theorem dL_law_673 : decode cL_law 673 = .ok (.iaload, 1) := by decide +kernel
theorem dL_law_674 : decode cL_law 674 = .ok (.aload_n 0, 1) := by decide +kernel
theorem dL_law_675 : decode cL_law 675 = .ok (.iload 4, 2) := by decide +kernel
theorem dL_law_677 : decode cL_law 677 = .ok (.iconst 2, 1) := by decide +kernel
theorem dL_law_678 : decode cL_law 678 = .ok (.iadd, 1) := by decide +kernel
theorem dL_law_679 : decode cL_law 679 = .ok (.iaload, 1) := by decide +kernel
theorem dL_law_680 : decode cL_law 680 = .ok (.invokevirtual 108, 3) := by decide +kernel
theorem dL_law_683 : decode cL_law 683 = .ok (.istore 6, 2) := by decide +kernel
theorem dL_law_685 : decode cL_law 685 = .ok (.aload_n 2, 1) := by decide +kernel
theorem dL_law_686 : decode cL_law 686 = .ok (.invokevirtual 109, 3) := by decide +kernel
theorem dL_law_689 : decode cL_law 689 = .ok (.iload 5, 2) := by decide +kernel
theorem dL_law_691 : decode cL_law 691 = .ok (.if_icmp .eq 5, 3) := by decide +kernel
theorem dL_law_694 : decode cL_law 694 = .ok (.iconst 0, 1) := by decide +kernel
theorem dL_law_695 : decode cL_law 695 = .ok (.ireturn, 1) := by decide +kernel
theorem dL_law_696 : decode cL_law 696 = .ok (.iload 5, 2) := by decide +kernel
theorem dL_law_698 : decode cL_law 698 = .ok (.ifCond .ne 15, 3) := by decide +kernel
theorem dL_law_701 : decode cL_law 701 = .ok (.aload_n 3, 1) := by decide +kernel
theorem dL_law_702 : decode cL_law 702 = .ok (.iconst 0, 1) := by decide +kernel
theorem dL_law_703 : decode cL_law 703 = .ok (.laload, 1) := by decide +kernel
theorem dL_law_704 : decode cL_law 704 = .ok (.iload 6, 2) := by decide +kernel
theorem dL_law_706 : decode cL_law 706 = .ok (.i2l, 1) := by decide +kernel
theorem dL_law_707 : decode cL_law 707 = .ok (.lcmp, 1) := by decide +kernel
theorem dL_law_708 : decode cL_law 708 = .ok (.ifCond .eq 5, 3) := by decide +kernel
theorem dL_law_711 : decode cL_law 711 = .ok (.iconst 0, 1) := by decide +kernel
theorem dL_law_712 : decode cL_law 712 = .ok (.ireturn, 1) := by decide +kernel
theorem dL_law_713 : decode cL_law 713 = .ok (.goto 287, 3) := by decide +kernel
theorem dL_law_716 : decode cL_law 716 = .ok (.aload_n 1, 1) := by decide +kernel
theorem dL_law_717 : decode cL_law 717 = .ok (.aload_n 0, 1) := by decide +kernel
theorem dL_law_718 : decode cL_law 718 = .ok (.iload 4, 2) := by decide +kernel
theorem dL_law_720 : decode cL_law 720 = .ok (.iconst 1, 1) := by decide +kernel
theorem dL_law_721 : decode cL_law 721 = .ok (.iadd, 1) := by decide +kernel
theorem dL_law_722 : decode cL_law 722 = .ok (.iaload, 1) := by decide +kernel
theorem dL_law_723 : decode cL_law 723 = .ok (.invokevirtual 112, 3) := by decide +kernel
theorem dL_law_726 : decode cL_law 726 = .ok (.aload_n 2, 1) := by decide +kernel
theorem dL_law_727 : decode cL_law 727 = .ok (.aload_n 0, 1) := by decide +kernel
theorem dL_law_728 : decode cL_law 728 = .ok (.iload 4, 2) := by decide +kernel
theorem dL_law_730 : decode cL_law 730 = .ok (.iconst 1, 1) := by decide +kernel
theorem dL_law_731 : decode cL_law 731 = .ok (.iadd, 1) := by decide +kernel
theorem dL_law_732 : decode cL_law 732 = .ok (.iaload, 1) := by decide +kernel
theorem dL_law_733 : decode cL_law 733 = .ok (.invokevirtual 115, 3) := by decide +kernel
theorem dL_law_736 : decode cL_law 736 = .ok (.if_icmp .eq 264, 3) := by decide +kernel
theorem dL_law_739 : decode cL_law 739 = .ok (.iconst 0, 1) := by decide +kernel
theorem dL_law_740 : decode cL_law 740 = .ok (.ireturn, 1) := by decide +kernel
theorem dL_law_741 : decode cL_law 741 = .ok (.aload_n 1, 1) := by decide +kernel
theorem dL_law_742 : decode cL_law 742 = .ok (.aload_n 0, 1) := by decide +kernel
theorem dL_law_743 : decode cL_law 743 = .ok (.iload 4, 2) := by decide +kernel
theorem dL_law_745 : decode cL_law 745 = .ok (.iconst 1, 1) := by decide +kernel
theorem dL_law_746 : decode cL_law 746 = .ok (.iadd, 1) := by decide +kernel
theorem dL_law_747 : decode cL_law 747 = .ok (.iaload, 1) := by decide +kernel
theorem dL_law_748 : decode cL_law 748 = .ok (.aload_n 0, 1) := by decide +kernel
theorem dL_law_749 : decode cL_law 749 = .ok (.iload 4, 2) := by decide +kernel
theorem dL_law_751 : decode cL_law 751 = .ok (.iconst 2, 1) := by decide +kernel
theorem dL_law_752 : decode cL_law 752 = .ok (.iadd, 1) := by decide +kernel
theorem dL_law_753 : decode cL_law 753 = .ok (.iaload, 1) := by decide +kernel
theorem dL_law_754 : decode cL_law 754 = .ok (.aload_n 3, 1) := by decide +kernel
theorem dL_law_755 : decode cL_law 755 = .ok (.invokestatic 116, 3) := by decide +kernel
theorem dL_law_758 : decode cL_law 758 = .ok (.istore 5, 2) := by decide +kernel
theorem dL_law_760 : decode cL_law 760 = .ok (.aload_n 2, 1) := by decide +kernel
theorem dL_law_761 : decode cL_law 761 = .ok (.aload_n 0, 1) := by decide +kernel
theorem dL_law_762 : decode cL_law 762 = .ok (.iload 4, 2) := by decide +kernel
theorem dL_law_764 : decode cL_law 764 = .ok (.iconst 1, 1) := by decide +kernel
theorem dL_law_765 : decode cL_law 765 = .ok (.iadd, 1) := by decide +kernel
theorem dL_law_766 : decode cL_law 766 = .ok (.iaload, 1) := by decide +kernel
theorem dL_law_767 : decode cL_law 767 = .ok (.aload_n 0, 1) := by decide +kernel
theorem dL_law_768 : decode cL_law 768 = .ok (.iload 4, 2) := by decide +kernel
theorem dL_law_770 : decode cL_law 770 = .ok (.iconst 2, 1) := by decide +kernel
theorem dL_law_771 : decode cL_law 771 = .ok (.iadd, 1) := by decide +kernel
theorem dL_law_772 : decode cL_law 772 = .ok (.iaload, 1) := by decide +kernel
theorem dL_law_773 : decode cL_law 773 = .ok (.invokevirtual 118, 3) := by decide +kernel
theorem dL_law_776 : decode cL_law 776 = .ok (.istore 6, 2) := by decide +kernel
theorem dL_law_778 : decode cL_law 778 = .ok (.aload_n 2, 1) := by decide +kernel
theorem dL_law_779 : decode cL_law 779 = .ok (.invokevirtual 109, 3) := by decide +kernel
theorem dL_law_782 : decode cL_law 782 = .ok (.iload 5, 2) := by decide +kernel
theorem dL_law_784 : decode cL_law 784 = .ok (.if_icmp .eq 5, 3) := by decide +kernel
theorem dL_law_787 : decode cL_law 787 = .ok (.iconst 0, 1) := by decide +kernel
theorem dL_law_788 : decode cL_law 788 = .ok (.ireturn, 1) := by decide +kernel
theorem dL_law_789 : decode cL_law 789 = .ok (.iload 5, 2) := by decide +kernel
theorem dL_law_791 : decode cL_law 791 = .ok (.ifCond .ne 15, 3) := by decide +kernel
theorem dL_law_794 : decode cL_law 794 = .ok (.aload_n 3, 1) := by decide +kernel
theorem dL_law_795 : decode cL_law 795 = .ok (.iconst 0, 1) := by decide +kernel
theorem dL_law_796 : decode cL_law 796 = .ok (.laload, 1) := by decide +kernel
theorem dL_law_797 : decode cL_law 797 = .ok (.iload 6, 2) := by decide +kernel
theorem dL_law_799 : decode cL_law 799 = .ok (.i2l, 1) := by decide +kernel
theorem dL_law_800 : decode cL_law 800 = .ok (.lcmp, 1) := by decide +kernel
theorem dL_law_801 : decode cL_law 801 = .ok (.ifCond .eq 5, 3) := by decide +kernel
theorem dL_law_804 : decode cL_law 804 = .ok (.iconst 0, 1) := by decide +kernel
theorem dL_law_805 : decode cL_law 805 = .ok (.ireturn, 1) := by decide +kernel
theorem dL_law_806 : decode cL_law 806 = .ok (.goto 194, 3) := by decide +kernel
theorem dL_law_809 : decode cL_law 809 = .ok (.aload_n 1, 1) := by decide +kernel
theorem dL_law_810 : decode cL_law 810 = .ok (.aload_n 0, 1) := by decide +kernel
theorem dL_law_811 : decode cL_law 811 = .ok (.iload 4, 2) := by decide +kernel
theorem dL_law_813 : decode cL_law 813 = .ok (.iconst 1, 1) := by decide +kernel
theorem dL_law_814 : decode cL_law 814 = .ok (.iadd, 1) := by decide +kernel
theorem dL_law_815 : decode cL_law 815 = .ok (.iaload, 1) := by decide +kernel
theorem dL_law_816 : decode cL_law 816 = .ok (.aload_n 3, 1) := by decide +kernel
theorem dL_law_817 : decode cL_law 817 = .ok (.invokestatic 119, 3) := by decide +kernel
theorem dL_law_820 : decode cL_law 820 = .ok (.istore 5, 2) := by decide +kernel
theorem dL_law_822 : decode cL_law 822 = .ok (.aload_n 2, 1) := by decide +kernel
theorem dL_law_823 : decode cL_law 823 = .ok (.aload_n 0, 1) := by decide +kernel
theorem dL_law_824 : decode cL_law 824 = .ok (.iload 4, 2) := by decide +kernel
theorem dL_law_826 : decode cL_law 826 = .ok (.iconst 1, 1) := by decide +kernel
theorem dL_law_827 : decode cL_law 827 = .ok (.iadd, 1) := by decide +kernel
theorem dL_law_828 : decode cL_law 828 = .ok (.iaload, 1) := by decide +kernel
theorem dL_law_829 : decode cL_law 829 = .ok (.invokevirtual 122, 3) := by decide +kernel
theorem dL_law_832 : decode cL_law 832 = .ok (.lstore 6, 2) := by decide +kernel
theorem dL_law_834 : decode cL_law 834 = .ok (.aload_n 2, 1) := by decide +kernel
theorem dL_law_835 : decode cL_law 835 = .ok (.invokevirtual 109, 3) := by decide +kernel
theorem dL_law_838 : decode cL_law 838 = .ok (.iload 5, 2) := by decide +kernel
theorem dL_law_840 : decode cL_law 840 = .ok (.if_icmp .eq 5, 3) := by decide +kernel
theorem dL_law_843 : decode cL_law 843 = .ok (.iconst 0, 1) := by decide +kernel
theorem dL_law_844 : decode cL_law 844 = .ok (.ireturn, 1) := by decide +kernel
theorem dL_law_845 : decode cL_law 845 = .ok (.iload 5, 2) := by decide +kernel
theorem dL_law_847 : decode cL_law 847 = .ok (.ifCond .ne 14, 3) := by decide +kernel
theorem dL_law_850 : decode cL_law 850 = .ok (.aload_n 3, 1) := by decide +kernel
theorem dL_law_851 : decode cL_law 851 = .ok (.iconst 0, 1) := by decide +kernel
theorem dL_law_852 : decode cL_law 852 = .ok (.laload, 1) := by decide +kernel
theorem dL_law_853 : decode cL_law 853 = .ok (.lload 6, 2) := by decide +kernel
theorem dL_law_855 : decode cL_law 855 = .ok (.lcmp, 1) := by decide +kernel
theorem dL_law_856 : decode cL_law 856 = .ok (.ifCond .eq 5, 3) := by decide +kernel
theorem dL_law_859 : decode cL_law 859 = .ok (.iconst 0, 1) := by decide +kernel
theorem dL_law_860 : decode cL_law 860 = .ok (.ireturn, 1) := by decide +kernel
theorem dL_law_861 : decode cL_law 861 = .ok (.goto 139, 3) := by decide +kernel
theorem dL_law_864 : decode cL_law 864 = .ok (.aload_n 1, 1) := by decide +kernel
theorem dL_law_865 : decode cL_law 865 = .ok (.aload_n 0, 1) := by decide +kernel
theorem dL_law_866 : decode cL_law 866 = .ok (.iload 4, 2) := by decide +kernel
theorem dL_law_868 : decode cL_law 868 = .ok (.iconst 1, 1) := by decide +kernel
theorem dL_law_869 : decode cL_law 869 = .ok (.iadd, 1) := by decide +kernel
theorem dL_law_870 : decode cL_law 870 = .ok (.iaload, 1) := by decide +kernel
theorem dL_law_871 : decode cL_law 871 = .ok (.aload_n 0, 1) := by decide +kernel
theorem dL_law_872 : decode cL_law 872 = .ok (.iload 4, 2) := by decide +kernel
theorem dL_law_874 : decode cL_law 874 = .ok (.iconst 2, 1) := by decide +kernel
theorem dL_law_875 : decode cL_law 875 = .ok (.iadd, 1) := by decide +kernel
theorem dL_law_876 : decode cL_law 876 = .ok (.iaload, 1) := by decide +kernel
theorem dL_law_877 : decode cL_law 877 = .ok (.aload_n 3, 1) := by decide +kernel
theorem dL_law_878 : decode cL_law 878 = .ok (.invokestatic 123, 3) := by decide +kernel
theorem dL_law_881 : decode cL_law 881 = .ok (.istore 5, 2) := by decide +kernel
theorem dL_law_883 : decode cL_law 883 = .ok (.aload_n 2, 1) := by decide +kernel
theorem dL_law_884 : decode cL_law 884 = .ok (.aload_n 0, 1) := by decide +kernel
theorem dL_law_885 : decode cL_law 885 = .ok (.iload 4, 2) := by decide +kernel
theorem dL_law_887 : decode cL_law 887 = .ok (.iconst 1, 1) := by decide +kernel
theorem dL_law_888 : decode cL_law 888 = .ok (.iadd, 1) := by decide +kernel
theorem dL_law_889 : decode cL_law 889 = .ok (.iaload, 1) := by decide +kernel
theorem dL_law_890 : decode cL_law 890 = .ok (.aload_n 0, 1) := by decide +kernel
theorem dL_law_891 : decode cL_law 891 = .ok (.iload 4, 2) := by decide +kernel
theorem dL_law_893 : decode cL_law 893 = .ok (.iconst 2, 1) := by decide +kernel
theorem dL_law_894 : decode cL_law 894 = .ok (.iadd, 1) := by decide +kernel
theorem dL_law_895 : decode cL_law 895 = .ok (.iaload, 1) := by decide +kernel
theorem dL_law_896 : decode cL_law 896 = .ok (.invokevirtual 125, 3) := by decide +kernel
theorem dL_law_899 : decode cL_law 899 = .ok (.istore 6, 2) := by decide +kernel
theorem dL_law_901 : decode cL_law 901 = .ok (.aload_n 2, 1) := by decide +kernel
theorem dL_law_902 : decode cL_law 902 = .ok (.invokevirtual 109, 3) := by decide +kernel
theorem dL_law_905 : decode cL_law 905 = .ok (.iload 5, 2) := by decide +kernel
theorem dL_law_907 : decode cL_law 907 = .ok (.if_icmp .eq 5, 3) := by decide +kernel
theorem dL_law_910 : decode cL_law 910 = .ok (.iconst 0, 1) := by decide +kernel
theorem dL_law_911 : decode cL_law 911 = .ok (.ireturn, 1) := by decide +kernel
theorem dL_law_912 : decode cL_law 912 = .ok (.iload 5, 2) := by decide +kernel
theorem dL_law_914 : decode cL_law 914 = .ok (.ifCond .ne 15, 3) := by decide +kernel
theorem dL_law_917 : decode cL_law 917 = .ok (.aload_n 3, 1) := by decide +kernel
theorem dL_law_918 : decode cL_law 918 = .ok (.iconst 0, 1) := by decide +kernel
theorem dL_law_919 : decode cL_law 919 = .ok (.laload, 1) := by decide +kernel
theorem dL_law_920 : decode cL_law 920 = .ok (.iload 6, 2) := by decide +kernel
theorem dL_law_922 : decode cL_law 922 = .ok (.i2l, 1) := by decide +kernel
theorem dL_law_923 : decode cL_law 923 = .ok (.lcmp, 1) := by decide +kernel
theorem dL_law_924 : decode cL_law 924 = .ok (.ifCond .eq 5, 3) := by decide +kernel
theorem dL_law_927 : decode cL_law 927 = .ok (.iconst 0, 1) := by decide +kernel
theorem dL_law_928 : decode cL_law 928 = .ok (.ireturn, 1) := by decide +kernel
theorem dL_law_929 : decode cL_law 929 = .ok (.goto 71, 3) := by decide +kernel
theorem dL_law_932 : decode cL_law 932 = .ok (.aload_n 1, 1) := by decide +kernel
theorem dL_law_933 : decode cL_law 933 = .ok (.aload_n 0, 1) := by decide +kernel
theorem dL_law_934 : decode cL_law 934 = .ok (.iload 4, 2) := by decide +kernel
theorem dL_law_936 : decode cL_law 936 = .ok (.iconst 1, 1) := by decide +kernel
theorem dL_law_937 : decode cL_law 937 = .ok (.iadd, 1) := by decide +kernel
theorem dL_law_938 : decode cL_law 938 = .ok (.iaload, 1) := by decide +kernel
theorem dL_law_939 : decode cL_law 939 = .ok (.aload_n 0, 1) := by decide +kernel
theorem dL_law_940 : decode cL_law 940 = .ok (.iload 4, 2) := by decide +kernel
theorem dL_law_942 : decode cL_law 942 = .ok (.iconst 2, 1) := by decide +kernel
theorem dL_law_943 : decode cL_law 943 = .ok (.iadd, 1) := by decide +kernel
theorem dL_law_944 : decode cL_law 944 = .ok (.iaload, 1) := by decide +kernel
theorem dL_law_945 : decode cL_law 945 = .ok (.aload_n 3, 1) := by decide +kernel
theorem dL_law_946 : decode cL_law 946 = .ok (.invokestatic 126, 3) := by decide +kernel
theorem dL_law_949 : decode cL_law 949 = .ok (.istore 5, 2) := by decide +kernel
theorem dL_law_951 : decode cL_law 951 = .ok (.aload_n 2, 1) := by decide +kernel
theorem dL_law_952 : decode cL_law 952 = .ok (.aload_n 0, 1) := by decide +kernel
theorem dL_law_953 : decode cL_law 953 = .ok (.iload 4, 2) := by decide +kernel
theorem dL_law_955 : decode cL_law 955 = .ok (.iconst 1, 1) := by decide +kernel
theorem dL_law_956 : decode cL_law 956 = .ok (.iadd, 1) := by decide +kernel
theorem dL_law_957 : decode cL_law 957 = .ok (.iaload, 1) := by decide +kernel
theorem dL_law_958 : decode cL_law 958 = .ok (.aload_n 0, 1) := by decide +kernel
theorem dL_law_959 : decode cL_law 959 = .ok (.iload 4, 2) := by decide +kernel
theorem dL_law_961 : decode cL_law 961 = .ok (.iconst 2, 1) := by decide +kernel
theorem dL_law_962 : decode cL_law 962 = .ok (.iadd, 1) := by decide +kernel
theorem dL_law_963 : decode cL_law 963 = .ok (.iaload, 1) := by decide +kernel
theorem dL_law_964 : decode cL_law 964 = .ok (.invokevirtual 128, 3) := by decide +kernel
theorem dL_law_967 : decode cL_law 967 = .ok (.istore 6, 2) := by decide +kernel
theorem dL_law_969 : decode cL_law 969 = .ok (.aload_n 2, 1) := by decide +kernel
theorem dL_law_970 : decode cL_law 970 = .ok (.invokevirtual 109, 3) := by decide +kernel
theorem dL_law_973 : decode cL_law 973 = .ok (.iload 5, 2) := by decide +kernel
theorem dL_law_975 : decode cL_law 975 = .ok (.if_icmp .eq 5, 3) := by decide +kernel
theorem dL_law_978 : decode cL_law 978 = .ok (.iconst 0, 1) := by decide +kernel
theorem dL_law_979 : decode cL_law 979 = .ok (.ireturn, 1) := by decide +kernel
theorem dL_law_980 : decode cL_law 980 = .ok (.iload 5, 2) := by decide +kernel
theorem dL_law_982 : decode cL_law 982 = .ok (.ifCond .ne 15, 3) := by decide +kernel
theorem dL_law_985 : decode cL_law 985 = .ok (.aload_n 3, 1) := by decide +kernel
theorem dL_law_986 : decode cL_law 986 = .ok (.iconst 0, 1) := by decide +kernel
theorem dL_law_987 : decode cL_law 987 = .ok (.laload, 1) := by decide +kernel
theorem dL_law_988 : decode cL_law 988 = .ok (.iload 6, 2) := by decide +kernel
theorem dL_law_990 : decode cL_law 990 = .ok (.i2l, 1) := by decide +kernel
theorem dL_law_991 : decode cL_law 991 = .ok (.lcmp, 1) := by decide +kernel
theorem dL_law_992 : decode cL_law 992 = .ok (.ifCond .eq 5, 3) := by decide +kernel
theorem dL_law_995 : decode cL_law 995 = .ok (.iconst 0, 1) := by decide +kernel
theorem dL_law_996 : decode cL_law 996 = .ok (.ireturn, 1) := by decide +kernel
theorem dL_law_997 : decode cL_law 997 = .ok (.goto 3, 3) := by decide +kernel
theorem dL_law_1000 : decode cL_law 1000 = .ok (.iinc 4 6, 3) := by decide +kernel
theorem dL_law_1003 : decode cL_law 1003 = .ok (.goto (-970), 3) := by decide +kernel
theorem dL_law_1006 : decode cL_law 1006 = .ok (.iconst 1, 1) := by decide +kernel
theorem dL_law_1007 : decode cL_law 1007 = .ok (.ireturn, 1) := by decide +kernel
/-- the law -/
def wL_law_L1000 (SC : Hp → Prop) (post : Int32 → Hp → Prop) (rc33 : Int32 → Hp → Prop) (x0 : Nat) (x1 : Nat) (x2 : Nat) (x3 : Nat) (x4 : Int32) (σ : Hp) : Prop :=
(∀ y1 : Int32, y1 = x4 + 6 → rc33 y1 σ)
def wL_law_L997 (SC : Hp → Prop) (post : Int32 → Hp → Prop) (rc33 : Int32 → Hp → Prop) (x0 : Nat) (x1 : Nat) (x2 : Nat) (x3 : Nat) (x4 : Int32) (σ : Hp) : Prop :=
wL_law_L1000 SC post rc33 x0 x1 x2 x3 x4 σ
def wL_law_L932 (SC : Hp → Prop) (post : Int32 → Hp → Prop) (rc33 : Int32 → Hp → Prop) (x0 : Nat) (x1 : Nat) (x2 : Nat) (x3 : Nat) (x4 : Int32) (σ : Hp) : Prop :=
(tg_ σ x0 = 102 ∧ (vp_in (x4 + (1 : Int32)) (ln_ σ x0) ∧ (vp_in (x4 + (2 : Int32)) (ln_ σ x0) ∧ (∃ mc5 ms6 : Nat, (mc5 ≤ bc_ σ ∧ (ms6 ≤ bs_ σ ∧ (wX0_tree x1 (aI_ σ x0 ((x4 + (1 : Int32))).toNatClampNeg) (aI_ σ x0 ((x4 + (2 : Int32))).toNatClampNeg) x3 (bu_ σ mc5 ms6) (fun r9 σ10 => (∀ σ11, σ11 = bu_ σ10 (bc_ σ - mc5) (bs_ σ - ms6) → (SC σ11 → (tg_ σ11 x0 = 102 ∧ (vp_in (x4 + (1 : Int32)) (ln_ σ11 x0) ∧ (vp_in (x4 + (2 : Int32)) (ln_ σ11 x0) ∧ (tg_ σ11 x2 = 9 ∧ (wX9_tree x2 (aI_ σ11 x0 ((x4 + (1 : Int32))).toNatClampNeg) (aI_ σ11 x0 ((x4 + (2 : Int32))).toNatClampNeg) σ11 (fun r16 σ17 => (∀ σ18, σ18 = bu_ σ17 (bc_ σ11) (bs_ σ11) → (SC σ18 → (tg_ σ18 x2 = 9 ∧ (wX9_thrown x2  σ18 (fun r20 => ((r20 = r9 →
  ((¬ r9 = 0 →
   wL_law_L997 SC post rc33 x0 x1 x2 x3 x4 σ18) ∧
  (r9 = 0 →
   (tg_ σ18 x3 = 103 ∧ (vp_in (0 : Int32) (ln_ σ18 x3) ∧ (((lg_cmp (aL_ σ18 x3 ((0 : Int32)).toNatClampNeg) (r16).toInt64) = 0 →
    wL_law_L997 SC post rc33 x0 x1 x2 x3 x4 σ18) ∧
   (¬ (lg_cmp (aL_ σ18 x3 ((0 : Int32)).toNatClampNeg) (r16).toInt64) = 0 →
    post (0 : Int32) σ18))))))) ∧
 (¬ r20 = r9 →
  post (0 : Int32) σ18)))))))))))))))))))))))
def wL_law_L929 (SC : Hp → Prop) (post : Int32 → Hp → Prop) (rc33 : Int32 → Hp → Prop) (x0 : Nat) (x1 : Nat) (x2 : Nat) (x3 : Nat) (x4 : Int32) (σ : Hp) : Prop :=
wL_law_L1000 SC post rc33 x0 x1 x2 x3 x4 σ
def wL_law_L864 (SC : Hp → Prop) (post : Int32 → Hp → Prop) (rc33 : Int32 → Hp → Prop) (x0 : Nat) (x1 : Nat) (x2 : Nat) (x3 : Nat) (x4 : Int32) (σ : Hp) : Prop :=
(tg_ σ x0 = 102 ∧ (vp_in (x4 + (1 : Int32)) (ln_ σ x0) ∧ (vp_in (x4 + (2 : Int32)) (ln_ σ x0) ∧ (∃ mc29 ms30 : Nat, (mc29 ≤ bc_ σ ∧ (ms30 ≤ bs_ σ ∧ (wX0_read x1 (aI_ σ x0 ((x4 + (1 : Int32))).toNatClampNeg) (aI_ σ x0 ((x4 + (2 : Int32))).toNatClampNeg) x3 (bu_ σ mc29 ms30) (fun r33 σ34 => (∀ σ35, σ35 = bu_ σ34 (bc_ σ - mc29) (bs_ σ - ms30) → (SC σ35 → (tg_ σ35 x0 = 102 ∧ (vp_in (x4 + (1 : Int32)) (ln_ σ35 x0) ∧ (vp_in (x4 + (2 : Int32)) (ln_ σ35 x0) ∧ (tg_ σ35 x2 = 9 ∧ (wX9_read x2 (aI_ σ35 x0 ((x4 + (1 : Int32))).toNatClampNeg) (aI_ σ35 x0 ((x4 + (2 : Int32))).toNatClampNeg) σ35 (fun r40 σ41 => (∀ σ42, σ42 = bu_ σ41 (bc_ σ35) (bs_ σ35) → (SC σ42 → (tg_ σ42 x2 = 9 ∧ (wX9_thrown x2  σ42 (fun r44 => ((r44 = r33 →
  ((¬ r33 = 0 →
   wL_law_L929 SC post rc33 x0 x1 x2 x3 x4 σ42) ∧
  (r33 = 0 →
   (tg_ σ42 x3 = 103 ∧ (vp_in (0 : Int32) (ln_ σ42 x3) ∧ (((lg_cmp (aL_ σ42 x3 ((0 : Int32)).toNatClampNeg) (r40).toInt64) = 0 →
    wL_law_L929 SC post rc33 x0 x1 x2 x3 x4 σ42) ∧
   (¬ (lg_cmp (aL_ σ42 x3 ((0 : Int32)).toNatClampNeg) (r40).toInt64) = 0 →
    post (0 : Int32) σ42))))))) ∧
 (¬ r44 = r33 →
  post (0 : Int32) σ42)))))))))))))))))))))))
def wL_law_L861 (SC : Hp → Prop) (post : Int32 → Hp → Prop) (rc33 : Int32 → Hp → Prop) (x0 : Nat) (x1 : Nat) (x2 : Nat) (x3 : Nat) (x4 : Int32) (σ : Hp) : Prop :=
wL_law_L1000 SC post rc33 x0 x1 x2 x3 x4 σ
def wL_law_L809 (SC : Hp → Prop) (post : Int32 → Hp → Prop) (rc33 : Int32 → Hp → Prop) (x0 : Nat) (x1 : Nat) (x2 : Nat) (x3 : Nat) (x4 : Int32) (σ : Hp) : Prop :=
(tg_ σ x0 = 102 ∧ (vp_in (x4 + (1 : Int32)) (ln_ σ x0) ∧ (∃ mc52 ms53 : Nat, (mc52 ≤ bc_ σ ∧ (ms53 ≤ bs_ σ ∧ (wX0_name x1 (aI_ σ x0 ((x4 + (1 : Int32))).toNatClampNeg) x3 (bu_ σ mc52 ms53) (fun r56 σ57 => (∀ σ58, σ58 = bu_ σ57 (bc_ σ - mc52) (bs_ σ - ms53) → (SC σ58 → (tg_ σ58 x0 = 102 ∧ (vp_in (x4 + (1 : Int32)) (ln_ σ58 x0) ∧ (tg_ σ58 x2 = 9 ∧ (wX9_name x2 (aI_ σ58 x0 ((x4 + (1 : Int32))).toNatClampNeg) σ58 (fun r62 σ63 => (∀ σ64, σ64 = bu_ σ63 (bc_ σ58) (bs_ σ58) → (SC σ64 → (tg_ σ64 x2 = 9 ∧ (wX9_thrown x2  σ64 (fun r66 => ((r66 = r56 →
  ((¬ r56 = 0 →
   wL_law_L861 SC post rc33 x0 x1 x2 x3 x4 σ64) ∧
  (r56 = 0 →
   (tg_ σ64 x3 = 103 ∧ (vp_in (0 : Int32) (ln_ σ64 x3) ∧ (((lg_cmp (aL_ σ64 x3 ((0 : Int32)).toNatClampNeg) r62) = 0 →
    wL_law_L861 SC post rc33 x0 x1 x2 x3 x4 σ64) ∧
   (¬ (lg_cmp (aL_ σ64 x3 ((0 : Int32)).toNatClampNeg) r62) = 0 →
    post (0 : Int32) σ64))))))) ∧
 (¬ r66 = r56 →
  post (0 : Int32) σ64)))))))))))))))))))))
def wL_law_L806 (SC : Hp → Prop) (post : Int32 → Hp → Prop) (rc33 : Int32 → Hp → Prop) (x0 : Nat) (x1 : Nat) (x2 : Nat) (x3 : Nat) (x4 : Int32) (σ : Hp) : Prop :=
wL_law_L1000 SC post rc33 x0 x1 x2 x3 x4 σ
def wL_law_L741 (SC : Hp → Prop) (post : Int32 → Hp → Prop) (rc33 : Int32 → Hp → Prop) (x0 : Nat) (x1 : Nat) (x2 : Nat) (x3 : Nat) (x4 : Int32) (σ : Hp) : Prop :=
(tg_ σ x0 = 102 ∧ (vp_in (x4 + (1 : Int32)) (ln_ σ x0) ∧ (vp_in (x4 + (2 : Int32)) (ln_ σ x0) ∧ (∃ mc75 ms76 : Nat, (mc75 ≤ bc_ σ ∧ (ms76 ≤ bs_ σ ∧ (wX0_node x1 (aI_ σ x0 ((x4 + (1 : Int32))).toNatClampNeg) (aI_ σ x0 ((x4 + (2 : Int32))).toNatClampNeg) x3 (bu_ σ mc75 ms76) (fun r79 σ80 => (∀ σ81, σ81 = bu_ σ80 (bc_ σ - mc75) (bs_ σ - ms76) → (SC σ81 → (tg_ σ81 x0 = 102 ∧ (vp_in (x4 + (1 : Int32)) (ln_ σ81 x0) ∧ (vp_in (x4 + (2 : Int32)) (ln_ σ81 x0) ∧ (tg_ σ81 x2 = 9 ∧ (wX9_node x2 (aI_ σ81 x0 ((x4 + (1 : Int32))).toNatClampNeg) (aI_ σ81 x0 ((x4 + (2 : Int32))).toNatClampNeg) σ81 (fun r86 σ87 => (∀ σ88, σ88 = bu_ σ87 (bc_ σ81) (bs_ σ81) → (SC σ88 → (tg_ σ88 x2 = 9 ∧ (wX9_thrown x2  σ88 (fun r90 => ((r90 = r79 →
  ((¬ r79 = 0 →
   wL_law_L806 SC post rc33 x0 x1 x2 x3 x4 σ88) ∧
  (r79 = 0 →
   (tg_ σ88 x3 = 103 ∧ (vp_in (0 : Int32) (ln_ σ88 x3) ∧ (((lg_cmp (aL_ σ88 x3 ((0 : Int32)).toNatClampNeg) (r86).toInt64) = 0 →
    wL_law_L806 SC post rc33 x0 x1 x2 x3 x4 σ88) ∧
   (¬ (lg_cmp (aL_ σ88 x3 ((0 : Int32)).toNatClampNeg) (r86).toInt64) = 0 →
    post (0 : Int32) σ88))))))) ∧
 (¬ r90 = r79 →
  post (0 : Int32) σ88)))))))))))))))))))))))
def wL_law_L716 (SC : Hp → Prop) (post : Int32 → Hp → Prop) (rc33 : Int32 → Hp → Prop) (x0 : Nat) (x1 : Nat) (x2 : Nat) (x3 : Nat) (x4 : Int32) (σ : Hp) : Prop :=
(tg_ σ x0 = 102 ∧ (vp_in (x4 + (1 : Int32)) (ln_ σ x0) ∧ (tg_ σ x1 = 1 ∧ (∃ mc99 ms100 : Nat, (mc99 ≤ bc_ σ ∧ (ms100 ≤ bs_ σ ∧ (wX1_open x1 (aI_ σ x0 ((x4 + (1 : Int32))).toNatClampNeg) (bu_ σ mc99 ms100) (fun r103 σ104 => (∀ σ105, σ105 = bu_ σ104 (bc_ σ - mc99) (bs_ σ - ms100) → (SC σ105 → (tg_ σ105 x0 = 102 ∧ (vp_in (x4 + (1 : Int32)) (ln_ σ105 x0) ∧ (tg_ σ105 x2 = 9 ∧ (wX9_open x2 (aI_ σ105 x0 ((x4 + (1 : Int32))).toNatClampNeg) σ105 (fun r109 σ110 => (∀ σ111, σ111 = bu_ σ110 (bc_ σ105) (bs_ σ105) → (SC σ111 → ((r103 = r109 →
  wL_law_L1000 SC post rc33 x0 x1 x2 x3 x4 σ111) ∧
 (¬ r103 = r109 →
  post (0 : Int32) σ111)))))))))))))))))))
def wL_law_L713 (SC : Hp → Prop) (post : Int32 → Hp → Prop) (rc33 : Int32 → Hp → Prop) (x0 : Nat) (x1 : Nat) (x2 : Nat) (x3 : Nat) (x4 : Int32) (σ : Hp) : Prop :=
wL_law_L1000 SC post rc33 x0 x1 x2 x3 x4 σ
def wL_law_L648 (SC : Hp → Prop) (post : Int32 → Hp → Prop) (rc33 : Int32 → Hp → Prop) (x0 : Nat) (x1 : Nat) (x2 : Nat) (x3 : Nat) (x4 : Int32) (σ : Hp) : Prop :=
(tg_ σ x0 = 102 ∧ (vp_in (x4 + (1 : Int32)) (ln_ σ x0) ∧ (vp_in (x4 + (2 : Int32)) (ln_ σ x0) ∧ (∃ mc116 ms117 : Nat, (mc116 ≤ bc_ σ ∧ (ms117 ≤ bs_ σ ∧ (wX0_mark x1 (aI_ σ x0 ((x4 + (1 : Int32))).toNatClampNeg) (aI_ σ x0 ((x4 + (2 : Int32))).toNatClampNeg) x3 (bu_ σ mc116 ms117) (fun r120 σ121 => (∀ σ122, σ122 = bu_ σ121 (bc_ σ - mc116) (bs_ σ - ms117) → (SC σ122 → (tg_ σ122 x0 = 102 ∧ (vp_in (x4 + (1 : Int32)) (ln_ σ122 x0) ∧ (vp_in (x4 + (2 : Int32)) (ln_ σ122 x0) ∧ (tg_ σ122 x2 = 9 ∧ (wX9_mark x2 (aI_ σ122 x0 ((x4 + (1 : Int32))).toNatClampNeg) (aI_ σ122 x0 ((x4 + (2 : Int32))).toNatClampNeg) σ122 (fun r127 σ128 => (∀ σ129, σ129 = bu_ σ128 (bc_ σ122) (bs_ σ122) → (SC σ129 → (tg_ σ129 x2 = 9 ∧ (wX9_thrown x2  σ129 (fun r131 => ((r131 = r120 →
  ((¬ r120 = 0 →
   wL_law_L713 SC post rc33 x0 x1 x2 x3 x4 σ129) ∧
  (r120 = 0 →
   (tg_ σ129 x3 = 103 ∧ (vp_in (0 : Int32) (ln_ σ129 x3) ∧ (((lg_cmp (aL_ σ129 x3 ((0 : Int32)).toNatClampNeg) (r127).toInt64) = 0 →
    wL_law_L713 SC post rc33 x0 x1 x2 x3 x4 σ129) ∧
   (¬ (lg_cmp (aL_ σ129 x3 ((0 : Int32)).toNatClampNeg) (r127).toInt64) = 0 →
    post (0 : Int32) σ129))))))) ∧
 (¬ r131 = r120 →
  post (0 : Int32) σ129)))))))))))))))))))))))
def wL_law_L635 (SC : Hp → Prop) (post : Int32 → Hp → Prop) (rc33 : Int32 → Hp → Prop) (x0 : Nat) (x1 : Nat) (x2 : Nat) (x3 : Nat) (x4 : Int32) (σ : Hp) : Prop :=
(tg_ σ x1 = 1 ∧ (wX1_writes x1  σ (fun r138 => (tg_ σ x2 = 9 ∧ (wX9_writes x2  σ (fun r140 σ141 => (∀ σ142, σ142 = bu_ σ141 (bc_ σ) (bs_ σ) → (SC σ142 → ((r138 = r140 →
  wL_law_L1000 SC post rc33 x0 x1 x2 x3 x4 σ142) ∧
 (¬ r138 = r140 →
  post (0 : Int32) σ142))))))))))
def wL_law_L598 (SC : Hp → Prop) (post : Int32 → Hp → Prop) (rc33 : Int32 → Hp → Prop) (x0 : Nat) (x1 : Nat) (x2 : Nat) (x3 : Nat) (x4 : Int32) (σ : Hp) : Prop :=
(tg_ σ x0 = 102 ∧ (vp_in (x4 + (1 : Int32)) (ln_ σ x0) ∧ (vp_in (x4 + (2 : Int32)) (ln_ σ x0) ∧ (tg_ σ x1 = 1 ∧ (wX1_spoil x1 (aI_ σ x0 ((x4 + (1 : Int32))).toNatClampNeg) (aI_ σ x0 ((x4 + (2 : Int32))).toNatClampNeg) σ (fun r148 σ149 => (∀ σ150, σ150 = bu_ σ149 (bc_ σ) (bs_ σ) → (SC σ150 → (tg_ σ150 x0 = 102 ∧ (vp_in (x4 + (1 : Int32)) (ln_ σ150 x0) ∧ (vp_in (x4 + (2 : Int32)) (ln_ σ150 x0) ∧ (tg_ σ150 x2 = 9 ∧ (wX9_spoil x2 (aI_ σ150 x0 ((x4 + (1 : Int32))).toNatClampNeg) (aI_ σ150 x0 ((x4 + (2 : Int32))).toNatClampNeg) σ150 (fun r155 σ156 => (∀ σ157, σ157 = bu_ σ156 (bc_ σ150) (bs_ σ150) → (SC σ157 → ((r148 = r155 →
  wL_law_L1000 SC post rc33 x0 x1 x2 x3 x4 σ157) ∧
 (¬ r148 = r155 →
  post (0 : Int32) σ157))))))))))))))))))
def wL_law_L573 (SC : Hp → Prop) (post : Int32 → Hp → Prop) (rc33 : Int32 → Hp → Prop) (x0 : Nat) (x1 : Nat) (x2 : Nat) (x3 : Nat) (x4 : Int32) (σ : Hp) : Prop :=
(tg_ σ x0 = 102 ∧ (vp_in (x4 + (1 : Int32)) (ln_ σ x0) ∧ (tg_ σ x1 = 1 ∧ (wX1_byteAt x1 (aI_ σ x0 ((x4 + (1 : Int32))).toNatClampNeg) σ (fun r162 => (vp_in (x4 + (1 : Int32)) (ln_ σ x0) ∧ (tg_ σ x2 = 9 ∧ (wX9_byteAt x2 (aI_ σ x0 ((x4 + (1 : Int32))).toNatClampNeg) σ (fun r165 σ166 => (∀ σ167, σ167 = bu_ σ166 (bc_ σ) (bs_ σ) → (SC σ167 → ((r162 = r165 →
  wL_law_L1000 SC post rc33 x0 x1 x2 x3 x4 σ167) ∧
 (¬ r162 = r165 →
  post (0 : Int32) σ167)))))))))))))
def wL_law_L548 (SC : Hp → Prop) (post : Int32 → Hp → Prop) (rc33 : Int32 → Hp → Prop) (x0 : Nat) (x1 : Nat) (x2 : Nat) (x3 : Nat) (x4 : Int32) (σ : Hp) : Prop :=
(tg_ σ x0 = 102 ∧ (vp_in (x4 + (1 : Int32)) (ln_ σ x0) ∧ (tg_ σ x1 = 1 ∧ (wX1_state x1 (aI_ σ x0 ((x4 + (1 : Int32))).toNatClampNeg) σ (fun r172 => (vp_in (x4 + (1 : Int32)) (ln_ σ x0) ∧ (tg_ σ x2 = 9 ∧ (wX9_state x2 (aI_ σ x0 ((x4 + (1 : Int32))).toNatClampNeg) σ (fun r175 σ176 => (∀ σ177, σ177 = bu_ σ176 (bc_ σ) (bs_ σ) → (SC σ177 → ((r172 = r175 →
  wL_law_L1000 SC post rc33 x0 x1 x2 x3 x4 σ177) ∧
 (¬ r172 = r175 →
  post (0 : Int32) σ177)))))))))))))
def wL_law_L535 (SC : Hp → Prop) (post : Int32 → Hp → Prop) (rc33 : Int32 → Hp → Prop) (x0 : Nat) (x1 : Nat) (x2 : Nat) (x3 : Nat) (x4 : Int32) (σ : Hp) : Prop :=
(tg_ σ x1 = 1 ∧ (∃ mc180 ms181 : Nat, (mc180 ≤ bc_ σ ∧ (ms181 ≤ bs_ σ ∧ (wX1_compact x1  (bu_ σ mc180 ms181) (fun r184 σ185 => (∀ σ186, σ186 = bu_ σ185 (bc_ σ - mc180) (bs_ σ - ms181) → (SC σ186 → (tg_ σ186 x2 = 9 ∧ (wX9_compact x2  σ186 (fun r188 σ189 => (∀ σ190, σ190 = bu_ σ189 (bc_ σ186) (bs_ σ186) → (SC σ190 → ((r184 = r188 →
  wL_law_L1000 SC post rc33 x0 x1 x2 x3 x4 σ190) ∧
 (¬ r184 = r188 →
  post (0 : Int32) σ190)))))))))))))))
def wL_law_L522 (SC : Hp → Prop) (post : Int32 → Hp → Prop) (rc33 : Int32 → Hp → Prop) (x0 : Nat) (x1 : Nat) (x2 : Nat) (x3 : Nat) (x4 : Int32) (σ : Hp) : Prop :=
(tg_ σ x1 = 1 ∧ (∃ mc193 ms194 : Nat, (mc193 ≤ bc_ σ ∧ (ms194 ≤ bs_ σ ∧ (wX1_discover x1  (bu_ σ mc193 ms194) (fun r197 σ198 => (∀ σ199, σ199 = bu_ σ198 (bc_ σ - mc193) (bs_ σ - ms194) → (SC σ199 → (tg_ σ199 x2 = 9 ∧ (wX9_discover x2  σ199 (fun r201 σ202 => (∀ σ203, σ203 = bu_ σ202 (bc_ σ199) (bs_ σ199) → (SC σ203 → ((r197 = r201 →
  wL_law_L1000 SC post rc33 x0 x1 x2 x3 x4 σ203) ∧
 (¬ r197 = r201 →
  post (0 : Int32) σ203)))))))))))))))
def wL_law_L509 (SC : Hp → Prop) (post : Int32 → Hp → Prop) (rc33 : Int32 → Hp → Prop) (x0 : Nat) (x1 : Nat) (x2 : Nat) (x3 : Nat) (x4 : Int32) (σ : Hp) : Prop :=
(tg_ σ x1 = 1 ∧ (∃ mc206 ms207 : Nat, (mc206 ≤ bc_ σ ∧ (ms207 ≤ bs_ σ ∧ (wX1_commit x1  (bu_ σ mc206 ms207) (fun r210 σ211 => (∀ σ212, σ212 = bu_ σ211 (bc_ σ - mc206) (bs_ σ - ms207) → (SC σ212 → (tg_ σ212 x2 = 9 ∧ (wX9_commit x2  σ212 (fun r214 σ215 => (∀ σ216, σ216 = bu_ σ215 (bc_ σ212) (bs_ σ212) → (SC σ216 → ((r210 = r214 →
  wL_law_L1000 SC post rc33 x0 x1 x2 x3 x4 σ216) ∧
 (¬ r210 = r214 →
  post (0 : Int32) σ216)))))))))))))))
def wL_law_L428 (SC : Hp → Prop) (post : Int32 → Hp → Prop) (rc33 : Int32 → Hp → Prop) (x0 : Nat) (x1 : Nat) (x2 : Nat) (x3 : Nat) (x4 : Int32) (σ : Hp) : Prop :=
(tg_ σ x0 = 102 ∧ (vp_in (x4 + (1 : Int32)) (ln_ σ x0) ∧ (vp_in (x4 + (2 : Int32)) (ln_ σ x0) ∧ (vp_in (x4 + (3 : Int32)) (ln_ σ x0) ∧ (vp_in (x4 + (4 : Int32)) (ln_ σ x0) ∧ (tg_ σ x1 = 1 ∧ (∃ mc224 ms225 : Nat, (mc224 ≤ bc_ σ ∧ (ms225 ≤ bs_ σ ∧ (wX1_rename x1 (aI_ σ x0 ((x4 + (1 : Int32))).toNatClampNeg) (aI_ σ x0 ((x4 + (2 : Int32))).toNatClampNeg) ((((aI_ σ x0 ((x4 + (3 : Int32))).toNatClampNeg)).toInt64 <<< (((32 : Int32)).toInt64 &&& 63)) ||| (((aI_ σ x0 ((x4 + (4 : Int32))).toNatClampNeg)).toInt64 &&& (4294967295 : Int64))) (bu_ σ mc224 ms225) (fun r228 σ229 => (∀ σ230, σ230 = bu_ σ229 (bc_ σ - mc224) (bs_ σ - ms225) → (SC σ230 → (tg_ σ230 x0 = 102 ∧ (vp_in (x4 + (1 : Int32)) (ln_ σ230 x0) ∧ (vp_in (x4 + (2 : Int32)) (ln_ σ230 x0) ∧ (vp_in (x4 + (3 : Int32)) (ln_ σ230 x0) ∧ (vp_in (x4 + (4 : Int32)) (ln_ σ230 x0) ∧ (tg_ σ230 x2 = 9 ∧ (wX9_rename x2 (aI_ σ230 x0 ((x4 + (1 : Int32))).toNatClampNeg) (aI_ σ230 x0 ((x4 + (2 : Int32))).toNatClampNeg) ((((aI_ σ230 x0 ((x4 + (3 : Int32))).toNatClampNeg)).toInt64 <<< (((32 : Int32)).toInt64 &&& 63)) ||| (((aI_ σ230 x0 ((x4 + (4 : Int32))).toNatClampNeg)).toInt64 &&& (4294967295 : Int64))) σ230 (fun r237 σ238 => (∀ σ239, σ239 = bu_ σ238 (bc_ σ230) (bs_ σ230) → (SC σ239 → ((r228 = r237 →
  wL_law_L1000 SC post rc33 x0 x1 x2 x3 x4 σ239) ∧
 (¬ r228 = r237 →
  post (0 : Int32) σ239)))))))))))))))))))))))))
def wL_law_L403 (SC : Hp → Prop) (post : Int32 → Hp → Prop) (rc33 : Int32 → Hp → Prop) (x0 : Nat) (x1 : Nat) (x2 : Nat) (x3 : Nat) (x4 : Int32) (σ : Hp) : Prop :=
(tg_ σ x0 = 102 ∧ (vp_in (x4 + (1 : Int32)) (ln_ σ x0) ∧ (tg_ σ x1 = 1 ∧ (wX1_remove x1 (aI_ σ x0 ((x4 + (1 : Int32))).toNatClampNeg) σ (fun r244 σ245 => (∀ σ246, σ246 = bu_ σ245 (bc_ σ) (bs_ σ) → (SC σ246 → (tg_ σ246 x0 = 102 ∧ (vp_in (x4 + (1 : Int32)) (ln_ σ246 x0) ∧ (tg_ σ246 x2 = 9 ∧ (wX9_remove x2 (aI_ σ246 x0 ((x4 + (1 : Int32))).toNatClampNeg) σ246 (fun r250 σ251 => (∀ σ252, σ252 = bu_ σ251 (bc_ σ246) (bs_ σ246) → (SC σ252 → ((r244 = r250 →
  wL_law_L1000 SC post rc33 x0 x1 x2 x3 x4 σ252) ∧
 (¬ r244 = r250 →
  post (0 : Int32) σ252))))))))))))))))
def wL_law_L354 (SC : Hp → Prop) (post : Int32 → Hp → Prop) (rc33 : Int32 → Hp → Prop) (x0 : Nat) (x1 : Nat) (x2 : Nat) (x3 : Nat) (x4 : Int32) (σ : Hp) : Prop :=
(tg_ σ x0 = 102 ∧ (vp_in (x4 + (1 : Int32)) (ln_ σ x0) ∧ (vp_in (x4 + (2 : Int32)) (ln_ σ x0) ∧ (vp_in (x4 + (3 : Int32)) (ln_ σ x0) ∧ (tg_ σ x1 = 1 ∧ (wX1_replace x1 (aI_ σ x0 ((x4 + (1 : Int32))).toNatClampNeg) (aI_ σ x0 ((x4 + (2 : Int32))).toNatClampNeg) (aI_ σ x0 ((x4 + (3 : Int32))).toNatClampNeg) σ (fun r259 σ260 => (∀ σ261, σ261 = bu_ σ260 (bc_ σ) (bs_ σ) → (SC σ261 → (tg_ σ261 x0 = 102 ∧ (vp_in (x4 + (1 : Int32)) (ln_ σ261 x0) ∧ (vp_in (x4 + (2 : Int32)) (ln_ σ261 x0) ∧ (vp_in (x4 + (3 : Int32)) (ln_ σ261 x0) ∧ (tg_ σ261 x2 = 9 ∧ (wX9_replace x2 (aI_ σ261 x0 ((x4 + (1 : Int32))).toNatClampNeg) (aI_ σ261 x0 ((x4 + (2 : Int32))).toNatClampNeg) (aI_ σ261 x0 ((x4 + (3 : Int32))).toNatClampNeg) σ261 (fun r267 σ268 => (∀ σ269, σ269 = bu_ σ268 (bc_ σ261) (bs_ σ261) → (SC σ269 → ((r259 = r267 →
  wL_law_L1000 SC post rc33 x0 x1 x2 x3 x4 σ269) ∧
 (¬ r259 = r267 →
  post (0 : Int32) σ269))))))))))))))))))))
def wL_law_L261 (SC : Hp → Prop) (post : Int32 → Hp → Prop) (rc33 : Int32 → Hp → Prop) (x0 : Nat) (x1 : Nat) (x2 : Nat) (x3 : Nat) (x4 : Int32) (σ : Hp) : Prop :=
(tg_ σ x0 = 102 ∧ (vp_in (x4 + (1 : Int32)) (ln_ σ x0) ∧ (vp_in (x4 + (2 : Int32)) (ln_ σ x0) ∧ (vp_in (x4 + (3 : Int32)) (ln_ σ x0) ∧ (vp_in (x4 + (4 : Int32)) (ln_ σ x0) ∧ (vp_in (x4 + (5 : Int32)) (ln_ σ x0) ∧ (tg_ σ x1 = 1 ∧ (∃ mc278 ms279 : Nat, (mc278 ≤ bc_ σ ∧ (ms279 ≤ bs_ σ ∧ (wX1_file x1 (aI_ σ x0 ((x4 + (1 : Int32))).toNatClampNeg) ((((aI_ σ x0 ((x4 + (2 : Int32))).toNatClampNeg)).toInt64 <<< (((32 : Int32)).toInt64 &&& 63)) ||| (((aI_ σ x0 ((x4 + (3 : Int32))).toNatClampNeg)).toInt64 &&& (4294967295 : Int64))) (aI_ σ x0 ((x4 + (4 : Int32))).toNatClampNeg) (aI_ σ x0 ((x4 + (5 : Int32))).toNatClampNeg) (bu_ σ mc278 ms279) (fun r282 σ283 => (∀ σ284, σ284 = bu_ σ283 (bc_ σ - mc278) (bs_ σ - ms279) → (SC σ284 → (tg_ σ284 x0 = 102 ∧ (vp_in (x4 + (1 : Int32)) (ln_ σ284 x0) ∧ (vp_in (x4 + (2 : Int32)) (ln_ σ284 x0) ∧ (vp_in (x4 + (3 : Int32)) (ln_ σ284 x0) ∧ (vp_in (x4 + (4 : Int32)) (ln_ σ284 x0) ∧ (vp_in (x4 + (5 : Int32)) (ln_ σ284 x0) ∧ (tg_ σ284 x2 = 9 ∧ (wX9_file x2 (aI_ σ284 x0 ((x4 + (1 : Int32))).toNatClampNeg) ((((aI_ σ284 x0 ((x4 + (2 : Int32))).toNatClampNeg)).toInt64 <<< (((32 : Int32)).toInt64 &&& 63)) ||| (((aI_ σ284 x0 ((x4 + (3 : Int32))).toNatClampNeg)).toInt64 &&& (4294967295 : Int64))) (aI_ σ284 x0 ((x4 + (4 : Int32))).toNatClampNeg) (aI_ σ284 x0 ((x4 + (5 : Int32))).toNatClampNeg) σ284 (fun r292 σ293 => (∀ σ294, σ294 = bu_ σ293 (bc_ σ284) (bs_ σ284) → (SC σ294 → ((r282 = r292 →
  wL_law_L1000 SC post rc33 x0 x1 x2 x3 x4 σ294) ∧
 (¬ r282 = r292 →
  post (0 : Int32) σ294)))))))))))))))))))))))))))
def wL_law_L192 (SC : Hp → Prop) (post : Int32 → Hp → Prop) (rc33 : Int32 → Hp → Prop) (x0 : Nat) (x1 : Nat) (x2 : Nat) (x3 : Nat) (x4 : Int32) (σ : Hp) : Prop :=
(tg_ σ x0 = 102 ∧ (vp_in (x4 + (1 : Int32)) (ln_ σ x0) ∧ (vp_in (x4 + (2 : Int32)) (ln_ σ x0) ∧ (vp_in (x4 + (3 : Int32)) (ln_ σ x0) ∧ (tg_ σ x1 = 1 ∧ (∃ mc301 ms302 : Nat, (mc301 ≤ bc_ σ ∧ (ms302 ≤ bs_ σ ∧ (wX1_directory x1 (aI_ σ x0 ((x4 + (1 : Int32))).toNatClampNeg) ((((aI_ σ x0 ((x4 + (2 : Int32))).toNatClampNeg)).toInt64 <<< (((32 : Int32)).toInt64 &&& 63)) ||| (((aI_ σ x0 ((x4 + (3 : Int32))).toNatClampNeg)).toInt64 &&& (4294967295 : Int64))) (bu_ σ mc301 ms302) (fun r305 σ306 => (∀ σ307, σ307 = bu_ σ306 (bc_ σ - mc301) (bs_ σ - ms302) → (SC σ307 → (tg_ σ307 x0 = 102 ∧ (vp_in (x4 + (1 : Int32)) (ln_ σ307 x0) ∧ (vp_in (x4 + (2 : Int32)) (ln_ σ307 x0) ∧ (vp_in (x4 + (3 : Int32)) (ln_ σ307 x0) ∧ (tg_ σ307 x2 = 9 ∧ (wX9_directory x2 (aI_ σ307 x0 ((x4 + (1 : Int32))).toNatClampNeg) ((((aI_ σ307 x0 ((x4 + (2 : Int32))).toNatClampNeg)).toInt64 <<< (((32 : Int32)).toInt64 &&& 63)) ||| (((aI_ σ307 x0 ((x4 + (3 : Int32))).toNatClampNeg)).toInt64 &&& (4294967295 : Int64))) σ307 (fun r313 σ314 => (∀ σ315, σ315 = bu_ σ314 (bc_ σ307) (bs_ σ307) → (SC σ315 → ((r305 = r313 →
  wL_law_L1000 SC post rc33 x0 x1 x2 x3 x4 σ315) ∧
 (¬ r305 = r313 →
  post (0 : Int32) σ315)))))))))))))))))))))))
def wL_law_L169 (SC : Hp → Prop) (post : Int32 → Hp → Prop) (rc33 : Int32 → Hp → Prop) (x0 : Nat) (x1 : Nat) (x2 : Nat) (x3 : Nat) (x4 : Int32) (σ : Hp) : Prop :=
(tg_ σ x0 = 102 ∧ (vp_in (x4 + (1 : Int32)) (ln_ σ x0) ∧ (tg_ σ x1 = 1 ∧ (wX1_power x1 (aI_ σ x0 ((x4 + (1 : Int32))).toNatClampNeg) σ (fun σ320 => (∀ σ321, σ321 = bu_ σ320 (bc_ σ) (bs_ σ) → (SC σ321 → (tg_ σ321 x0 = 102 ∧ (vp_in (x4 + (1 : Int32)) (ln_ σ321 x0) ∧ (tg_ σ321 x2 = 9 ∧ (wX9_power x2 (aI_ σ321 x0 ((x4 + (1 : Int32))).toNatClampNeg) σ321 (fun σ325 => (∀ σ326, σ326 = bu_ σ325 (bc_ σ321) (bs_ σ321) → (SC σ326 → wL_law_L1000 SC post rc33 x0 x1 x2 x3 x4 σ326))))))))))))))
def wL_law_L144 (SC : Hp → Prop) (post : Int32 → Hp → Prop) (rc33 : Int32 → Hp → Prop) (x0 : Nat) (x1 : Nat) (x2 : Nat) (x3 : Nat) (x4 : Int32) (σ : Hp) : Prop :=
(tg_ σ x0 = 102 ∧ (vp_in (x4 + (1 : Int32)) (ln_ σ x0) ∧ (tg_ σ x1 = 1 ∧ (wX1_defect x1 (aI_ σ x0 ((x4 + (1 : Int32))).toNatClampNeg) σ (fun r330 σ331 => (∀ σ332, σ332 = bu_ σ331 (bc_ σ) (bs_ σ) → (SC σ332 → (tg_ σ332 x0 = 102 ∧ (vp_in (x4 + (1 : Int32)) (ln_ σ332 x0) ∧ (tg_ σ332 x2 = 9 ∧ (wX9_defect x2 (aI_ σ332 x0 ((x4 + (1 : Int32))).toNatClampNeg) σ332 (fun r336 σ337 => (∀ σ338, σ338 = bu_ σ337 (bc_ σ332) (bs_ σ332) → (SC σ338 → ((r330 = r336 →
  wL_law_L1000 SC post rc33 x0 x1 x2 x3 x4 σ338) ∧
 (¬ r330 = r336 →
  post (0 : Int32) σ338))))))))))))))))
def wL_law_B33 (SC : Hp → Prop) (post : Int32 → Hp → Prop) (rc33 : Int32 → Hp → Prop) (x0 : Nat) (x1 : Nat) (x2 : Nat) (x3 : Nat) (x4 : Int32) (σ : Hp) : Prop :=
(tg_ σ x0 = 102 ∧ ((((nI (ln_ σ x0)) - (6 : Int32)) < x4 →
  post (1 : Int32) σ) ∧
 (¬ ((nI (ln_ σ x0)) - (6 : Int32)) < x4 →
  (vp_in x4 (ln_ σ x0) ∧ (∀ y343 : Int32, y343 = ((aI_ σ x0 (x4).toNatClampNeg) &&& (31 : Int32)) → (((y343 < 0 ∨ (19 : Int32) < y343) → wL_law_L1000 SC post rc33 x0 x1 x2 x3 x4 σ) ∧
 (y343 = (0 : Int32) → wL_law_L144 SC post rc33 x0 x1 x2 x3 x4 σ) ∧
 (y343 = (1 : Int32) → wL_law_L169 SC post rc33 x0 x1 x2 x3 x4 σ) ∧
 (y343 = (2 : Int32) → wL_law_L192 SC post rc33 x0 x1 x2 x3 x4 σ) ∧
 (y343 = (3 : Int32) → wL_law_L261 SC post rc33 x0 x1 x2 x3 x4 σ) ∧
 (y343 = (4 : Int32) → wL_law_L354 SC post rc33 x0 x1 x2 x3 x4 σ) ∧
 (y343 = (5 : Int32) → wL_law_L403 SC post rc33 x0 x1 x2 x3 x4 σ) ∧
 (y343 = (6 : Int32) → wL_law_L428 SC post rc33 x0 x1 x2 x3 x4 σ) ∧
 (y343 = (7 : Int32) → wL_law_L509 SC post rc33 x0 x1 x2 x3 x4 σ) ∧
 (y343 = (8 : Int32) → wL_law_L522 SC post rc33 x0 x1 x2 x3 x4 σ) ∧
 (y343 = (9 : Int32) → wL_law_L535 SC post rc33 x0 x1 x2 x3 x4 σ) ∧
 (y343 = (10 : Int32) → wL_law_L548 SC post rc33 x0 x1 x2 x3 x4 σ) ∧
 (y343 = (11 : Int32) → wL_law_L573 SC post rc33 x0 x1 x2 x3 x4 σ) ∧
 (y343 = (12 : Int32) → wL_law_L598 SC post rc33 x0 x1 x2 x3 x4 σ) ∧
 (y343 = (13 : Int32) → wL_law_L635 SC post rc33 x0 x1 x2 x3 x4 σ) ∧
 (y343 = (14 : Int32) → wL_law_L648 SC post rc33 x0 x1 x2 x3 x4 σ) ∧
 (y343 = (15 : Int32) → wL_law_L716 SC post rc33 x0 x1 x2 x3 x4 σ) ∧
 (y343 = (16 : Int32) → wL_law_L741 SC post rc33 x0 x1 x2 x3 x4 σ) ∧
 (y343 = (17 : Int32) → wL_law_L809 SC post rc33 x0 x1 x2 x3 x4 σ) ∧
 (y343 = (18 : Int32) → wL_law_L864 SC post rc33 x0 x1 x2 x3 x4 σ) ∧
 (y343 = (19 : Int32) → wL_law_L932 SC post rc33 x0 x1 x2 x3 x4 σ)))))))
def wL_law_L33 (SC : Hp → Prop) (post : Int32 → Hp → Prop) (x0 : Nat) (x1 : Nat) (x2 : Nat) (x3 : Nat) (x4 : Int32) (σ : Hp) : Prop :=
 ∃ (I : Int32 → Hp → Prop) (μ : Int32 → Hp → Nat), I x4 σ ∧ ∀ (x4 : Int32) (σ : Hp), I x4 σ → wL_law_B33 SC post (fun x4' σ' => I x4' σ' ∧ μ x4' σ' < μ x4 σ) x0 x1 x2 x3 x4 σ
def wL_law (SC : Hp → Prop) (x0 : Nat) (σ : Hp) (post : Int32 → Hp → Prop) : Prop :=
(1 ≤ bc_ σ ∧ (11 ≤ bs_ σ ∧ (∀ σ346, σ346 = mO_ σ 0 11 → (wX0_cell x0 (0 : Int32) σ346 (fun r347 => (tg_ σ346 (nx_ σ) = 1 ∧ (∃ mc349 ms350 : Nat, (mc349 ≤ bc_ σ346 ∧ (ms350 ≤ bs_ σ346 ∧ (wX1_init (nx_ σ) r347 (bu_ σ346 mc349 ms350) (fun σ353 => (∀ σ354, σ354 = bu_ σ353 (bc_ σ346 - mc349) (bs_ σ346 - ms350) → (SC σ354 → (∀ y355 : Nat, y355 = (nx_ σ) → (1 ≤ bc_ σ354 ∧ (41 ≤ bs_ σ354 ∧ (∀ σ358, σ358 = mO_ σ354 8 41 → (wX0_cell x0 (0 : Int32) σ358 (fun r359 => (tg_ σ358 (nx_ σ354) = 9 ∧ (∃ mc361 ms362 : Nat, (mc361 ≤ bc_ σ358 ∧ (ms362 ≤ bs_ σ358 ∧ (wX9_init (nx_ σ354) r359 (bu_ σ358 mc361 ms362) (fun σ365 => (∀ σ366, σ366 = bu_ σ365 (bc_ σ358 - mc361) (bs_ σ358 - ms362) → (SC σ366 → (∀ y367 : Nat, y367 = (nx_ σ354) → (¬ (1 : Int32) < 0 ∧ (((1 : Int32)).toNatClampNeg ≤ 1000000 ∧ (1 ≤ bc_ σ366 ∧ (((1 : Int32)).toNatClampNeg ≤ bs_ σ366 ∧ (∀ σ372, σ372 = mA_ σ366 103 ((1 : Int32)).toNatClampNeg → (∀ y373 : Nat, y373 = (nx_ σ366) → wL_law_L33 SC post x0 y355 y367 y373 (1 : Int32) σ372))))))))))))))))))))))))))))))))))
set_option maxHeartbeats 4000000 in
theorem sL_law_L1000 {G : GG_} {p : Program} {l : Launch} {e : Env} {R : Room} {s : State} {m : MethodId} {args : Array Value} {below : List Frame} {meth : Method} {c : Code} {mc ms : Nat} {SC : Hp → Prop} (Y : (MX_ G p R s m args meth c cL_law 8 RX0 (some .boolean) 13 326 mc ms "law") ∧ l.flags = pinnedFlags ++ [noTraceFlag] ∧ ∀ σ H, Pic_ G σ H → SC σ) {post : Int32 → Hp → Prop} {rc33 : Int32 → Hp → Prop} {x0 : Nat} {x1 : Nat} {x2 : Nat} {x3 : Nat} {x4 : Int32} {σ : Hp} (hrc33 : ∀ (x4 : Int32) (σ : Hp), rc33 x4 σ → WG_ G p l e R s m args below meth c (MQ below (QI_ G post) args s mc ms (FR_ G)) (BU_ R) 8 33 [(0, rv_ x0), (1, rv_ x1), (2, rv_ x2), (3, rv_ x3), (4, .int x4)] [] σ) (hf : wL_law_L1000 SC post rc33 x0 x1 x2 x3 x4 σ) : WG_ G p l e R s m args below meth c (MQ below (QI_ G post) args s mc ms (FR_ G)) (BU_ R) 8 1000 [(0, rv_ x0), (1, rv_ x1), (2, rv_ x2), (3, rv_ x3), (4, .int x4)] [] σ := by
  have ⟨⟨X, hlk, hr, hRf, hRl, hRc, hnm⟩, hfl, hSC⟩ := Y
  have ⟨⟨hx, hb, _, hown, hts⟩, _, _⟩ := X
  intro H locs cells slots ls hP hL hB hl
  unfold wL_law_L1000 at hf
  have hl := lv_sub hl [4, 0, 1, 2, 3] rfl
  refine p_iincc (i := 4) (k := 6) hx hb (by decide) dL_law_1000 hl (by decide) ⟨⟨ne_ rfl, Or.inl (ne_ rfl)⟩, ⟨⟨ne_ rfl, Or.inl (ne_ rfl)⟩, ⟨⟨ne_ rfl, Or.inl (ne_ rfl)⟩, ⟨⟨ne_ rfl, Or.inr (rv_cat _)⟩, trivial⟩⟩⟩⟩ (fun y1 hy1 ls hl => ?_)
  have hf := hf y1 hy1
  refine lv_goto (tgt := 33) hx hb dL_law_1003 (by decide) ?_
  exact hrc33 _ _ hf _ _ _ _ _ hP hL hB (lv_sub hl [1, 2, 3, 4, 0] rfl)
set_option maxHeartbeats 4000000 in
theorem sL_law_L997 {G : GG_} {p : Program} {l : Launch} {e : Env} {R : Room} {s : State} {m : MethodId} {args : Array Value} {below : List Frame} {meth : Method} {c : Code} {mc ms : Nat} {SC : Hp → Prop} (Y : (MX_ G p R s m args meth c cL_law 8 RX0 (some .boolean) 13 326 mc ms "law") ∧ l.flags = pinnedFlags ++ [noTraceFlag] ∧ ∀ σ H, Pic_ G σ H → SC σ) {post : Int32 → Hp → Prop} {rc33 : Int32 → Hp → Prop} {x0 : Nat} {x1 : Nat} {x2 : Nat} {x3 : Nat} {x4 : Int32} {σ : Hp} (hrc33 : ∀ (x4 : Int32) (σ : Hp), rc33 x4 σ → WG_ G p l e R s m args below meth c (MQ below (QI_ G post) args s mc ms (FR_ G)) (BU_ R) 8 33 [(0, rv_ x0), (1, rv_ x1), (2, rv_ x2), (3, rv_ x3), (4, .int x4)] [] σ) (hf : wL_law_L997 SC post rc33 x0 x1 x2 x3 x4 σ) : WG_ G p l e R s m args below meth c (MQ below (QI_ G post) args s mc ms (FR_ G)) (BU_ R) 8 997 [(0, rv_ x0), (1, rv_ x1), (2, rv_ x2), (3, rv_ x3), (4, .int x4)] [] σ := by
  have ⟨⟨X, hlk, hr, hRf, hRl, hRc, hnm⟩, hfl, hSC⟩ := Y
  have ⟨⟨hx, hb, _, hown, hts⟩, _, _⟩ := X
  intro H locs cells slots ls hP hL hB hl
  unfold wL_law_L997 at hf
  refine lv_goto (tgt := 1000) hx hb dL_law_997 (by decide) ?_
  exact sL_law_L1000 Y hrc33 hf _ _ _ _ _ hP hL hB (lv_sub hl [0, 1, 2, 3, 4] rfl)
set_option maxHeartbeats 4000000 in
theorem sL_law_L932 {G : GG_} {p : Program} {l : Launch} {e : Env} {R : Room} {s : State} {m : MethodId} {args : Array Value} {below : List Frame} {meth : Method} {c : Code} {mc ms : Nat} {SC : Hp → Prop} (Y : (MX_ G p R s m args meth c cL_law 8 RX0 (some .boolean) 13 326 mc ms "law") ∧ l.flags = pinnedFlags ++ [noTraceFlag] ∧ ∀ σ H, Pic_ G σ H → SC σ) {post : Int32 → Hp → Prop} {rc33 : Int32 → Hp → Prop} {x0 : Nat} {x1 : Nat} {x2 : Nat} {x3 : Nat} {x4 : Int32} {σ : Hp} (hrc33 : ∀ (x4 : Int32) (σ : Hp), rc33 x4 σ → WG_ G p l e R s m args below meth c (MQ below (QI_ G post) args s mc ms (FR_ G)) (BU_ R) 8 33 [(0, rv_ x0), (1, rv_ x1), (2, rv_ x2), (3, rv_ x3), (4, .int x4)] [] σ) (hf : wL_law_L932 SC post rc33 x0 x1 x2 x3 x4 σ) : WG_ G p l e R s m args below meth c (MQ below (QI_ G post) args s mc ms (FR_ G)) (BU_ R) 8 932 [(0, rv_ x0), (1, rv_ x1), (2, rv_ x2), (3, rv_ x3), (4, .int x4)] [] σ := by
  have ⟨⟨X, hlk, hr, hRf, hRl, hRc, hnm⟩, hfl, hSC⟩ := Y
  have ⟨⟨hx, hb, _, hown, hts⟩, _, _⟩ := X
  intro H locs cells slots ls hP hL hB hl
  unfold wL_law_L932 at hf
  refine p_aload_n hx hb dL_law_932 rfl (lv_at hl 1 rfl) ?_
  refine p_aload_n hx hb dL_law_933 rfl (lv_at hl 0 rfl) ?_
  refine lv_iload hx hb dL_law_934 (lv_at hl 4 rfl) ?_
  refine lv_iconst (v := 1) hx hb dL_law_936 (by decide) ?_
  refine lv_iadd hx hb dL_law_937 ?_
  obtain ⟨ht2, hf⟩ := hf
  obtain ⟨hi3, hf⟩ := hf
  refine p_iald X hP ht2 hi3 dL_law_938 ?_
  refine p_aload_n hx hb dL_law_939 rfl (lv_at hl 0 rfl) ?_
  refine lv_iload hx hb dL_law_940 (lv_at hl 4 rfl) ?_
  refine lv_iconst (v := 2) hx hb dL_law_942 (by decide) ?_
  refine lv_iadd hx hb dL_law_943 ?_
  obtain ⟨hi4, hf⟩ := hf
  refine p_iald X hP ht2 hi4 dL_law_944 ?_
  refine p_aload_n hx hb dL_law_945 rfl (lv_at hl 3 rfl) ?_
  obtain ⟨mc5, ms6, hf⟩ := hf
  obtain ⟨hb7, hf⟩ := hf
  obtain ⟨hb8, hf⟩ := hf
  refine p_calli hL (p_runSW (n := 4) X (Pic_bu hP mc5 ms6) (metX0_tree l G _ _ _ _ _ _ _ _ hfl X.2.2 hf) q1278 rfl q1276 q1277 q84 rfl rfl ⟨Nat.le_trans (Nat.le_of_ble_eq_true rfl) hRf, Nat.le_trans (Nat.le_of_ble_eq_true rfl) hRl⟩ (by decide +kernel) rfl hl.1 rfl (by decide) dL_law_946 (BU_call hB hb7 hb8)) (fun r9 σ10 H locs hf hP hL => ?_)
  have hB := BU_back (τ := σ10) hB hb7 hb8
  have hP := Pic_bu hP (bc_ σ - mc5) (bs_ σ - ms6)
  refine p_nmPB hP hB (fun σ11 hσ11 hP hB => ?_)
  have hf := hf σ11 hσ11
  have hf := hf (hSC _ _ hP)
  refine p_istore (i := 5) hx hb dL_law_949 hl (by decide) ⟨⟨ne_ rfl, Or.inl (ne_ rfl)⟩, ⟨⟨ne_ rfl, Or.inl (ne_ rfl)⟩, ⟨⟨ne_ rfl, Or.inl (ne_ rfl)⟩, ⟨⟨ne_ rfl, Or.inl (ne_ rfl)⟩, ⟨⟨ne_ rfl, Or.inr rfl⟩, trivial⟩⟩⟩⟩⟩ (fun ls hl => ?_)
  refine p_aload_n hx hb dL_law_951 rfl (lv_at hl 3 rfl) ?_
  refine p_aload_n hx hb dL_law_952 rfl (lv_at hl 1 rfl) ?_
  refine lv_iload hx hb dL_law_953 (lv_at hl 5 rfl) ?_
  refine lv_iconst (v := 1) hx hb dL_law_955 (by decide) ?_
  refine lv_iadd hx hb dL_law_956 ?_
  obtain ⟨ht12, hf⟩ := hf
  obtain ⟨hi13, hf⟩ := hf
  refine p_iald X hP ht12 hi13 dL_law_957 ?_
  refine p_aload_n hx hb dL_law_958 rfl (lv_at hl 1 rfl) ?_
  refine lv_iload hx hb dL_law_959 (lv_at hl 5 rfl) ?_
  refine lv_iconst (v := 2) hx hb dL_law_961 (by decide) ?_
  refine lv_iadd hx hb dL_law_962 ?_
  obtain ⟨hi14, hf⟩ := hf
  refine p_iald X hP ht12 hi14 dL_law_963 ?_
  obtain ⟨ht15, hf⟩ := hf
  refine p_calli hL (p_runV X cf8_ hP ht15 (metX9_tree l G _ _ _ _ _ X.2.2 hf) (cwV 2 hts (lw_V q1488 q1489 q1490 q106 q1491) rfl rfl rfl (by decide +kernel) ⟨Nat.le_trans (Nat.le_of_ble_eq_true rfl) hRf, Nat.le_trans (Nat.le_of_ble_eq_true rfl) hRl⟩) rfl hl.1 rfl (by decide) dL_law_964 (BU_call hB (Nat.zero_le _) (Nat.zero_le _))) (fun r16 σ17 H locs hf hP hL => ?_)
  have hB := BU_keep (τ := σ17) hB
  have hP := Pic_bu hP (bc_ σ11) (bs_ σ11)
  refine p_nmPB hP hB (fun σ18 hσ18 hP hB => ?_)
  have hf := hf σ18 hσ18
  have hf := hf (hSC _ _ hP)
  refine p_istore (i := 6) hx hb dL_law_967 hl (by decide) ⟨⟨ne_ rfl, Or.inr rfl⟩, ⟨⟨ne_ rfl, Or.inl (ne_ rfl)⟩, ⟨⟨ne_ rfl, Or.inl (ne_ rfl)⟩, ⟨⟨ne_ rfl, Or.inl (ne_ rfl)⟩, ⟨⟨ne_ rfl, Or.inl (ne_ rfl)⟩, ⟨⟨ne_ rfl, Or.inl (ne_ rfl)⟩, trivial⟩⟩⟩⟩⟩⟩ (fun ls hl => ?_)
  refine p_aload_n hx hb dL_law_969 rfl (lv_at hl 4 rfl) ?_
  obtain ⟨ht19, hf⟩ := hf
  refine p_calli hL (p_runV X cf8_ hP ht19 (metX9_thrown l G _ _ _ X.2.2 hf) (cwV 0 hts (lw_V q1419 q1420 q1421 q106 q1422) rfl rfl rfl (by decide +kernel) ⟨Nat.le_trans (Nat.le_of_ble_eq_true rfl) hRf, Nat.le_trans (Nat.le_of_ble_eq_true rfl) hRl⟩) rfl hl.1 rfl (by decide) dL_law_970 (BU_call hB (Nat.zero_le _) (Nat.zero_le _))) (fun r20 σ₁ H locs hf hP hL => ?_)
  obtain ⟨e₁, hf⟩ := hf
  rw [e₁] at hP
  refine lv_iload hx hb dL_law_973 (lv_at hl 1 rfl) ?_
  refine lv_icmp_eq (tgt := 980) hx hb dL_law_975 (by decide) (fun c21 => ?_) (fun c21 => ?_)
  · have hf := hf.1 c21
    refine lv_iload hx hb dL_law_980 (lv_at hl 1 rfl) ?_
    refine lv_if_ne (tgt := 997) hx hb dL_law_982 (by decide) (fun c22 => ?_) (fun c22 => ?_)
    · have hf := hf.1 c22
      exact sL_law_L997 Y hrc33 hf _ _ _ _ _ hP hL hB (lv_sub hl [2, 3, 4, 5, 6] rfl)
    · have hf := hf.2 c22
      refine p_aload_n hx hb dL_law_985 rfl (lv_at hl 5 rfl) ?_
      refine lv_iconst (v := 0) hx hb dL_law_986 (by decide) ?_
      obtain ⟨ht23, hf⟩ := hf
      obtain ⟨hi24, hf⟩ := hf
      refine p_lald X hP ht23 hi24 dL_law_987 ?_
      refine lv_iload hx hb dL_law_988 (lv_at hl 0 rfl) ?_
      refine lv_i2l hx hb dL_law_990 rfl ?_
      refine W.lcmp hx hb dL_law_991 ?_
      refine lv_if_eq (tgt := 997) hx hb dL_law_992 (by decide) (fun c25 => ?_) (fun c25 => ?_)
      · have hf := hf.1 c25
        exact sL_law_L997 Y hrc33 hf _ _ _ _ _ hP hL hB (lv_sub hl [2, 3, 4, 5, 6] rfl)
      · have hf := hf.2 c25
        refine lv_iconst (v := 0) hx hb dL_law_995 (by decide) ?_
        exact p_zret X hlk hP hL (BU_le hB hRc).1 (BU_le hB hRc).2 hr nr_0 dL_law_996 hf
  · have hf := hf.2 c21
    refine lv_iconst (v := 0) hx hb dL_law_978 (by decide) ?_
    exact p_zret X hlk hP hL (BU_le hB hRc).1 (BU_le hB hRc).2 hr nr_0 dL_law_979 hf
set_option maxHeartbeats 4000000 in
theorem sL_law_L929 {G : GG_} {p : Program} {l : Launch} {e : Env} {R : Room} {s : State} {m : MethodId} {args : Array Value} {below : List Frame} {meth : Method} {c : Code} {mc ms : Nat} {SC : Hp → Prop} (Y : (MX_ G p R s m args meth c cL_law 8 RX0 (some .boolean) 13 326 mc ms "law") ∧ l.flags = pinnedFlags ++ [noTraceFlag] ∧ ∀ σ H, Pic_ G σ H → SC σ) {post : Int32 → Hp → Prop} {rc33 : Int32 → Hp → Prop} {x0 : Nat} {x1 : Nat} {x2 : Nat} {x3 : Nat} {x4 : Int32} {σ : Hp} (hrc33 : ∀ (x4 : Int32) (σ : Hp), rc33 x4 σ → WG_ G p l e R s m args below meth c (MQ below (QI_ G post) args s mc ms (FR_ G)) (BU_ R) 8 33 [(0, rv_ x0), (1, rv_ x1), (2, rv_ x2), (3, rv_ x3), (4, .int x4)] [] σ) (hf : wL_law_L929 SC post rc33 x0 x1 x2 x3 x4 σ) : WG_ G p l e R s m args below meth c (MQ below (QI_ G post) args s mc ms (FR_ G)) (BU_ R) 8 929 [(0, rv_ x0), (1, rv_ x1), (2, rv_ x2), (3, rv_ x3), (4, .int x4)] [] σ := by
  have ⟨⟨X, hlk, hr, hRf, hRl, hRc, hnm⟩, hfl, hSC⟩ := Y
  have ⟨⟨hx, hb, _, hown, hts⟩, _, _⟩ := X
  intro H locs cells slots ls hP hL hB hl
  unfold wL_law_L929 at hf
  refine lv_goto (tgt := 1000) hx hb dL_law_929 (by decide) ?_
  exact sL_law_L1000 Y hrc33 hf _ _ _ _ _ hP hL hB (lv_sub hl [0, 1, 2, 3, 4] rfl)
set_option maxHeartbeats 4000000 in
theorem sL_law_L864 {G : GG_} {p : Program} {l : Launch} {e : Env} {R : Room} {s : State} {m : MethodId} {args : Array Value} {below : List Frame} {meth : Method} {c : Code} {mc ms : Nat} {SC : Hp → Prop} (Y : (MX_ G p R s m args meth c cL_law 8 RX0 (some .boolean) 13 326 mc ms "law") ∧ l.flags = pinnedFlags ++ [noTraceFlag] ∧ ∀ σ H, Pic_ G σ H → SC σ) {post : Int32 → Hp → Prop} {rc33 : Int32 → Hp → Prop} {x0 : Nat} {x1 : Nat} {x2 : Nat} {x3 : Nat} {x4 : Int32} {σ : Hp} (hrc33 : ∀ (x4 : Int32) (σ : Hp), rc33 x4 σ → WG_ G p l e R s m args below meth c (MQ below (QI_ G post) args s mc ms (FR_ G)) (BU_ R) 8 33 [(0, rv_ x0), (1, rv_ x1), (2, rv_ x2), (3, rv_ x3), (4, .int x4)] [] σ) (hf : wL_law_L864 SC post rc33 x0 x1 x2 x3 x4 σ) : WG_ G p l e R s m args below meth c (MQ below (QI_ G post) args s mc ms (FR_ G)) (BU_ R) 8 864 [(0, rv_ x0), (1, rv_ x1), (2, rv_ x2), (3, rv_ x3), (4, .int x4)] [] σ := by
  have ⟨⟨X, hlk, hr, hRf, hRl, hRc, hnm⟩, hfl, hSC⟩ := Y
  have ⟨⟨hx, hb, _, hown, hts⟩, _, _⟩ := X
  intro H locs cells slots ls hP hL hB hl
  unfold wL_law_L864 at hf
  refine p_aload_n hx hb dL_law_864 rfl (lv_at hl 1 rfl) ?_
  refine p_aload_n hx hb dL_law_865 rfl (lv_at hl 0 rfl) ?_
  refine lv_iload hx hb dL_law_866 (lv_at hl 4 rfl) ?_
  refine lv_iconst (v := 1) hx hb dL_law_868 (by decide) ?_
  refine lv_iadd hx hb dL_law_869 ?_
  obtain ⟨ht26, hf⟩ := hf
  obtain ⟨hi27, hf⟩ := hf
  refine p_iald X hP ht26 hi27 dL_law_870 ?_
  refine p_aload_n hx hb dL_law_871 rfl (lv_at hl 0 rfl) ?_
  refine lv_iload hx hb dL_law_872 (lv_at hl 4 rfl) ?_
  refine lv_iconst (v := 2) hx hb dL_law_874 (by decide) ?_
  refine lv_iadd hx hb dL_law_875 ?_
  obtain ⟨hi28, hf⟩ := hf
  refine p_iald X hP ht26 hi28 dL_law_876 ?_
  refine p_aload_n hx hb dL_law_877 rfl (lv_at hl 3 rfl) ?_
  obtain ⟨mc29, ms30, hf⟩ := hf
  obtain ⟨hb31, hf⟩ := hf
  obtain ⟨hb32, hf⟩ := hf
  refine p_calli hL (p_runSW (n := 4) X (Pic_bu hP mc29 ms30) (metX0_read l G _ _ _ _ _ _ _ _ hfl X.2.2 hf) q1271 rfl q1269 q1270 q84 rfl rfl ⟨Nat.le_trans (Nat.le_of_ble_eq_true rfl) hRf, Nat.le_trans (Nat.le_of_ble_eq_true rfl) hRl⟩ (by decide +kernel) rfl hl.1 rfl (by decide) dL_law_878 (BU_call hB hb31 hb32)) (fun r33 σ34 H locs hf hP hL => ?_)
  have hB := BU_back (τ := σ34) hB hb31 hb32
  have hP := Pic_bu hP (bc_ σ - mc29) (bs_ σ - ms30)
  refine p_nmPB hP hB (fun σ35 hσ35 hP hB => ?_)
  have hf := hf σ35 hσ35
  have hf := hf (hSC _ _ hP)
  refine p_istore (i := 5) hx hb dL_law_881 hl (by decide) ⟨⟨ne_ rfl, Or.inl (ne_ rfl)⟩, ⟨⟨ne_ rfl, Or.inl (ne_ rfl)⟩, ⟨⟨ne_ rfl, Or.inl (ne_ rfl)⟩, ⟨⟨ne_ rfl, Or.inl (ne_ rfl)⟩, ⟨⟨ne_ rfl, Or.inr rfl⟩, trivial⟩⟩⟩⟩⟩ (fun ls hl => ?_)
  refine p_aload_n hx hb dL_law_883 rfl (lv_at hl 3 rfl) ?_
  refine p_aload_n hx hb dL_law_884 rfl (lv_at hl 1 rfl) ?_
  refine lv_iload hx hb dL_law_885 (lv_at hl 5 rfl) ?_
  refine lv_iconst (v := 1) hx hb dL_law_887 (by decide) ?_
  refine lv_iadd hx hb dL_law_888 ?_
  obtain ⟨ht36, hf⟩ := hf
  obtain ⟨hi37, hf⟩ := hf
  refine p_iald X hP ht36 hi37 dL_law_889 ?_
  refine p_aload_n hx hb dL_law_890 rfl (lv_at hl 1 rfl) ?_
  refine lv_iload hx hb dL_law_891 (lv_at hl 5 rfl) ?_
  refine lv_iconst (v := 2) hx hb dL_law_893 (by decide) ?_
  refine lv_iadd hx hb dL_law_894 ?_
  obtain ⟨hi38, hf⟩ := hf
  refine p_iald X hP ht36 hi38 dL_law_895 ?_
  obtain ⟨ht39, hf⟩ := hf
  refine p_calli hL (p_runV X cf8_ hP ht39 (metX9_read l G _ _ _ _ _ X.2.2 hf) (cwV 2 hts (lw_V q1682 q1683 q1684 q106 q1685) rfl rfl rfl (by decide +kernel) ⟨Nat.le_trans (Nat.le_of_ble_eq_true rfl) hRf, Nat.le_trans (Nat.le_of_ble_eq_true rfl) hRl⟩) rfl hl.1 rfl (by decide) dL_law_896 (BU_call hB (Nat.zero_le _) (Nat.zero_le _))) (fun r40 σ41 H locs hf hP hL => ?_)
  have hB := BU_keep (τ := σ41) hB
  have hP := Pic_bu hP (bc_ σ35) (bs_ σ35)
  refine p_nmPB hP hB (fun σ42 hσ42 hP hB => ?_)
  have hf := hf σ42 hσ42
  have hf := hf (hSC _ _ hP)
  refine p_istore (i := 6) hx hb dL_law_899 hl (by decide) ⟨⟨ne_ rfl, Or.inr rfl⟩, ⟨⟨ne_ rfl, Or.inl (ne_ rfl)⟩, ⟨⟨ne_ rfl, Or.inl (ne_ rfl)⟩, ⟨⟨ne_ rfl, Or.inl (ne_ rfl)⟩, ⟨⟨ne_ rfl, Or.inl (ne_ rfl)⟩, ⟨⟨ne_ rfl, Or.inl (ne_ rfl)⟩, trivial⟩⟩⟩⟩⟩⟩ (fun ls hl => ?_)
  refine p_aload_n hx hb dL_law_901 rfl (lv_at hl 4 rfl) ?_
  obtain ⟨ht43, hf⟩ := hf
  refine p_calli hL (p_runV X cf8_ hP ht43 (metX9_thrown l G _ _ _ X.2.2 hf) (cwV 0 hts (lw_V q1419 q1420 q1421 q106 q1422) rfl rfl rfl (by decide +kernel) ⟨Nat.le_trans (Nat.le_of_ble_eq_true rfl) hRf, Nat.le_trans (Nat.le_of_ble_eq_true rfl) hRl⟩) rfl hl.1 rfl (by decide) dL_law_902 (BU_call hB (Nat.zero_le _) (Nat.zero_le _))) (fun r44 σ₁ H locs hf hP hL => ?_)
  obtain ⟨e₁, hf⟩ := hf
  rw [e₁] at hP
  refine lv_iload hx hb dL_law_905 (lv_at hl 1 rfl) ?_
  refine lv_icmp_eq (tgt := 912) hx hb dL_law_907 (by decide) (fun c45 => ?_) (fun c45 => ?_)
  · have hf := hf.1 c45
    refine lv_iload hx hb dL_law_912 (lv_at hl 1 rfl) ?_
    refine lv_if_ne (tgt := 929) hx hb dL_law_914 (by decide) (fun c46 => ?_) (fun c46 => ?_)
    · have hf := hf.1 c46
      exact sL_law_L929 Y hrc33 hf _ _ _ _ _ hP hL hB (lv_sub hl [2, 3, 4, 5, 6] rfl)
    · have hf := hf.2 c46
      refine p_aload_n hx hb dL_law_917 rfl (lv_at hl 5 rfl) ?_
      refine lv_iconst (v := 0) hx hb dL_law_918 (by decide) ?_
      obtain ⟨ht47, hf⟩ := hf
      obtain ⟨hi48, hf⟩ := hf
      refine p_lald X hP ht47 hi48 dL_law_919 ?_
      refine lv_iload hx hb dL_law_920 (lv_at hl 0 rfl) ?_
      refine lv_i2l hx hb dL_law_922 rfl ?_
      refine W.lcmp hx hb dL_law_923 ?_
      refine lv_if_eq (tgt := 929) hx hb dL_law_924 (by decide) (fun c49 => ?_) (fun c49 => ?_)
      · have hf := hf.1 c49
        exact sL_law_L929 Y hrc33 hf _ _ _ _ _ hP hL hB (lv_sub hl [2, 3, 4, 5, 6] rfl)
      · have hf := hf.2 c49
        refine lv_iconst (v := 0) hx hb dL_law_927 (by decide) ?_
        exact p_zret X hlk hP hL (BU_le hB hRc).1 (BU_le hB hRc).2 hr nr_0 dL_law_928 hf
  · have hf := hf.2 c45
    refine lv_iconst (v := 0) hx hb dL_law_910 (by decide) ?_
    exact p_zret X hlk hP hL (BU_le hB hRc).1 (BU_le hB hRc).2 hr nr_0 dL_law_911 hf
set_option maxHeartbeats 4000000 in
theorem sL_law_L861 {G : GG_} {p : Program} {l : Launch} {e : Env} {R : Room} {s : State} {m : MethodId} {args : Array Value} {below : List Frame} {meth : Method} {c : Code} {mc ms : Nat} {SC : Hp → Prop} (Y : (MX_ G p R s m args meth c cL_law 8 RX0 (some .boolean) 13 326 mc ms "law") ∧ l.flags = pinnedFlags ++ [noTraceFlag] ∧ ∀ σ H, Pic_ G σ H → SC σ) {post : Int32 → Hp → Prop} {rc33 : Int32 → Hp → Prop} {x0 : Nat} {x1 : Nat} {x2 : Nat} {x3 : Nat} {x4 : Int32} {σ : Hp} (hrc33 : ∀ (x4 : Int32) (σ : Hp), rc33 x4 σ → WG_ G p l e R s m args below meth c (MQ below (QI_ G post) args s mc ms (FR_ G)) (BU_ R) 8 33 [(0, rv_ x0), (1, rv_ x1), (2, rv_ x2), (3, rv_ x3), (4, .int x4)] [] σ) (hf : wL_law_L861 SC post rc33 x0 x1 x2 x3 x4 σ) : WG_ G p l e R s m args below meth c (MQ below (QI_ G post) args s mc ms (FR_ G)) (BU_ R) 8 861 [(0, rv_ x0), (1, rv_ x1), (2, rv_ x2), (3, rv_ x3), (4, .int x4)] [] σ := by
  have ⟨⟨X, hlk, hr, hRf, hRl, hRc, hnm⟩, hfl, hSC⟩ := Y
  have ⟨⟨hx, hb, _, hown, hts⟩, _, _⟩ := X
  intro H locs cells slots ls hP hL hB hl
  unfold wL_law_L861 at hf
  refine lv_goto (tgt := 1000) hx hb dL_law_861 (by decide) ?_
  exact sL_law_L1000 Y hrc33 hf _ _ _ _ _ hP hL hB (lv_sub hl [0, 1, 2, 3, 4] rfl)
set_option maxHeartbeats 4000000 in
theorem sL_law_L809 {G : GG_} {p : Program} {l : Launch} {e : Env} {R : Room} {s : State} {m : MethodId} {args : Array Value} {below : List Frame} {meth : Method} {c : Code} {mc ms : Nat} {SC : Hp → Prop} (Y : (MX_ G p R s m args meth c cL_law 8 RX0 (some .boolean) 13 326 mc ms "law") ∧ l.flags = pinnedFlags ++ [noTraceFlag] ∧ ∀ σ H, Pic_ G σ H → SC σ) {post : Int32 → Hp → Prop} {rc33 : Int32 → Hp → Prop} {x0 : Nat} {x1 : Nat} {x2 : Nat} {x3 : Nat} {x4 : Int32} {σ : Hp} (hrc33 : ∀ (x4 : Int32) (σ : Hp), rc33 x4 σ → WG_ G p l e R s m args below meth c (MQ below (QI_ G post) args s mc ms (FR_ G)) (BU_ R) 8 33 [(0, rv_ x0), (1, rv_ x1), (2, rv_ x2), (3, rv_ x3), (4, .int x4)] [] σ) (hf : wL_law_L809 SC post rc33 x0 x1 x2 x3 x4 σ) : WG_ G p l e R s m args below meth c (MQ below (QI_ G post) args s mc ms (FR_ G)) (BU_ R) 8 809 [(0, rv_ x0), (1, rv_ x1), (2, rv_ x2), (3, rv_ x3), (4, .int x4)] [] σ := by
  have ⟨⟨X, hlk, hr, hRf, hRl, hRc, hnm⟩, hfl, hSC⟩ := Y
  have ⟨⟨hx, hb, _, hown, hts⟩, _, _⟩ := X
  intro H locs cells slots ls hP hL hB hl
  unfold wL_law_L809 at hf
  refine p_aload_n hx hb dL_law_809 rfl (lv_at hl 1 rfl) ?_
  refine p_aload_n hx hb dL_law_810 rfl (lv_at hl 0 rfl) ?_
  refine lv_iload hx hb dL_law_811 (lv_at hl 4 rfl) ?_
  refine lv_iconst (v := 1) hx hb dL_law_813 (by decide) ?_
  refine lv_iadd hx hb dL_law_814 ?_
  obtain ⟨ht50, hf⟩ := hf
  obtain ⟨hi51, hf⟩ := hf
  refine p_iald X hP ht50 hi51 dL_law_815 ?_
  refine p_aload_n hx hb dL_law_816 rfl (lv_at hl 3 rfl) ?_
  obtain ⟨mc52, ms53, hf⟩ := hf
  obtain ⟨hb54, hf⟩ := hf
  obtain ⟨hb55, hf⟩ := hf
  refine p_calli hL (p_runSW (n := 3) X (Pic_bu hP mc52 ms53) (metX0_name l G _ _ _ _ _ _ _ hfl X.2.2 hf) q1264 rfl q1262 q1263 q84 rfl rfl ⟨Nat.le_trans (Nat.le_of_ble_eq_true rfl) hRf, Nat.le_trans (Nat.le_of_ble_eq_true rfl) hRl⟩ (by decide +kernel) rfl hl.1 rfl (by decide) dL_law_817 (BU_call hB hb54 hb55)) (fun r56 σ57 H locs hf hP hL => ?_)
  have hB := BU_back (τ := σ57) hB hb54 hb55
  have hP := Pic_bu hP (bc_ σ - mc52) (bs_ σ - ms53)
  refine p_nmPB hP hB (fun σ58 hσ58 hP hB => ?_)
  have hf := hf σ58 hσ58
  have hf := hf (hSC _ _ hP)
  refine p_istore (i := 5) hx hb dL_law_820 hl (by decide) ⟨⟨ne_ rfl, Or.inl (ne_ rfl)⟩, ⟨⟨ne_ rfl, Or.inl (ne_ rfl)⟩, ⟨⟨ne_ rfl, Or.inl (ne_ rfl)⟩, ⟨⟨ne_ rfl, Or.inl (ne_ rfl)⟩, ⟨⟨ne_ rfl, Or.inr rfl⟩, trivial⟩⟩⟩⟩⟩ (fun ls hl => ?_)
  refine p_aload_n hx hb dL_law_822 rfl (lv_at hl 3 rfl) ?_
  refine p_aload_n hx hb dL_law_823 rfl (lv_at hl 1 rfl) ?_
  refine lv_iload hx hb dL_law_824 (lv_at hl 5 rfl) ?_
  refine lv_iconst (v := 1) hx hb dL_law_826 (by decide) ?_
  refine lv_iadd hx hb dL_law_827 ?_
  obtain ⟨ht59, hf⟩ := hf
  obtain ⟨hi60, hf⟩ := hf
  refine p_iald X hP ht59 hi60 dL_law_828 ?_
  obtain ⟨ht61, hf⟩ := hf
  refine p_calll hL (p_runV X cf8_ hP ht61 (metX9_name l G _ _ _ _ X.2.2 hf) (cwV 1 hts (lw_V q1678 q1679 q1680 q106 q1681) rfl rfl rfl (by decide +kernel) ⟨Nat.le_trans (Nat.le_of_ble_eq_true rfl) hRf, Nat.le_trans (Nat.le_of_ble_eq_true rfl) hRl⟩) rfl hl.1 rfl (by decide) dL_law_829 (BU_call hB (Nat.zero_le _) (Nat.zero_le _))) (fun r62 σ63 H locs hf hP hL => ?_)
  have hB := BU_keep (τ := σ63) hB
  have hP := Pic_bu hP (bc_ σ58) (bs_ σ58)
  refine p_nmPB hP hB (fun σ64 hσ64 hP hB => ?_)
  have hf := hf σ64 hσ64
  have hf := hf (hSC _ _ hP)
  refine p_lstore (i := 6) hx hb dL_law_832 hl (by decide) ⟨⟨ne_ rfl, ne_ rfl, Or.inr rfl⟩, ⟨⟨ne_ rfl, ne_ rfl, Or.inl (ne_ rfl)⟩, ⟨⟨ne_ rfl, ne_ rfl, Or.inl (ne_ rfl)⟩, ⟨⟨ne_ rfl, ne_ rfl, Or.inl (ne_ rfl)⟩, ⟨⟨ne_ rfl, ne_ rfl, Or.inl (ne_ rfl)⟩, ⟨⟨ne_ rfl, ne_ rfl, Or.inl (ne_ rfl)⟩, trivial⟩⟩⟩⟩⟩⟩ (fun ls hl => ?_)
  refine p_aload_n hx hb dL_law_834 rfl (lv_at hl 4 rfl) ?_
  obtain ⟨ht65, hf⟩ := hf
  refine p_calli hL (p_runV X cf8_ hP ht65 (metX9_thrown l G _ _ _ X.2.2 hf) (cwV 0 hts (lw_V q1419 q1420 q1421 q106 q1422) rfl rfl rfl (by decide +kernel) ⟨Nat.le_trans (Nat.le_of_ble_eq_true rfl) hRf, Nat.le_trans (Nat.le_of_ble_eq_true rfl) hRl⟩) rfl hl.1 rfl (by decide) dL_law_835 (BU_call hB (Nat.zero_le _) (Nat.zero_le _))) (fun r66 σ₁ H locs hf hP hL => ?_)
  obtain ⟨e₁, hf⟩ := hf
  rw [e₁] at hP
  refine lv_iload hx hb dL_law_838 (lv_at hl 1 rfl) ?_
  refine lv_icmp_eq (tgt := 845) hx hb dL_law_840 (by decide) (fun c67 => ?_) (fun c67 => ?_)
  · have hf := hf.1 c67
    refine lv_iload hx hb dL_law_845 (lv_at hl 1 rfl) ?_
    refine lv_if_ne (tgt := 861) hx hb dL_law_847 (by decide) (fun c68 => ?_) (fun c68 => ?_)
    · have hf := hf.1 c68
      exact sL_law_L861 Y hrc33 hf _ _ _ _ _ hP hL hB (lv_sub hl [2, 3, 4, 5, 6] rfl)
    · have hf := hf.2 c68
      refine p_aload_n hx hb dL_law_850 rfl (lv_at hl 5 rfl) ?_
      refine lv_iconst (v := 0) hx hb dL_law_851 (by decide) ?_
      obtain ⟨ht69, hf⟩ := hf
      obtain ⟨hi70, hf⟩ := hf
      refine p_lald X hP ht69 hi70 dL_law_852 ?_
      refine lv_lload hx hb dL_law_853 (lv_at hl 0 rfl) ?_
      refine W.lcmp hx hb dL_law_855 ?_
      refine lv_if_eq (tgt := 861) hx hb dL_law_856 (by decide) (fun c71 => ?_) (fun c71 => ?_)
      · have hf := hf.1 c71
        exact sL_law_L861 Y hrc33 hf _ _ _ _ _ hP hL hB (lv_sub hl [2, 3, 4, 5, 6] rfl)
      · have hf := hf.2 c71
        refine lv_iconst (v := 0) hx hb dL_law_859 (by decide) ?_
        exact p_zret X hlk hP hL (BU_le hB hRc).1 (BU_le hB hRc).2 hr nr_0 dL_law_860 hf
  · have hf := hf.2 c67
    refine lv_iconst (v := 0) hx hb dL_law_843 (by decide) ?_
    exact p_zret X hlk hP hL (BU_le hB hRc).1 (BU_le hB hRc).2 hr nr_0 dL_law_844 hf
set_option maxHeartbeats 4000000 in
theorem sL_law_L806 {G : GG_} {p : Program} {l : Launch} {e : Env} {R : Room} {s : State} {m : MethodId} {args : Array Value} {below : List Frame} {meth : Method} {c : Code} {mc ms : Nat} {SC : Hp → Prop} (Y : (MX_ G p R s m args meth c cL_law 8 RX0 (some .boolean) 13 326 mc ms "law") ∧ l.flags = pinnedFlags ++ [noTraceFlag] ∧ ∀ σ H, Pic_ G σ H → SC σ) {post : Int32 → Hp → Prop} {rc33 : Int32 → Hp → Prop} {x0 : Nat} {x1 : Nat} {x2 : Nat} {x3 : Nat} {x4 : Int32} {σ : Hp} (hrc33 : ∀ (x4 : Int32) (σ : Hp), rc33 x4 σ → WG_ G p l e R s m args below meth c (MQ below (QI_ G post) args s mc ms (FR_ G)) (BU_ R) 8 33 [(0, rv_ x0), (1, rv_ x1), (2, rv_ x2), (3, rv_ x3), (4, .int x4)] [] σ) (hf : wL_law_L806 SC post rc33 x0 x1 x2 x3 x4 σ) : WG_ G p l e R s m args below meth c (MQ below (QI_ G post) args s mc ms (FR_ G)) (BU_ R) 8 806 [(0, rv_ x0), (1, rv_ x1), (2, rv_ x2), (3, rv_ x3), (4, .int x4)] [] σ := by
  have ⟨⟨X, hlk, hr, hRf, hRl, hRc, hnm⟩, hfl, hSC⟩ := Y
  have ⟨⟨hx, hb, _, hown, hts⟩, _, _⟩ := X
  intro H locs cells slots ls hP hL hB hl
  unfold wL_law_L806 at hf
  refine lv_goto (tgt := 1000) hx hb dL_law_806 (by decide) ?_
  exact sL_law_L1000 Y hrc33 hf _ _ _ _ _ hP hL hB (lv_sub hl [0, 1, 2, 3, 4] rfl)
set_option maxHeartbeats 4000000 in
theorem sL_law_L741 {G : GG_} {p : Program} {l : Launch} {e : Env} {R : Room} {s : State} {m : MethodId} {args : Array Value} {below : List Frame} {meth : Method} {c : Code} {mc ms : Nat} {SC : Hp → Prop} (Y : (MX_ G p R s m args meth c cL_law 8 RX0 (some .boolean) 13 326 mc ms "law") ∧ l.flags = pinnedFlags ++ [noTraceFlag] ∧ ∀ σ H, Pic_ G σ H → SC σ) {post : Int32 → Hp → Prop} {rc33 : Int32 → Hp → Prop} {x0 : Nat} {x1 : Nat} {x2 : Nat} {x3 : Nat} {x4 : Int32} {σ : Hp} (hrc33 : ∀ (x4 : Int32) (σ : Hp), rc33 x4 σ → WG_ G p l e R s m args below meth c (MQ below (QI_ G post) args s mc ms (FR_ G)) (BU_ R) 8 33 [(0, rv_ x0), (1, rv_ x1), (2, rv_ x2), (3, rv_ x3), (4, .int x4)] [] σ) (hf : wL_law_L741 SC post rc33 x0 x1 x2 x3 x4 σ) : WG_ G p l e R s m args below meth c (MQ below (QI_ G post) args s mc ms (FR_ G)) (BU_ R) 8 741 [(0, rv_ x0), (1, rv_ x1), (2, rv_ x2), (3, rv_ x3), (4, .int x4)] [] σ := by
  have ⟨⟨X, hlk, hr, hRf, hRl, hRc, hnm⟩, hfl, hSC⟩ := Y
  have ⟨⟨hx, hb, _, hown, hts⟩, _, _⟩ := X
  intro H locs cells slots ls hP hL hB hl
  unfold wL_law_L741 at hf
  refine p_aload_n hx hb dL_law_741 rfl (lv_at hl 1 rfl) ?_
  refine p_aload_n hx hb dL_law_742 rfl (lv_at hl 0 rfl) ?_
  refine lv_iload hx hb dL_law_743 (lv_at hl 4 rfl) ?_
  refine lv_iconst (v := 1) hx hb dL_law_745 (by decide) ?_
  refine lv_iadd hx hb dL_law_746 ?_
  obtain ⟨ht72, hf⟩ := hf
  obtain ⟨hi73, hf⟩ := hf
  refine p_iald X hP ht72 hi73 dL_law_747 ?_
  refine p_aload_n hx hb dL_law_748 rfl (lv_at hl 0 rfl) ?_
  refine lv_iload hx hb dL_law_749 (lv_at hl 4 rfl) ?_
  refine lv_iconst (v := 2) hx hb dL_law_751 (by decide) ?_
  refine lv_iadd hx hb dL_law_752 ?_
  obtain ⟨hi74, hf⟩ := hf
  refine p_iald X hP ht72 hi74 dL_law_753 ?_
  refine p_aload_n hx hb dL_law_754 rfl (lv_at hl 3 rfl) ?_
  obtain ⟨mc75, ms76, hf⟩ := hf
  obtain ⟨hb77, hf⟩ := hf
  obtain ⟨hb78, hf⟩ := hf
  refine p_calli hL (p_runSW (n := 4) X (Pic_bu hP mc75 ms76) (metX0_node l G _ _ _ _ _ _ _ _ hfl X.2.2 hf) q1253 rfl q1251 q1252 q84 rfl rfl ⟨Nat.le_trans (Nat.le_of_ble_eq_true rfl) hRf, Nat.le_trans (Nat.le_of_ble_eq_true rfl) hRl⟩ (by decide +kernel) rfl hl.1 rfl (by decide) dL_law_755 (BU_call hB hb77 hb78)) (fun r79 σ80 H locs hf hP hL => ?_)
  have hB := BU_back (τ := σ80) hB hb77 hb78
  have hP := Pic_bu hP (bc_ σ - mc75) (bs_ σ - ms76)
  refine p_nmPB hP hB (fun σ81 hσ81 hP hB => ?_)
  have hf := hf σ81 hσ81
  have hf := hf (hSC _ _ hP)
  refine p_istore (i := 5) hx hb dL_law_758 hl (by decide) ⟨⟨ne_ rfl, Or.inl (ne_ rfl)⟩, ⟨⟨ne_ rfl, Or.inl (ne_ rfl)⟩, ⟨⟨ne_ rfl, Or.inl (ne_ rfl)⟩, ⟨⟨ne_ rfl, Or.inl (ne_ rfl)⟩, ⟨⟨ne_ rfl, Or.inr rfl⟩, trivial⟩⟩⟩⟩⟩ (fun ls hl => ?_)
  refine p_aload_n hx hb dL_law_760 rfl (lv_at hl 3 rfl) ?_
  refine p_aload_n hx hb dL_law_761 rfl (lv_at hl 1 rfl) ?_
  refine lv_iload hx hb dL_law_762 (lv_at hl 5 rfl) ?_
  refine lv_iconst (v := 1) hx hb dL_law_764 (by decide) ?_
  refine lv_iadd hx hb dL_law_765 ?_
  obtain ⟨ht82, hf⟩ := hf
  obtain ⟨hi83, hf⟩ := hf
  refine p_iald X hP ht82 hi83 dL_law_766 ?_
  refine p_aload_n hx hb dL_law_767 rfl (lv_at hl 1 rfl) ?_
  refine lv_iload hx hb dL_law_768 (lv_at hl 5 rfl) ?_
  refine lv_iconst (v := 2) hx hb dL_law_770 (by decide) ?_
  refine lv_iadd hx hb dL_law_771 ?_
  obtain ⟨hi84, hf⟩ := hf
  refine p_iald X hP ht82 hi84 dL_law_772 ?_
  obtain ⟨ht85, hf⟩ := hf
  refine p_calli hL (p_runV X cf8_ hP ht85 (metX9_node l G _ _ _ _ _ X.2.2 hf) (cwV 2 hts (lw_V q1674 q1675 q1676 q106 q1677) rfl rfl rfl (by decide +kernel) ⟨Nat.le_trans (Nat.le_of_ble_eq_true rfl) hRf, Nat.le_trans (Nat.le_of_ble_eq_true rfl) hRl⟩) rfl hl.1 rfl (by decide) dL_law_773 (BU_call hB (Nat.zero_le _) (Nat.zero_le _))) (fun r86 σ87 H locs hf hP hL => ?_)
  have hB := BU_keep (τ := σ87) hB
  have hP := Pic_bu hP (bc_ σ81) (bs_ σ81)
  refine p_nmPB hP hB (fun σ88 hσ88 hP hB => ?_)
  have hf := hf σ88 hσ88
  have hf := hf (hSC _ _ hP)
  refine p_istore (i := 6) hx hb dL_law_776 hl (by decide) ⟨⟨ne_ rfl, Or.inr rfl⟩, ⟨⟨ne_ rfl, Or.inl (ne_ rfl)⟩, ⟨⟨ne_ rfl, Or.inl (ne_ rfl)⟩, ⟨⟨ne_ rfl, Or.inl (ne_ rfl)⟩, ⟨⟨ne_ rfl, Or.inl (ne_ rfl)⟩, ⟨⟨ne_ rfl, Or.inl (ne_ rfl)⟩, trivial⟩⟩⟩⟩⟩⟩ (fun ls hl => ?_)
  refine p_aload_n hx hb dL_law_778 rfl (lv_at hl 4 rfl) ?_
  obtain ⟨ht89, hf⟩ := hf
  refine p_calli hL (p_runV X cf8_ hP ht89 (metX9_thrown l G _ _ _ X.2.2 hf) (cwV 0 hts (lw_V q1419 q1420 q1421 q106 q1422) rfl rfl rfl (by decide +kernel) ⟨Nat.le_trans (Nat.le_of_ble_eq_true rfl) hRf, Nat.le_trans (Nat.le_of_ble_eq_true rfl) hRl⟩) rfl hl.1 rfl (by decide) dL_law_779 (BU_call hB (Nat.zero_le _) (Nat.zero_le _))) (fun r90 σ₁ H locs hf hP hL => ?_)
  obtain ⟨e₁, hf⟩ := hf
  rw [e₁] at hP
  refine lv_iload hx hb dL_law_782 (lv_at hl 1 rfl) ?_
  refine lv_icmp_eq (tgt := 789) hx hb dL_law_784 (by decide) (fun c91 => ?_) (fun c91 => ?_)
  · have hf := hf.1 c91
    refine lv_iload hx hb dL_law_789 (lv_at hl 1 rfl) ?_
    refine lv_if_ne (tgt := 806) hx hb dL_law_791 (by decide) (fun c92 => ?_) (fun c92 => ?_)
    · have hf := hf.1 c92
      exact sL_law_L806 Y hrc33 hf _ _ _ _ _ hP hL hB (lv_sub hl [2, 3, 4, 5, 6] rfl)
    · have hf := hf.2 c92
      refine p_aload_n hx hb dL_law_794 rfl (lv_at hl 5 rfl) ?_
      refine lv_iconst (v := 0) hx hb dL_law_795 (by decide) ?_
      obtain ⟨ht93, hf⟩ := hf
      obtain ⟨hi94, hf⟩ := hf
      refine p_lald X hP ht93 hi94 dL_law_796 ?_
      refine lv_iload hx hb dL_law_797 (lv_at hl 0 rfl) ?_
      refine lv_i2l hx hb dL_law_799 rfl ?_
      refine W.lcmp hx hb dL_law_800 ?_
      refine lv_if_eq (tgt := 806) hx hb dL_law_801 (by decide) (fun c95 => ?_) (fun c95 => ?_)
      · have hf := hf.1 c95
        exact sL_law_L806 Y hrc33 hf _ _ _ _ _ hP hL hB (lv_sub hl [2, 3, 4, 5, 6] rfl)
      · have hf := hf.2 c95
        refine lv_iconst (v := 0) hx hb dL_law_804 (by decide) ?_
        exact p_zret X hlk hP hL (BU_le hB hRc).1 (BU_le hB hRc).2 hr nr_0 dL_law_805 hf
  · have hf := hf.2 c91
    refine lv_iconst (v := 0) hx hb dL_law_787 (by decide) ?_
    exact p_zret X hlk hP hL (BU_le hB hRc).1 (BU_le hB hRc).2 hr nr_0 dL_law_788 hf
set_option maxHeartbeats 4000000 in
theorem sL_law_L716 {G : GG_} {p : Program} {l : Launch} {e : Env} {R : Room} {s : State} {m : MethodId} {args : Array Value} {below : List Frame} {meth : Method} {c : Code} {mc ms : Nat} {SC : Hp → Prop} (Y : (MX_ G p R s m args meth c cL_law 8 RX0 (some .boolean) 13 326 mc ms "law") ∧ l.flags = pinnedFlags ++ [noTraceFlag] ∧ ∀ σ H, Pic_ G σ H → SC σ) {post : Int32 → Hp → Prop} {rc33 : Int32 → Hp → Prop} {x0 : Nat} {x1 : Nat} {x2 : Nat} {x3 : Nat} {x4 : Int32} {σ : Hp} (hrc33 : ∀ (x4 : Int32) (σ : Hp), rc33 x4 σ → WG_ G p l e R s m args below meth c (MQ below (QI_ G post) args s mc ms (FR_ G)) (BU_ R) 8 33 [(0, rv_ x0), (1, rv_ x1), (2, rv_ x2), (3, rv_ x3), (4, .int x4)] [] σ) (hf : wL_law_L716 SC post rc33 x0 x1 x2 x3 x4 σ) : WG_ G p l e R s m args below meth c (MQ below (QI_ G post) args s mc ms (FR_ G)) (BU_ R) 8 716 [(0, rv_ x0), (1, rv_ x1), (2, rv_ x2), (3, rv_ x3), (4, .int x4)] [] σ := by
  have ⟨⟨X, hlk, hr, hRf, hRl, hRc, hnm⟩, hfl, hSC⟩ := Y
  have ⟨⟨hx, hb, _, hown, hts⟩, _, _⟩ := X
  intro H locs cells slots ls hP hL hB hl
  unfold wL_law_L716 at hf
  refine p_aload_n hx hb dL_law_716 rfl (lv_at hl 1 rfl) ?_
  refine p_aload_n hx hb dL_law_717 rfl (lv_at hl 0 rfl) ?_
  refine lv_iload hx hb dL_law_718 (lv_at hl 4 rfl) ?_
  refine lv_iconst (v := 1) hx hb dL_law_720 (by decide) ?_
  refine lv_iadd hx hb dL_law_721 ?_
  obtain ⟨ht96, hf⟩ := hf
  obtain ⟨hi97, hf⟩ := hf
  refine p_iald X hP ht96 hi97 dL_law_722 ?_
  obtain ⟨ht98, hf⟩ := hf
  obtain ⟨mc99, ms100, hf⟩ := hf
  obtain ⟨hb101, hf⟩ := hf
  obtain ⟨hb102, hf⟩ := hf
  refine p_calli hL (p_runV X cf0_ (Pic_bu hP mc99 ms100) ht98 (metX1_open l G _ _ _ _ _ _ X.2.2 hf) (cwV 1 hts (lw_V q1167 q1168 q1169 q85 q1170) rfl rfl rfl (by decide +kernel) ⟨Nat.le_trans (Nat.le_of_ble_eq_true rfl) hRf, Nat.le_trans (Nat.le_of_ble_eq_true rfl) hRl⟩) rfl hl.1 rfl (by decide) dL_law_723 (BU_call hB hb101 hb102)) (fun r103 σ104 H locs hf hP hL => ?_)
  have hB := BU_back (τ := σ104) hB hb101 hb102
  have hP := Pic_bu hP (bc_ σ - mc99) (bs_ σ - ms100)
  refine p_nmPB hP hB (fun σ105 hσ105 hP hB => ?_)
  have hf := hf σ105 hσ105
  have hf := hf (hSC _ _ hP)
  refine p_aload_n hx hb dL_law_726 rfl (lv_at hl 2 rfl) ?_
  refine p_aload_n hx hb dL_law_727 rfl (lv_at hl 0 rfl) ?_
  refine lv_iload hx hb dL_law_728 (lv_at hl 4 rfl) ?_
  refine lv_iconst (v := 1) hx hb dL_law_730 (by decide) ?_
  refine lv_iadd hx hb dL_law_731 ?_
  obtain ⟨ht106, hf⟩ := hf
  obtain ⟨hi107, hf⟩ := hf
  refine p_iald X hP ht106 hi107 dL_law_732 ?_
  obtain ⟨ht108, hf⟩ := hf
  refine p_calli hL (p_runV X cf8_ hP ht108 (metX9_open l G _ _ _ _ X.2.2 hf) (cwV 1 hts (lw_V q1669 q1670 q1671 q106 q1672) rfl rfl rfl (by decide +kernel) ⟨Nat.le_trans (Nat.le_of_ble_eq_true rfl) hRf, Nat.le_trans (Nat.le_of_ble_eq_true rfl) hRl⟩) rfl hl.1 rfl (by rw [(ca_i ca_n)]; decide) dL_law_733 (BU_call hB (Nat.zero_le _) (Nat.zero_le _))) (fun r109 σ110 H locs hf hP hL => ?_)
  have hB := BU_keep (τ := σ110) hB
  have hP := Pic_bu hP (bc_ σ105) (bs_ σ105)
  refine p_nmPB hP hB (fun σ111 hσ111 hP hB => ?_)
  have hf := hf σ111 hσ111
  have hf := hf (hSC _ _ hP)
  refine lv_icmp_eq (tgt := 1000) hx hb dL_law_736 (by decide) (fun c112 => ?_) (fun c112 => ?_)
  · have hf := hf.1 c112
    exact sL_law_L1000 Y hrc33 hf _ _ _ _ _ hP hL hB (lv_sub hl [0, 1, 2, 3, 4] rfl)
  · have hf := hf.2 c112
    refine lv_iconst (v := 0) hx hb dL_law_739 (by decide) ?_
    exact p_zret X hlk hP hL (BU_le hB hRc).1 (BU_le hB hRc).2 hr nr_0 dL_law_740 hf
set_option maxHeartbeats 4000000 in
theorem sL_law_L713 {G : GG_} {p : Program} {l : Launch} {e : Env} {R : Room} {s : State} {m : MethodId} {args : Array Value} {below : List Frame} {meth : Method} {c : Code} {mc ms : Nat} {SC : Hp → Prop} (Y : (MX_ G p R s m args meth c cL_law 8 RX0 (some .boolean) 13 326 mc ms "law") ∧ l.flags = pinnedFlags ++ [noTraceFlag] ∧ ∀ σ H, Pic_ G σ H → SC σ) {post : Int32 → Hp → Prop} {rc33 : Int32 → Hp → Prop} {x0 : Nat} {x1 : Nat} {x2 : Nat} {x3 : Nat} {x4 : Int32} {σ : Hp} (hrc33 : ∀ (x4 : Int32) (σ : Hp), rc33 x4 σ → WG_ G p l e R s m args below meth c (MQ below (QI_ G post) args s mc ms (FR_ G)) (BU_ R) 8 33 [(0, rv_ x0), (1, rv_ x1), (2, rv_ x2), (3, rv_ x3), (4, .int x4)] [] σ) (hf : wL_law_L713 SC post rc33 x0 x1 x2 x3 x4 σ) : WG_ G p l e R s m args below meth c (MQ below (QI_ G post) args s mc ms (FR_ G)) (BU_ R) 8 713 [(0, rv_ x0), (1, rv_ x1), (2, rv_ x2), (3, rv_ x3), (4, .int x4)] [] σ := by
  have ⟨⟨X, hlk, hr, hRf, hRl, hRc, hnm⟩, hfl, hSC⟩ := Y
  have ⟨⟨hx, hb, _, hown, hts⟩, _, _⟩ := X
  intro H locs cells slots ls hP hL hB hl
  unfold wL_law_L713 at hf
  refine lv_goto (tgt := 1000) hx hb dL_law_713 (by decide) ?_
  exact sL_law_L1000 Y hrc33 hf _ _ _ _ _ hP hL hB (lv_sub hl [0, 1, 2, 3, 4] rfl)
set_option maxHeartbeats 4000000 in
theorem sL_law_L648 {G : GG_} {p : Program} {l : Launch} {e : Env} {R : Room} {s : State} {m : MethodId} {args : Array Value} {below : List Frame} {meth : Method} {c : Code} {mc ms : Nat} {SC : Hp → Prop} (Y : (MX_ G p R s m args meth c cL_law 8 RX0 (some .boolean) 13 326 mc ms "law") ∧ l.flags = pinnedFlags ++ [noTraceFlag] ∧ ∀ σ H, Pic_ G σ H → SC σ) {post : Int32 → Hp → Prop} {rc33 : Int32 → Hp → Prop} {x0 : Nat} {x1 : Nat} {x2 : Nat} {x3 : Nat} {x4 : Int32} {σ : Hp} (hrc33 : ∀ (x4 : Int32) (σ : Hp), rc33 x4 σ → WG_ G p l e R s m args below meth c (MQ below (QI_ G post) args s mc ms (FR_ G)) (BU_ R) 8 33 [(0, rv_ x0), (1, rv_ x1), (2, rv_ x2), (3, rv_ x3), (4, .int x4)] [] σ) (hf : wL_law_L648 SC post rc33 x0 x1 x2 x3 x4 σ) : WG_ G p l e R s m args below meth c (MQ below (QI_ G post) args s mc ms (FR_ G)) (BU_ R) 8 648 [(0, rv_ x0), (1, rv_ x1), (2, rv_ x2), (3, rv_ x3), (4, .int x4)] [] σ := by
  have ⟨⟨X, hlk, hr, hRf, hRl, hRc, hnm⟩, hfl, hSC⟩ := Y
  have ⟨⟨hx, hb, _, hown, hts⟩, _, _⟩ := X
  intro H locs cells slots ls hP hL hB hl
  unfold wL_law_L648 at hf
  refine p_aload_n hx hb dL_law_648 rfl (lv_at hl 1 rfl) ?_
  refine p_aload_n hx hb dL_law_649 rfl (lv_at hl 0 rfl) ?_
  refine lv_iload hx hb dL_law_650 (lv_at hl 4 rfl) ?_
  refine lv_iconst (v := 1) hx hb dL_law_652 (by decide) ?_
  refine lv_iadd hx hb dL_law_653 ?_
  obtain ⟨ht113, hf⟩ := hf
  obtain ⟨hi114, hf⟩ := hf
  refine p_iald X hP ht113 hi114 dL_law_654 ?_
  refine p_aload_n hx hb dL_law_655 rfl (lv_at hl 0 rfl) ?_
  refine lv_iload hx hb dL_law_656 (lv_at hl 4 rfl) ?_
  refine lv_iconst (v := 2) hx hb dL_law_658 (by decide) ?_
  refine lv_iadd hx hb dL_law_659 ?_
  obtain ⟨hi115, hf⟩ := hf
  refine p_iald X hP ht113 hi115 dL_law_660 ?_
  refine p_aload_n hx hb dL_law_661 rfl (lv_at hl 3 rfl) ?_
  obtain ⟨mc116, ms117, hf⟩ := hf
  obtain ⟨hb118, hf⟩ := hf
  obtain ⟨hb119, hf⟩ := hf
  refine p_calli hL (p_runSW (n := 4) X (Pic_bu hP mc116 ms117) (metX0_mark l G _ _ _ _ _ _ _ _ hfl X.2.2 hf) q1181 rfl q1179 q1180 q84 rfl rfl ⟨Nat.le_trans (Nat.le_of_ble_eq_true rfl) hRf, Nat.le_trans (Nat.le_of_ble_eq_true rfl) hRl⟩ (by decide +kernel) rfl hl.1 rfl (by decide) dL_law_662 (BU_call hB hb118 hb119)) (fun r120 σ121 H locs hf hP hL => ?_)
  have hB := BU_back (τ := σ121) hB hb118 hb119
  have hP := Pic_bu hP (bc_ σ - mc116) (bs_ σ - ms117)
  refine p_nmPB hP hB (fun σ122 hσ122 hP hB => ?_)
  have hf := hf σ122 hσ122
  have hf := hf (hSC _ _ hP)
  refine p_istore (i := 5) hx hb dL_law_665 hl (by decide) ⟨⟨ne_ rfl, Or.inl (ne_ rfl)⟩, ⟨⟨ne_ rfl, Or.inl (ne_ rfl)⟩, ⟨⟨ne_ rfl, Or.inl (ne_ rfl)⟩, ⟨⟨ne_ rfl, Or.inl (ne_ rfl)⟩, ⟨⟨ne_ rfl, Or.inr rfl⟩, trivial⟩⟩⟩⟩⟩ (fun ls hl => ?_)
  refine p_aload_n hx hb dL_law_667 rfl (lv_at hl 3 rfl) ?_
  refine p_aload_n hx hb dL_law_668 rfl (lv_at hl 1 rfl) ?_
  refine lv_iload hx hb dL_law_669 (lv_at hl 5 rfl) ?_
  refine lv_iconst (v := 1) hx hb dL_law_671 (by decide) ?_
  refine lv_iadd hx hb dL_law_672 ?_
  obtain ⟨ht123, hf⟩ := hf
  obtain ⟨hi124, hf⟩ := hf
  refine p_iald X hP ht123 hi124 dL_law_673 ?_
  refine p_aload_n hx hb dL_law_674 rfl (lv_at hl 1 rfl) ?_
  refine lv_iload hx hb dL_law_675 (lv_at hl 5 rfl) ?_
  refine lv_iconst (v := 2) hx hb dL_law_677 (by decide) ?_
  refine lv_iadd hx hb dL_law_678 ?_
  obtain ⟨hi125, hf⟩ := hf
  refine p_iald X hP ht123 hi125 dL_law_679 ?_
  obtain ⟨ht126, hf⟩ := hf
  refine p_calli hL (p_runV X cf8_ hP ht126 (metX9_mark l G _ _ _ _ _ X.2.2 hf) (cwV 2 hts (lw_V q1591 q1592 q1593 q106 q1594) rfl rfl rfl (by decide +kernel) ⟨Nat.le_trans (Nat.le_of_ble_eq_true rfl) hRf, Nat.le_trans (Nat.le_of_ble_eq_true rfl) hRl⟩) rfl hl.1 rfl (by decide) dL_law_680 (BU_call hB (Nat.zero_le _) (Nat.zero_le _))) (fun r127 σ128 H locs hf hP hL => ?_)
  have hB := BU_keep (τ := σ128) hB
  have hP := Pic_bu hP (bc_ σ122) (bs_ σ122)
  refine p_nmPB hP hB (fun σ129 hσ129 hP hB => ?_)
  have hf := hf σ129 hσ129
  have hf := hf (hSC _ _ hP)
  refine p_istore (i := 6) hx hb dL_law_683 hl (by decide) ⟨⟨ne_ rfl, Or.inr rfl⟩, ⟨⟨ne_ rfl, Or.inl (ne_ rfl)⟩, ⟨⟨ne_ rfl, Or.inl (ne_ rfl)⟩, ⟨⟨ne_ rfl, Or.inl (ne_ rfl)⟩, ⟨⟨ne_ rfl, Or.inl (ne_ rfl)⟩, ⟨⟨ne_ rfl, Or.inl (ne_ rfl)⟩, trivial⟩⟩⟩⟩⟩⟩ (fun ls hl => ?_)
  refine p_aload_n hx hb dL_law_685 rfl (lv_at hl 4 rfl) ?_
  obtain ⟨ht130, hf⟩ := hf
  refine p_calli hL (p_runV X cf8_ hP ht130 (metX9_thrown l G _ _ _ X.2.2 hf) (cwV 0 hts (lw_V q1419 q1420 q1421 q106 q1422) rfl rfl rfl (by decide +kernel) ⟨Nat.le_trans (Nat.le_of_ble_eq_true rfl) hRf, Nat.le_trans (Nat.le_of_ble_eq_true rfl) hRl⟩) rfl hl.1 rfl (by decide) dL_law_686 (BU_call hB (Nat.zero_le _) (Nat.zero_le _))) (fun r131 σ₁ H locs hf hP hL => ?_)
  obtain ⟨e₁, hf⟩ := hf
  rw [e₁] at hP
  refine lv_iload hx hb dL_law_689 (lv_at hl 1 rfl) ?_
  refine lv_icmp_eq (tgt := 696) hx hb dL_law_691 (by decide) (fun c132 => ?_) (fun c132 => ?_)
  · have hf := hf.1 c132
    refine lv_iload hx hb dL_law_696 (lv_at hl 1 rfl) ?_
    refine lv_if_ne (tgt := 713) hx hb dL_law_698 (by decide) (fun c133 => ?_) (fun c133 => ?_)
    · have hf := hf.1 c133
      exact sL_law_L713 Y hrc33 hf _ _ _ _ _ hP hL hB (lv_sub hl [2, 3, 4, 5, 6] rfl)
    · have hf := hf.2 c133
      refine p_aload_n hx hb dL_law_701 rfl (lv_at hl 5 rfl) ?_
      refine lv_iconst (v := 0) hx hb dL_law_702 (by decide) ?_
      obtain ⟨ht134, hf⟩ := hf
      obtain ⟨hi135, hf⟩ := hf
      refine p_lald X hP ht134 hi135 dL_law_703 ?_
      refine lv_iload hx hb dL_law_704 (lv_at hl 0 rfl) ?_
      refine lv_i2l hx hb dL_law_706 rfl ?_
      refine W.lcmp hx hb dL_law_707 ?_
      refine lv_if_eq (tgt := 713) hx hb dL_law_708 (by decide) (fun c136 => ?_) (fun c136 => ?_)
      · have hf := hf.1 c136
        exact sL_law_L713 Y hrc33 hf _ _ _ _ _ hP hL hB (lv_sub hl [2, 3, 4, 5, 6] rfl)
      · have hf := hf.2 c136
        refine lv_iconst (v := 0) hx hb dL_law_711 (by decide) ?_
        exact p_zret X hlk hP hL (BU_le hB hRc).1 (BU_le hB hRc).2 hr nr_0 dL_law_712 hf
  · have hf := hf.2 c132
    refine lv_iconst (v := 0) hx hb dL_law_694 (by decide) ?_
    exact p_zret X hlk hP hL (BU_le hB hRc).1 (BU_le hB hRc).2 hr nr_0 dL_law_695 hf
set_option maxHeartbeats 4000000 in
theorem sL_law_L635 {G : GG_} {p : Program} {l : Launch} {e : Env} {R : Room} {s : State} {m : MethodId} {args : Array Value} {below : List Frame} {meth : Method} {c : Code} {mc ms : Nat} {SC : Hp → Prop} (Y : (MX_ G p R s m args meth c cL_law 8 RX0 (some .boolean) 13 326 mc ms "law") ∧ l.flags = pinnedFlags ++ [noTraceFlag] ∧ ∀ σ H, Pic_ G σ H → SC σ) {post : Int32 → Hp → Prop} {rc33 : Int32 → Hp → Prop} {x0 : Nat} {x1 : Nat} {x2 : Nat} {x3 : Nat} {x4 : Int32} {σ : Hp} (hrc33 : ∀ (x4 : Int32) (σ : Hp), rc33 x4 σ → WG_ G p l e R s m args below meth c (MQ below (QI_ G post) args s mc ms (FR_ G)) (BU_ R) 8 33 [(0, rv_ x0), (1, rv_ x1), (2, rv_ x2), (3, rv_ x3), (4, .int x4)] [] σ) (hf : wL_law_L635 SC post rc33 x0 x1 x2 x3 x4 σ) : WG_ G p l e R s m args below meth c (MQ below (QI_ G post) args s mc ms (FR_ G)) (BU_ R) 8 635 [(0, rv_ x0), (1, rv_ x1), (2, rv_ x2), (3, rv_ x3), (4, .int x4)] [] σ := by
  have ⟨⟨X, hlk, hr, hRf, hRl, hRc, hnm⟩, hfl, hSC⟩ := Y
  have ⟨⟨hx, hb, _, hown, hts⟩, _, _⟩ := X
  intro H locs cells slots ls hP hL hB hl
  unfold wL_law_L635 at hf
  refine p_aload_n hx hb dL_law_635 rfl (lv_at hl 1 rfl) ?_
  obtain ⟨ht137, hf⟩ := hf
  refine p_calli hL (p_runV X cf0_ hP ht137 (metX1_writes l G _ _ _ X.2.2 hf) (cwV 0 hts (lw_V q1163 q1164 q1165 q85 q1166) rfl rfl rfl (by decide +kernel) ⟨Nat.le_trans (Nat.le_of_ble_eq_true rfl) hRf, Nat.le_trans (Nat.le_of_ble_eq_true rfl) hRl⟩) rfl hl.1 rfl (by decide) dL_law_636 (BU_call hB (Nat.zero_le _) (Nat.zero_le _))) (fun r138 σ₁ H locs hf hP hL => ?_)
  obtain ⟨e₁, hf⟩ := hf
  rw [e₁] at hP
  refine p_aload_n hx hb dL_law_639 rfl (lv_at hl 2 rfl) ?_
  obtain ⟨ht139, hf⟩ := hf
  refine p_calli hL (p_runV X cf8_ hP ht139 (metX9_writes l G _ _ _ X.2.2 hf) (cwV 0 hts (lw_V q1698 q1699 q1700 q106 q1701) rfl rfl rfl (by decide +kernel) ⟨Nat.le_trans (Nat.le_of_ble_eq_true rfl) hRf, Nat.le_trans (Nat.le_of_ble_eq_true rfl) hRl⟩) rfl hl.1 rfl (by rw [(ca_i ca_n)]; decide) dL_law_640 (BU_call hB (Nat.zero_le _) (Nat.zero_le _))) (fun r140 σ141 H locs hf hP hL => ?_)
  have hB := BU_keep (τ := σ141) hB
  have hP := Pic_bu hP (bc_ σ) (bs_ σ)
  refine p_nmPB hP hB (fun σ142 hσ142 hP hB => ?_)
  have hf := hf σ142 hσ142
  have hf := hf (hSC _ _ hP)
  refine lv_icmp_eq (tgt := 1000) hx hb dL_law_643 (by decide) (fun c143 => ?_) (fun c143 => ?_)
  · have hf := hf.1 c143
    exact sL_law_L1000 Y hrc33 hf _ _ _ _ _ hP hL hB (lv_sub hl [0, 1, 2, 3, 4] rfl)
  · have hf := hf.2 c143
    refine lv_iconst (v := 0) hx hb dL_law_646 (by decide) ?_
    exact p_zret X hlk hP hL (BU_le hB hRc).1 (BU_le hB hRc).2 hr nr_0 dL_law_647 hf
set_option maxHeartbeats 4000000 in
theorem sL_law_L598 {G : GG_} {p : Program} {l : Launch} {e : Env} {R : Room} {s : State} {m : MethodId} {args : Array Value} {below : List Frame} {meth : Method} {c : Code} {mc ms : Nat} {SC : Hp → Prop} (Y : (MX_ G p R s m args meth c cL_law 8 RX0 (some .boolean) 13 326 mc ms "law") ∧ l.flags = pinnedFlags ++ [noTraceFlag] ∧ ∀ σ H, Pic_ G σ H → SC σ) {post : Int32 → Hp → Prop} {rc33 : Int32 → Hp → Prop} {x0 : Nat} {x1 : Nat} {x2 : Nat} {x3 : Nat} {x4 : Int32} {σ : Hp} (hrc33 : ∀ (x4 : Int32) (σ : Hp), rc33 x4 σ → WG_ G p l e R s m args below meth c (MQ below (QI_ G post) args s mc ms (FR_ G)) (BU_ R) 8 33 [(0, rv_ x0), (1, rv_ x1), (2, rv_ x2), (3, rv_ x3), (4, .int x4)] [] σ) (hf : wL_law_L598 SC post rc33 x0 x1 x2 x3 x4 σ) : WG_ G p l e R s m args below meth c (MQ below (QI_ G post) args s mc ms (FR_ G)) (BU_ R) 8 598 [(0, rv_ x0), (1, rv_ x1), (2, rv_ x2), (3, rv_ x3), (4, .int x4)] [] σ := by
  have ⟨⟨X, hlk, hr, hRf, hRl, hRc, hnm⟩, hfl, hSC⟩ := Y
  have ⟨⟨hx, hb, _, hown, hts⟩, _, _⟩ := X
  intro H locs cells slots ls hP hL hB hl
  unfold wL_law_L598 at hf
  refine p_aload_n hx hb dL_law_598 rfl (lv_at hl 1 rfl) ?_
  refine p_aload_n hx hb dL_law_599 rfl (lv_at hl 0 rfl) ?_
  refine lv_iload hx hb dL_law_600 (lv_at hl 4 rfl) ?_
  refine lv_iconst (v := 1) hx hb dL_law_602 (by decide) ?_
  refine lv_iadd hx hb dL_law_603 ?_
  obtain ⟨ht144, hf⟩ := hf
  obtain ⟨hi145, hf⟩ := hf
  refine p_iald X hP ht144 hi145 dL_law_604 ?_
  refine p_aload_n hx hb dL_law_605 rfl (lv_at hl 0 rfl) ?_
  refine lv_iload hx hb dL_law_606 (lv_at hl 4 rfl) ?_
  refine lv_iconst (v := 2) hx hb dL_law_608 (by decide) ?_
  refine lv_iadd hx hb dL_law_609 ?_
  obtain ⟨hi146, hf⟩ := hf
  refine p_iald X hP ht144 hi146 dL_law_610 ?_
  obtain ⟨ht147, hf⟩ := hf
  refine p_calli hL (p_runV X cf0_ hP ht147 (metX1_spoil l G _ _ _ _ _ X.2.2 hf) (cwV 2 hts (lw_V q1159 q1160 q1161 q85 q1162) rfl rfl rfl (by decide +kernel) ⟨Nat.le_trans (Nat.le_of_ble_eq_true rfl) hRf, Nat.le_trans (Nat.le_of_ble_eq_true rfl) hRl⟩) rfl hl.1 rfl (by decide) dL_law_611 (BU_call hB (Nat.zero_le _) (Nat.zero_le _))) (fun r148 σ149 H locs hf hP hL => ?_)
  have hB := BU_keep (τ := σ149) hB
  have hP := Pic_bu hP (bc_ σ) (bs_ σ)
  refine p_nmPB hP hB (fun σ150 hσ150 hP hB => ?_)
  have hf := hf σ150 hσ150
  have hf := hf (hSC _ _ hP)
  refine p_aload_n hx hb dL_law_614 rfl (lv_at hl 2 rfl) ?_
  refine p_aload_n hx hb dL_law_615 rfl (lv_at hl 0 rfl) ?_
  refine lv_iload hx hb dL_law_616 (lv_at hl 4 rfl) ?_
  refine lv_iconst (v := 1) hx hb dL_law_618 (by decide) ?_
  refine lv_iadd hx hb dL_law_619 ?_
  obtain ⟨ht151, hf⟩ := hf
  obtain ⟨hi152, hf⟩ := hf
  refine p_iald X hP ht151 hi152 dL_law_620 ?_
  refine p_aload_n hx hb dL_law_621 rfl (lv_at hl 0 rfl) ?_
  refine lv_iload hx hb dL_law_622 (lv_at hl 4 rfl) ?_
  refine lv_iconst (v := 2) hx hb dL_law_624 (by decide) ?_
  refine lv_iadd hx hb dL_law_625 ?_
  obtain ⟨hi153, hf⟩ := hf
  refine p_iald X hP ht151 hi153 dL_law_626 ?_
  obtain ⟨ht154, hf⟩ := hf
  refine p_calli hL (p_runV X cf8_ hP ht154 (metX9_spoil l G _ _ _ _ _ X.2.2 hf) (cwV 2 hts (lw_V q1694 q1695 q1696 q106 q1697) rfl rfl rfl (by decide +kernel) ⟨Nat.le_trans (Nat.le_of_ble_eq_true rfl) hRf, Nat.le_trans (Nat.le_of_ble_eq_true rfl) hRl⟩) rfl hl.1 rfl (by rw [(ca_i ca_n)]; decide) dL_law_627 (BU_call hB (Nat.zero_le _) (Nat.zero_le _))) (fun r155 σ156 H locs hf hP hL => ?_)
  have hB := BU_keep (τ := σ156) hB
  have hP := Pic_bu hP (bc_ σ150) (bs_ σ150)
  refine p_nmPB hP hB (fun σ157 hσ157 hP hB => ?_)
  have hf := hf σ157 hσ157
  have hf := hf (hSC _ _ hP)
  refine lv_icmp_eq (tgt := 1000) hx hb dL_law_630 (by decide) (fun c158 => ?_) (fun c158 => ?_)
  · have hf := hf.1 c158
    exact sL_law_L1000 Y hrc33 hf _ _ _ _ _ hP hL hB (lv_sub hl [0, 1, 2, 3, 4] rfl)
  · have hf := hf.2 c158
    refine lv_iconst (v := 0) hx hb dL_law_633 (by decide) ?_
    exact p_zret X hlk hP hL (BU_le hB hRc).1 (BU_le hB hRc).2 hr nr_0 dL_law_634 hf
set_option maxHeartbeats 4000000 in
theorem sL_law_L573 {G : GG_} {p : Program} {l : Launch} {e : Env} {R : Room} {s : State} {m : MethodId} {args : Array Value} {below : List Frame} {meth : Method} {c : Code} {mc ms : Nat} {SC : Hp → Prop} (Y : (MX_ G p R s m args meth c cL_law 8 RX0 (some .boolean) 13 326 mc ms "law") ∧ l.flags = pinnedFlags ++ [noTraceFlag] ∧ ∀ σ H, Pic_ G σ H → SC σ) {post : Int32 → Hp → Prop} {rc33 : Int32 → Hp → Prop} {x0 : Nat} {x1 : Nat} {x2 : Nat} {x3 : Nat} {x4 : Int32} {σ : Hp} (hrc33 : ∀ (x4 : Int32) (σ : Hp), rc33 x4 σ → WG_ G p l e R s m args below meth c (MQ below (QI_ G post) args s mc ms (FR_ G)) (BU_ R) 8 33 [(0, rv_ x0), (1, rv_ x1), (2, rv_ x2), (3, rv_ x3), (4, .int x4)] [] σ) (hf : wL_law_L573 SC post rc33 x0 x1 x2 x3 x4 σ) : WG_ G p l e R s m args below meth c (MQ below (QI_ G post) args s mc ms (FR_ G)) (BU_ R) 8 573 [(0, rv_ x0), (1, rv_ x1), (2, rv_ x2), (3, rv_ x3), (4, .int x4)] [] σ := by
  have ⟨⟨X, hlk, hr, hRf, hRl, hRc, hnm⟩, hfl, hSC⟩ := Y
  have ⟨⟨hx, hb, _, hown, hts⟩, _, _⟩ := X
  intro H locs cells slots ls hP hL hB hl
  unfold wL_law_L573 at hf
  refine p_aload_n hx hb dL_law_573 rfl (lv_at hl 1 rfl) ?_
  refine p_aload_n hx hb dL_law_574 rfl (lv_at hl 0 rfl) ?_
  refine lv_iload hx hb dL_law_575 (lv_at hl 4 rfl) ?_
  refine lv_iconst (v := 1) hx hb dL_law_577 (by decide) ?_
  refine lv_iadd hx hb dL_law_578 ?_
  obtain ⟨ht159, hf⟩ := hf
  obtain ⟨hi160, hf⟩ := hf
  refine p_iald X hP ht159 hi160 dL_law_579 ?_
  obtain ⟨ht161, hf⟩ := hf
  refine p_calli hL (p_runV X cf0_ hP ht161 (metX1_byteAt l G _ _ _ _ X.2.2 hf) (cwV 1 hts (lw_V q1150 q1151 q1152 q85 q1153) rfl rfl rfl (by decide +kernel) ⟨Nat.le_trans (Nat.le_of_ble_eq_true rfl) hRf, Nat.le_trans (Nat.le_of_ble_eq_true rfl) hRl⟩) rfl hl.1 rfl (by decide) dL_law_580 (BU_call hB (Nat.zero_le _) (Nat.zero_le _))) (fun r162 σ₁ H locs hf hP hL => ?_)
  obtain ⟨e₁, hf⟩ := hf
  rw [e₁] at hP
  refine p_aload_n hx hb dL_law_583 rfl (lv_at hl 2 rfl) ?_
  refine p_aload_n hx hb dL_law_584 rfl (lv_at hl 0 rfl) ?_
  refine lv_iload hx hb dL_law_585 (lv_at hl 4 rfl) ?_
  refine lv_iconst (v := 1) hx hb dL_law_587 (by decide) ?_
  refine lv_iadd hx hb dL_law_588 ?_
  obtain ⟨hi163, hf⟩ := hf
  refine p_iald X hP ht159 hi163 dL_law_589 ?_
  obtain ⟨ht164, hf⟩ := hf
  refine p_calli hL (p_runV X cf8_ hP ht164 (metX9_byteAt l G _ _ _ _ X.2.2 hf) (cwV 1 hts (lw_V q1690 q1691 q1692 q106 q1693) rfl rfl rfl (by decide +kernel) ⟨Nat.le_trans (Nat.le_of_ble_eq_true rfl) hRf, Nat.le_trans (Nat.le_of_ble_eq_true rfl) hRl⟩) rfl hl.1 rfl (by rw [(ca_i ca_n)]; decide) dL_law_590 (BU_call hB (Nat.zero_le _) (Nat.zero_le _))) (fun r165 σ166 H locs hf hP hL => ?_)
  have hB := BU_keep (τ := σ166) hB
  have hP := Pic_bu hP (bc_ σ) (bs_ σ)
  refine p_nmPB hP hB (fun σ167 hσ167 hP hB => ?_)
  have hf := hf σ167 hσ167
  have hf := hf (hSC _ _ hP)
  refine lv_icmp_eq (tgt := 1000) hx hb dL_law_593 (by decide) (fun c168 => ?_) (fun c168 => ?_)
  · have hf := hf.1 c168
    exact sL_law_L1000 Y hrc33 hf _ _ _ _ _ hP hL hB (lv_sub hl [0, 1, 2, 3, 4] rfl)
  · have hf := hf.2 c168
    refine lv_iconst (v := 0) hx hb dL_law_596 (by decide) ?_
    exact p_zret X hlk hP hL (BU_le hB hRc).1 (BU_le hB hRc).2 hr nr_0 dL_law_597 hf
set_option maxHeartbeats 4000000 in
theorem sL_law_L548 {G : GG_} {p : Program} {l : Launch} {e : Env} {R : Room} {s : State} {m : MethodId} {args : Array Value} {below : List Frame} {meth : Method} {c : Code} {mc ms : Nat} {SC : Hp → Prop} (Y : (MX_ G p R s m args meth c cL_law 8 RX0 (some .boolean) 13 326 mc ms "law") ∧ l.flags = pinnedFlags ++ [noTraceFlag] ∧ ∀ σ H, Pic_ G σ H → SC σ) {post : Int32 → Hp → Prop} {rc33 : Int32 → Hp → Prop} {x0 : Nat} {x1 : Nat} {x2 : Nat} {x3 : Nat} {x4 : Int32} {σ : Hp} (hrc33 : ∀ (x4 : Int32) (σ : Hp), rc33 x4 σ → WG_ G p l e R s m args below meth c (MQ below (QI_ G post) args s mc ms (FR_ G)) (BU_ R) 8 33 [(0, rv_ x0), (1, rv_ x1), (2, rv_ x2), (3, rv_ x3), (4, .int x4)] [] σ) (hf : wL_law_L548 SC post rc33 x0 x1 x2 x3 x4 σ) : WG_ G p l e R s m args below meth c (MQ below (QI_ G post) args s mc ms (FR_ G)) (BU_ R) 8 548 [(0, rv_ x0), (1, rv_ x1), (2, rv_ x2), (3, rv_ x3), (4, .int x4)] [] σ := by
  have ⟨⟨X, hlk, hr, hRf, hRl, hRc, hnm⟩, hfl, hSC⟩ := Y
  have ⟨⟨hx, hb, _, hown, hts⟩, _, _⟩ := X
  intro H locs cells slots ls hP hL hB hl
  unfold wL_law_L548 at hf
  refine p_aload_n hx hb dL_law_548 rfl (lv_at hl 1 rfl) ?_
  refine p_aload_n hx hb dL_law_549 rfl (lv_at hl 0 rfl) ?_
  refine lv_iload hx hb dL_law_550 (lv_at hl 4 rfl) ?_
  refine lv_iconst (v := 1) hx hb dL_law_552 (by decide) ?_
  refine lv_iadd hx hb dL_law_553 ?_
  obtain ⟨ht169, hf⟩ := hf
  obtain ⟨hi170, hf⟩ := hf
  refine p_iald X hP ht169 hi170 dL_law_554 ?_
  obtain ⟨ht171, hf⟩ := hf
  refine p_calli hL (p_runV X cf0_ hP ht171 (metX1_state l G _ _ _ _ X.2.2 hf) (cwV 1 hts (lw_V q1146 q1147 q1148 q85 q1149) rfl rfl rfl (by decide +kernel) ⟨Nat.le_trans (Nat.le_of_ble_eq_true rfl) hRf, Nat.le_trans (Nat.le_of_ble_eq_true rfl) hRl⟩) rfl hl.1 rfl (by decide) dL_law_555 (BU_call hB (Nat.zero_le _) (Nat.zero_le _))) (fun r172 σ₁ H locs hf hP hL => ?_)
  obtain ⟨e₁, hf⟩ := hf
  rw [e₁] at hP
  refine p_aload_n hx hb dL_law_558 rfl (lv_at hl 2 rfl) ?_
  refine p_aload_n hx hb dL_law_559 rfl (lv_at hl 0 rfl) ?_
  refine lv_iload hx hb dL_law_560 (lv_at hl 4 rfl) ?_
  refine lv_iconst (v := 1) hx hb dL_law_562 (by decide) ?_
  refine lv_iadd hx hb dL_law_563 ?_
  obtain ⟨hi173, hf⟩ := hf
  refine p_iald X hP ht169 hi173 dL_law_564 ?_
  obtain ⟨ht174, hf⟩ := hf
  refine p_calli hL (p_runV X cf8_ hP ht174 (metX9_state l G _ _ _ _ X.2.2 hf) (cwV 1 hts (lw_V q1686 q1687 q1688 q106 q1689) rfl rfl rfl (by decide +kernel) ⟨Nat.le_trans (Nat.le_of_ble_eq_true rfl) hRf, Nat.le_trans (Nat.le_of_ble_eq_true rfl) hRl⟩) rfl hl.1 rfl (by rw [(ca_i ca_n)]; decide) dL_law_565 (BU_call hB (Nat.zero_le _) (Nat.zero_le _))) (fun r175 σ176 H locs hf hP hL => ?_)
  have hB := BU_keep (τ := σ176) hB
  have hP := Pic_bu hP (bc_ σ) (bs_ σ)
  refine p_nmPB hP hB (fun σ177 hσ177 hP hB => ?_)
  have hf := hf σ177 hσ177
  have hf := hf (hSC _ _ hP)
  refine lv_icmp_eq (tgt := 1000) hx hb dL_law_568 (by decide) (fun c178 => ?_) (fun c178 => ?_)
  · have hf := hf.1 c178
    exact sL_law_L1000 Y hrc33 hf _ _ _ _ _ hP hL hB (lv_sub hl [0, 1, 2, 3, 4] rfl)
  · have hf := hf.2 c178
    refine lv_iconst (v := 0) hx hb dL_law_571 (by decide) ?_
    exact p_zret X hlk hP hL (BU_le hB hRc).1 (BU_le hB hRc).2 hr nr_0 dL_law_572 hf
set_option maxHeartbeats 4000000 in
theorem sL_law_L535 {G : GG_} {p : Program} {l : Launch} {e : Env} {R : Room} {s : State} {m : MethodId} {args : Array Value} {below : List Frame} {meth : Method} {c : Code} {mc ms : Nat} {SC : Hp → Prop} (Y : (MX_ G p R s m args meth c cL_law 8 RX0 (some .boolean) 13 326 mc ms "law") ∧ l.flags = pinnedFlags ++ [noTraceFlag] ∧ ∀ σ H, Pic_ G σ H → SC σ) {post : Int32 → Hp → Prop} {rc33 : Int32 → Hp → Prop} {x0 : Nat} {x1 : Nat} {x2 : Nat} {x3 : Nat} {x4 : Int32} {σ : Hp} (hrc33 : ∀ (x4 : Int32) (σ : Hp), rc33 x4 σ → WG_ G p l e R s m args below meth c (MQ below (QI_ G post) args s mc ms (FR_ G)) (BU_ R) 8 33 [(0, rv_ x0), (1, rv_ x1), (2, rv_ x2), (3, rv_ x3), (4, .int x4)] [] σ) (hf : wL_law_L535 SC post rc33 x0 x1 x2 x3 x4 σ) : WG_ G p l e R s m args below meth c (MQ below (QI_ G post) args s mc ms (FR_ G)) (BU_ R) 8 535 [(0, rv_ x0), (1, rv_ x1), (2, rv_ x2), (3, rv_ x3), (4, .int x4)] [] σ := by
  have ⟨⟨X, hlk, hr, hRf, hRl, hRc, hnm⟩, hfl, hSC⟩ := Y
  have ⟨⟨hx, hb, _, hown, hts⟩, _, _⟩ := X
  intro H locs cells slots ls hP hL hB hl
  unfold wL_law_L535 at hf
  refine p_aload_n hx hb dL_law_535 rfl (lv_at hl 1 rfl) ?_
  obtain ⟨ht179, hf⟩ := hf
  obtain ⟨mc180, ms181, hf⟩ := hf
  obtain ⟨hb182, hf⟩ := hf
  obtain ⟨hb183, hf⟩ := hf
  refine p_calli hL (p_runV X cf0_ (Pic_bu hP mc180 ms181) ht179 (metX1_compact l G _ _ _ _ _ X.2.2 hf) (cwV 0 hts (lw_V q1138 q1139 q1140 q85 q1141) rfl rfl rfl (by decide +kernel) ⟨Nat.le_trans (Nat.le_of_ble_eq_true rfl) hRf, Nat.le_trans (Nat.le_of_ble_eq_true rfl) hRl⟩) rfl hl.1 rfl (by decide) dL_law_536 (BU_call hB hb182 hb183)) (fun r184 σ185 H locs hf hP hL => ?_)
  have hB := BU_back (τ := σ185) hB hb182 hb183
  have hP := Pic_bu hP (bc_ σ - mc180) (bs_ σ - ms181)
  refine p_nmPB hP hB (fun σ186 hσ186 hP hB => ?_)
  have hf := hf σ186 hσ186
  have hf := hf (hSC _ _ hP)
  refine p_aload_n hx hb dL_law_539 rfl (lv_at hl 2 rfl) ?_
  obtain ⟨ht187, hf⟩ := hf
  refine p_calli hL (p_runV X cf8_ hP ht187 (metX9_compact l G _ _ _ X.2.2 hf) (cwV 0 hts (lw_V q1586 q1587 q1588 q106 q1589) rfl rfl rfl (by decide +kernel) ⟨Nat.le_trans (Nat.le_of_ble_eq_true rfl) hRf, Nat.le_trans (Nat.le_of_ble_eq_true rfl) hRl⟩) rfl hl.1 rfl (by rw [(ca_i ca_n)]; decide) dL_law_540 (BU_call hB (Nat.zero_le _) (Nat.zero_le _))) (fun r188 σ189 H locs hf hP hL => ?_)
  have hB := BU_keep (τ := σ189) hB
  have hP := Pic_bu hP (bc_ σ186) (bs_ σ186)
  refine p_nmPB hP hB (fun σ190 hσ190 hP hB => ?_)
  have hf := hf σ190 hσ190
  have hf := hf (hSC _ _ hP)
  refine lv_icmp_eq (tgt := 1000) hx hb dL_law_543 (by decide) (fun c191 => ?_) (fun c191 => ?_)
  · have hf := hf.1 c191
    exact sL_law_L1000 Y hrc33 hf _ _ _ _ _ hP hL hB (lv_sub hl [0, 1, 2, 3, 4] rfl)
  · have hf := hf.2 c191
    refine lv_iconst (v := 0) hx hb dL_law_546 (by decide) ?_
    exact p_zret X hlk hP hL (BU_le hB hRc).1 (BU_le hB hRc).2 hr nr_0 dL_law_547 hf
set_option maxHeartbeats 4000000 in
theorem sL_law_L522 {G : GG_} {p : Program} {l : Launch} {e : Env} {R : Room} {s : State} {m : MethodId} {args : Array Value} {below : List Frame} {meth : Method} {c : Code} {mc ms : Nat} {SC : Hp → Prop} (Y : (MX_ G p R s m args meth c cL_law 8 RX0 (some .boolean) 13 326 mc ms "law") ∧ l.flags = pinnedFlags ++ [noTraceFlag] ∧ ∀ σ H, Pic_ G σ H → SC σ) {post : Int32 → Hp → Prop} {rc33 : Int32 → Hp → Prop} {x0 : Nat} {x1 : Nat} {x2 : Nat} {x3 : Nat} {x4 : Int32} {σ : Hp} (hrc33 : ∀ (x4 : Int32) (σ : Hp), rc33 x4 σ → WG_ G p l e R s m args below meth c (MQ below (QI_ G post) args s mc ms (FR_ G)) (BU_ R) 8 33 [(0, rv_ x0), (1, rv_ x1), (2, rv_ x2), (3, rv_ x3), (4, .int x4)] [] σ) (hf : wL_law_L522 SC post rc33 x0 x1 x2 x3 x4 σ) : WG_ G p l e R s m args below meth c (MQ below (QI_ G post) args s mc ms (FR_ G)) (BU_ R) 8 522 [(0, rv_ x0), (1, rv_ x1), (2, rv_ x2), (3, rv_ x3), (4, .int x4)] [] σ := by
  have ⟨⟨X, hlk, hr, hRf, hRl, hRc, hnm⟩, hfl, hSC⟩ := Y
  have ⟨⟨hx, hb, _, hown, hts⟩, _, _⟩ := X
  intro H locs cells slots ls hP hL hB hl
  unfold wL_law_L522 at hf
  refine p_aload_n hx hb dL_law_522 rfl (lv_at hl 1 rfl) ?_
  obtain ⟨ht192, hf⟩ := hf
  obtain ⟨mc193, ms194, hf⟩ := hf
  obtain ⟨hb195, hf⟩ := hf
  obtain ⟨hb196, hf⟩ := hf
  refine p_calli hL (p_runV X cf0_ (Pic_bu hP mc193 ms194) ht192 (metX1_discover l G _ _ _ _ _ X.2.2 hf) (cwV 0 hts (lw_V q951 q952 q953 q85 q954) rfl rfl rfl (by decide +kernel) ⟨Nat.le_trans (Nat.le_of_ble_eq_true rfl) hRf, Nat.le_trans (Nat.le_of_ble_eq_true rfl) hRl⟩) rfl hl.1 rfl (by decide) dL_law_523 (BU_call hB hb195 hb196)) (fun r197 σ198 H locs hf hP hL => ?_)
  have hB := BU_back (τ := σ198) hB hb195 hb196
  have hP := Pic_bu hP (bc_ σ - mc193) (bs_ σ - ms194)
  refine p_nmPB hP hB (fun σ199 hσ199 hP hB => ?_)
  have hf := hf σ199 hσ199
  have hf := hf (hSC _ _ hP)
  refine p_aload_n hx hb dL_law_526 rfl (lv_at hl 2 rfl) ?_
  obtain ⟨ht200, hf⟩ := hf
  refine p_calli hL (p_runV X cf8_ hP ht200 (metX9_discover l G _ _ _ X.2.2 hf) (cwV 0 hts (lw_V q1665 q1666 q1667 q106 q1668) rfl rfl rfl (by decide +kernel) ⟨Nat.le_trans (Nat.le_of_ble_eq_true rfl) hRf, Nat.le_trans (Nat.le_of_ble_eq_true rfl) hRl⟩) rfl hl.1 rfl (by rw [(ca_i ca_n)]; decide) dL_law_527 (BU_call hB (Nat.zero_le _) (Nat.zero_le _))) (fun r201 σ202 H locs hf hP hL => ?_)
  have hB := BU_keep (τ := σ202) hB
  have hP := Pic_bu hP (bc_ σ199) (bs_ σ199)
  refine p_nmPB hP hB (fun σ203 hσ203 hP hB => ?_)
  have hf := hf σ203 hσ203
  have hf := hf (hSC _ _ hP)
  refine lv_icmp_eq (tgt := 1000) hx hb dL_law_530 (by decide) (fun c204 => ?_) (fun c204 => ?_)
  · have hf := hf.1 c204
    exact sL_law_L1000 Y hrc33 hf _ _ _ _ _ hP hL hB (lv_sub hl [0, 1, 2, 3, 4] rfl)
  · have hf := hf.2 c204
    refine lv_iconst (v := 0) hx hb dL_law_533 (by decide) ?_
    exact p_zret X hlk hP hL (BU_le hB hRc).1 (BU_le hB hRc).2 hr nr_0 dL_law_534 hf
set_option maxHeartbeats 4000000 in
theorem sL_law_L509 {G : GG_} {p : Program} {l : Launch} {e : Env} {R : Room} {s : State} {m : MethodId} {args : Array Value} {below : List Frame} {meth : Method} {c : Code} {mc ms : Nat} {SC : Hp → Prop} (Y : (MX_ G p R s m args meth c cL_law 8 RX0 (some .boolean) 13 326 mc ms "law") ∧ l.flags = pinnedFlags ++ [noTraceFlag] ∧ ∀ σ H, Pic_ G σ H → SC σ) {post : Int32 → Hp → Prop} {rc33 : Int32 → Hp → Prop} {x0 : Nat} {x1 : Nat} {x2 : Nat} {x3 : Nat} {x4 : Int32} {σ : Hp} (hrc33 : ∀ (x4 : Int32) (σ : Hp), rc33 x4 σ → WG_ G p l e R s m args below meth c (MQ below (QI_ G post) args s mc ms (FR_ G)) (BU_ R) 8 33 [(0, rv_ x0), (1, rv_ x1), (2, rv_ x2), (3, rv_ x3), (4, .int x4)] [] σ) (hf : wL_law_L509 SC post rc33 x0 x1 x2 x3 x4 σ) : WG_ G p l e R s m args below meth c (MQ below (QI_ G post) args s mc ms (FR_ G)) (BU_ R) 8 509 [(0, rv_ x0), (1, rv_ x1), (2, rv_ x2), (3, rv_ x3), (4, .int x4)] [] σ := by
  have ⟨⟨X, hlk, hr, hRf, hRl, hRc, hnm⟩, hfl, hSC⟩ := Y
  have ⟨⟨hx, hb, _, hown, hts⟩, _, _⟩ := X
  intro H locs cells slots ls hP hL hB hl
  unfold wL_law_L509 at hf
  refine p_aload_n hx hb dL_law_509 rfl (lv_at hl 1 rfl) ?_
  obtain ⟨ht205, hf⟩ := hf
  obtain ⟨mc206, ms207, hf⟩ := hf
  obtain ⟨hb208, hf⟩ := hf
  obtain ⟨hb209, hf⟩ := hf
  refine p_calli hL (p_runV X cf0_ (Pic_bu hP mc206 ms207) ht205 (metX1_commit l G _ _ _ _ _ X.2.2 hf) (cwV 0 hts (lw_V q802 q803 q804 q85 q805) rfl rfl rfl (by decide +kernel) ⟨Nat.le_trans (Nat.le_of_ble_eq_true rfl) hRf, Nat.le_trans (Nat.le_of_ble_eq_true rfl) hRl⟩) rfl hl.1 rfl (by decide) dL_law_510 (BU_call hB hb208 hb209)) (fun r210 σ211 H locs hf hP hL => ?_)
  have hB := BU_back (τ := σ211) hB hb208 hb209
  have hP := Pic_bu hP (bc_ σ - mc206) (bs_ σ - ms207)
  refine p_nmPB hP hB (fun σ212 hσ212 hP hB => ?_)
  have hf := hf σ212 hσ212
  have hf := hf (hSC _ _ hP)
  refine p_aload_n hx hb dL_law_513 rfl (lv_at hl 2 rfl) ?_
  obtain ⟨ht213, hf⟩ := hf
  refine p_calli hL (p_runV X cf8_ hP ht213 (metX9_commit l G _ _ _ X.2.2 hf) (cwV 0 hts (lw_V q1492 q1493 q1494 q106 q1495) rfl rfl rfl (by decide +kernel) ⟨Nat.le_trans (Nat.le_of_ble_eq_true rfl) hRf, Nat.le_trans (Nat.le_of_ble_eq_true rfl) hRl⟩) rfl hl.1 rfl (by rw [(ca_i ca_n)]; decide) dL_law_514 (BU_call hB (Nat.zero_le _) (Nat.zero_le _))) (fun r214 σ215 H locs hf hP hL => ?_)
  have hB := BU_keep (τ := σ215) hB
  have hP := Pic_bu hP (bc_ σ212) (bs_ σ212)
  refine p_nmPB hP hB (fun σ216 hσ216 hP hB => ?_)
  have hf := hf σ216 hσ216
  have hf := hf (hSC _ _ hP)
  refine lv_icmp_eq (tgt := 1000) hx hb dL_law_517 (by decide) (fun c217 => ?_) (fun c217 => ?_)
  · have hf := hf.1 c217
    exact sL_law_L1000 Y hrc33 hf _ _ _ _ _ hP hL hB (lv_sub hl [0, 1, 2, 3, 4] rfl)
  · have hf := hf.2 c217
    refine lv_iconst (v := 0) hx hb dL_law_520 (by decide) ?_
    exact p_zret X hlk hP hL (BU_le hB hRc).1 (BU_le hB hRc).2 hr nr_0 dL_law_521 hf
set_option maxHeartbeats 4000000 in
theorem sL_law_L428 {G : GG_} {p : Program} {l : Launch} {e : Env} {R : Room} {s : State} {m : MethodId} {args : Array Value} {below : List Frame} {meth : Method} {c : Code} {mc ms : Nat} {SC : Hp → Prop} (Y : (MX_ G p R s m args meth c cL_law 8 RX0 (some .boolean) 13 326 mc ms "law") ∧ l.flags = pinnedFlags ++ [noTraceFlag] ∧ ∀ σ H, Pic_ G σ H → SC σ) {post : Int32 → Hp → Prop} {rc33 : Int32 → Hp → Prop} {x0 : Nat} {x1 : Nat} {x2 : Nat} {x3 : Nat} {x4 : Int32} {σ : Hp} (hrc33 : ∀ (x4 : Int32) (σ : Hp), rc33 x4 σ → WG_ G p l e R s m args below meth c (MQ below (QI_ G post) args s mc ms (FR_ G)) (BU_ R) 8 33 [(0, rv_ x0), (1, rv_ x1), (2, rv_ x2), (3, rv_ x3), (4, .int x4)] [] σ) (hf : wL_law_L428 SC post rc33 x0 x1 x2 x3 x4 σ) : WG_ G p l e R s m args below meth c (MQ below (QI_ G post) args s mc ms (FR_ G)) (BU_ R) 8 428 [(0, rv_ x0), (1, rv_ x1), (2, rv_ x2), (3, rv_ x3), (4, .int x4)] [] σ := by
  have ⟨⟨X, hlk, hr, hRf, hRl, hRc, hnm⟩, hfl, hSC⟩ := Y
  have ⟨⟨hx, hb, _, hown, hts⟩, _, _⟩ := X
  intro H locs cells slots ls hP hL hB hl
  unfold wL_law_L428 at hf
  refine p_aload_n hx hb dL_law_428 rfl (lv_at hl 1 rfl) ?_
  refine p_aload_n hx hb dL_law_429 rfl (lv_at hl 0 rfl) ?_
  refine lv_iload hx hb dL_law_430 (lv_at hl 4 rfl) ?_
  refine lv_iconst (v := 1) hx hb dL_law_432 (by decide) ?_
  refine lv_iadd hx hb dL_law_433 ?_
  obtain ⟨ht218, hf⟩ := hf
  obtain ⟨hi219, hf⟩ := hf
  refine p_iald X hP ht218 hi219 dL_law_434 ?_
  refine p_aload_n hx hb dL_law_435 rfl (lv_at hl 0 rfl) ?_
  refine lv_iload hx hb dL_law_436 (lv_at hl 4 rfl) ?_
  refine lv_iconst (v := 2) hx hb dL_law_438 (by decide) ?_
  refine lv_iadd hx hb dL_law_439 ?_
  obtain ⟨hi220, hf⟩ := hf
  refine p_iald X hP ht218 hi220 dL_law_440 ?_
  refine p_aload_n hx hb dL_law_441 rfl (lv_at hl 0 rfl) ?_
  refine lv_iload hx hb dL_law_442 (lv_at hl 4 rfl) ?_
  refine lv_iconst (v := 3) hx hb dL_law_444 (by decide) ?_
  refine lv_iadd hx hb dL_law_445 ?_
  obtain ⟨hi221, hf⟩ := hf
  refine p_iald X hP ht218 hi221 dL_law_446 ?_
  refine lv_i2l hx hb dL_law_447 rfl ?_
  refine lv_bipush (v := 32) hx hb dL_law_448 (by decide) ?_
  refine lv_lshl hx hb dL_law_450 rfl ?_
  refine p_aload_n hx hb dL_law_451 rfl (lv_at hl 0 rfl) ?_
  refine lv_iload hx hb dL_law_452 (lv_at hl 4 rfl) ?_
  refine lv_iconst (v := 4) hx hb dL_law_454 (by decide) ?_
  refine lv_iadd hx hb dL_law_455 ?_
  obtain ⟨hi222, hf⟩ := hf
  refine p_iald X hP ht218 hi222 dL_law_456 ?_
  refine lv_i2l hx hb dL_law_457 rfl ?_
  refine lv_ldc2 hx hb hown (hts _ q1702) dL_law_458 ?_
  refine lv_land hx hb dL_law_461 ?_
  refine lv_lor hx hb dL_law_462 ?_
  obtain ⟨ht223, hf⟩ := hf
  obtain ⟨mc224, ms225, hf⟩ := hf
  obtain ⟨hb226, hf⟩ := hf
  obtain ⟨hb227, hf⟩ := hf
  refine p_calli hL (p_runV X cf0_ (Pic_bu hP mc224 ms225) ht223 (metX1_rename l G _ _ _ _ _ _ _ _ X.2.2 hf) (cwV 3 hts (lw_V q786 q787 q788 q85 q789) rfl rfl rfl (by decide +kernel) ⟨Nat.le_trans (Nat.le_of_ble_eq_true rfl) hRf, Nat.le_trans (Nat.le_of_ble_eq_true rfl) hRl⟩) rfl hl.1 rfl (by decide) dL_law_463 (BU_call hB hb226 hb227)) (fun r228 σ229 H locs hf hP hL => ?_)
  have hB := BU_back (τ := σ229) hB hb226 hb227
  have hP := Pic_bu hP (bc_ σ - mc224) (bs_ σ - ms225)
  refine p_nmPB hP hB (fun σ230 hσ230 hP hB => ?_)
  have hf := hf σ230 hσ230
  have hf := hf (hSC _ _ hP)
  refine p_aload_n hx hb dL_law_466 rfl (lv_at hl 2 rfl) ?_
  refine p_aload_n hx hb dL_law_467 rfl (lv_at hl 0 rfl) ?_
  refine lv_iload hx hb dL_law_468 (lv_at hl 4 rfl) ?_
  refine lv_iconst (v := 1) hx hb dL_law_470 (by decide) ?_
  refine lv_iadd hx hb dL_law_471 ?_
  obtain ⟨ht231, hf⟩ := hf
  obtain ⟨hi232, hf⟩ := hf
  refine p_iald X hP ht231 hi232 dL_law_472 ?_
  refine p_aload_n hx hb dL_law_473 rfl (lv_at hl 0 rfl) ?_
  refine lv_iload hx hb dL_law_474 (lv_at hl 4 rfl) ?_
  refine lv_iconst (v := 2) hx hb dL_law_476 (by decide) ?_
  refine lv_iadd hx hb dL_law_477 ?_
  obtain ⟨hi233, hf⟩ := hf
  refine p_iald X hP ht231 hi233 dL_law_478 ?_
  refine p_aload_n hx hb dL_law_479 rfl (lv_at hl 0 rfl) ?_
  refine lv_iload hx hb dL_law_480 (lv_at hl 4 rfl) ?_
  refine lv_iconst (v := 3) hx hb dL_law_482 (by decide) ?_
  refine lv_iadd hx hb dL_law_483 ?_
  obtain ⟨hi234, hf⟩ := hf
  refine p_iald X hP ht231 hi234 dL_law_484 ?_
  refine lv_i2l hx hb dL_law_485 rfl ?_
  refine lv_bipush (v := 32) hx hb dL_law_486 (by decide) ?_
  refine lv_lshl hx hb dL_law_488 rfl ?_
  refine p_aload_n hx hb dL_law_489 rfl (lv_at hl 0 rfl) ?_
  refine lv_iload hx hb dL_law_490 (lv_at hl 4 rfl) ?_
  refine lv_iconst (v := 4) hx hb dL_law_492 (by decide) ?_
  refine lv_iadd hx hb dL_law_493 ?_
  obtain ⟨hi235, hf⟩ := hf
  refine p_iald X hP ht231 hi235 dL_law_494 ?_
  refine lv_i2l hx hb dL_law_495 rfl ?_
  refine lv_ldc2 hx hb hown (hts _ q1702) dL_law_496 ?_
  refine lv_land hx hb dL_law_499 ?_
  refine lv_lor hx hb dL_law_500 ?_
  obtain ⟨ht236, hf⟩ := hf
  refine p_calli hL (p_runV X cf8_ hP ht236 (metX9_rename l G _ _ _ _ _ _ X.2.2 hf) (cwV 3 hts (lw_V q1480 q1481 q1482 q106 q1483) rfl rfl rfl (by decide +kernel) ⟨Nat.le_trans (Nat.le_of_ble_eq_true rfl) hRf, Nat.le_trans (Nat.le_of_ble_eq_true rfl) hRl⟩) rfl hl.1 rfl (by rw [(ca_i ca_n)]; decide) dL_law_501 (BU_call hB (Nat.zero_le _) (Nat.zero_le _))) (fun r237 σ238 H locs hf hP hL => ?_)
  have hB := BU_keep (τ := σ238) hB
  have hP := Pic_bu hP (bc_ σ230) (bs_ σ230)
  refine p_nmPB hP hB (fun σ239 hσ239 hP hB => ?_)
  have hf := hf σ239 hσ239
  have hf := hf (hSC _ _ hP)
  refine lv_icmp_eq (tgt := 1000) hx hb dL_law_504 (by decide) (fun c240 => ?_) (fun c240 => ?_)
  · have hf := hf.1 c240
    exact sL_law_L1000 Y hrc33 hf _ _ _ _ _ hP hL hB (lv_sub hl [0, 1, 2, 3, 4] rfl)
  · have hf := hf.2 c240
    refine lv_iconst (v := 0) hx hb dL_law_507 (by decide) ?_
    exact p_zret X hlk hP hL (BU_le hB hRc).1 (BU_le hB hRc).2 hr nr_0 dL_law_508 hf
set_option maxHeartbeats 4000000 in
theorem sL_law_L403 {G : GG_} {p : Program} {l : Launch} {e : Env} {R : Room} {s : State} {m : MethodId} {args : Array Value} {below : List Frame} {meth : Method} {c : Code} {mc ms : Nat} {SC : Hp → Prop} (Y : (MX_ G p R s m args meth c cL_law 8 RX0 (some .boolean) 13 326 mc ms "law") ∧ l.flags = pinnedFlags ++ [noTraceFlag] ∧ ∀ σ H, Pic_ G σ H → SC σ) {post : Int32 → Hp → Prop} {rc33 : Int32 → Hp → Prop} {x0 : Nat} {x1 : Nat} {x2 : Nat} {x3 : Nat} {x4 : Int32} {σ : Hp} (hrc33 : ∀ (x4 : Int32) (σ : Hp), rc33 x4 σ → WG_ G p l e R s m args below meth c (MQ below (QI_ G post) args s mc ms (FR_ G)) (BU_ R) 8 33 [(0, rv_ x0), (1, rv_ x1), (2, rv_ x2), (3, rv_ x3), (4, .int x4)] [] σ) (hf : wL_law_L403 SC post rc33 x0 x1 x2 x3 x4 σ) : WG_ G p l e R s m args below meth c (MQ below (QI_ G post) args s mc ms (FR_ G)) (BU_ R) 8 403 [(0, rv_ x0), (1, rv_ x1), (2, rv_ x2), (3, rv_ x3), (4, .int x4)] [] σ := by
  have ⟨⟨X, hlk, hr, hRf, hRl, hRc, hnm⟩, hfl, hSC⟩ := Y
  have ⟨⟨hx, hb, _, hown, hts⟩, _, _⟩ := X
  intro H locs cells slots ls hP hL hB hl
  unfold wL_law_L403 at hf
  refine p_aload_n hx hb dL_law_403 rfl (lv_at hl 1 rfl) ?_
  refine p_aload_n hx hb dL_law_404 rfl (lv_at hl 0 rfl) ?_
  refine lv_iload hx hb dL_law_405 (lv_at hl 4 rfl) ?_
  refine lv_iconst (v := 1) hx hb dL_law_407 (by decide) ?_
  refine lv_iadd hx hb dL_law_408 ?_
  obtain ⟨ht241, hf⟩ := hf
  obtain ⟨hi242, hf⟩ := hf
  refine p_iald X hP ht241 hi242 dL_law_409 ?_
  obtain ⟨ht243, hf⟩ := hf
  refine p_calli hL (p_runV X cf0_ hP ht243 (metX1_remove l G _ _ _ _ X.2.2 hf) (cwV 1 hts (lw_V q768 q769 q770 q85 q771) rfl rfl rfl (by decide +kernel) ⟨Nat.le_trans (Nat.le_of_ble_eq_true rfl) hRf, Nat.le_trans (Nat.le_of_ble_eq_true rfl) hRl⟩) rfl hl.1 rfl (by decide) dL_law_410 (BU_call hB (Nat.zero_le _) (Nat.zero_le _))) (fun r244 σ245 H locs hf hP hL => ?_)
  have hB := BU_keep (τ := σ245) hB
  have hP := Pic_bu hP (bc_ σ) (bs_ σ)
  refine p_nmPB hP hB (fun σ246 hσ246 hP hB => ?_)
  have hf := hf σ246 hσ246
  have hf := hf (hSC _ _ hP)
  refine p_aload_n hx hb dL_law_413 rfl (lv_at hl 2 rfl) ?_
  refine p_aload_n hx hb dL_law_414 rfl (lv_at hl 0 rfl) ?_
  refine lv_iload hx hb dL_law_415 (lv_at hl 4 rfl) ?_
  refine lv_iconst (v := 1) hx hb dL_law_417 (by decide) ?_
  refine lv_iadd hx hb dL_law_418 ?_
  obtain ⟨ht247, hf⟩ := hf
  obtain ⟨hi248, hf⟩ := hf
  refine p_iald X hP ht247 hi248 dL_law_419 ?_
  obtain ⟨ht249, hf⟩ := hf
  refine p_calli hL (p_runV X cf8_ hP ht249 (metX9_remove l G _ _ _ _ X.2.2 hf) (cwV 1 hts (lw_V q1476 q1477 q1478 q106 q1479) rfl rfl rfl (by decide +kernel) ⟨Nat.le_trans (Nat.le_of_ble_eq_true rfl) hRf, Nat.le_trans (Nat.le_of_ble_eq_true rfl) hRl⟩) rfl hl.1 rfl (by rw [(ca_i ca_n)]; decide) dL_law_420 (BU_call hB (Nat.zero_le _) (Nat.zero_le _))) (fun r250 σ251 H locs hf hP hL => ?_)
  have hB := BU_keep (τ := σ251) hB
  have hP := Pic_bu hP (bc_ σ246) (bs_ σ246)
  refine p_nmPB hP hB (fun σ252 hσ252 hP hB => ?_)
  have hf := hf σ252 hσ252
  have hf := hf (hSC _ _ hP)
  refine lv_icmp_eq (tgt := 1000) hx hb dL_law_423 (by decide) (fun c253 => ?_) (fun c253 => ?_)
  · have hf := hf.1 c253
    exact sL_law_L1000 Y hrc33 hf _ _ _ _ _ hP hL hB (lv_sub hl [0, 1, 2, 3, 4] rfl)
  · have hf := hf.2 c253
    refine lv_iconst (v := 0) hx hb dL_law_426 (by decide) ?_
    exact p_zret X hlk hP hL (BU_le hB hRc).1 (BU_le hB hRc).2 hr nr_0 dL_law_427 hf
set_option maxHeartbeats 4000000 in
theorem sL_law_L354 {G : GG_} {p : Program} {l : Launch} {e : Env} {R : Room} {s : State} {m : MethodId} {args : Array Value} {below : List Frame} {meth : Method} {c : Code} {mc ms : Nat} {SC : Hp → Prop} (Y : (MX_ G p R s m args meth c cL_law 8 RX0 (some .boolean) 13 326 mc ms "law") ∧ l.flags = pinnedFlags ++ [noTraceFlag] ∧ ∀ σ H, Pic_ G σ H → SC σ) {post : Int32 → Hp → Prop} {rc33 : Int32 → Hp → Prop} {x0 : Nat} {x1 : Nat} {x2 : Nat} {x3 : Nat} {x4 : Int32} {σ : Hp} (hrc33 : ∀ (x4 : Int32) (σ : Hp), rc33 x4 σ → WG_ G p l e R s m args below meth c (MQ below (QI_ G post) args s mc ms (FR_ G)) (BU_ R) 8 33 [(0, rv_ x0), (1, rv_ x1), (2, rv_ x2), (3, rv_ x3), (4, .int x4)] [] σ) (hf : wL_law_L354 SC post rc33 x0 x1 x2 x3 x4 σ) : WG_ G p l e R s m args below meth c (MQ below (QI_ G post) args s mc ms (FR_ G)) (BU_ R) 8 354 [(0, rv_ x0), (1, rv_ x1), (2, rv_ x2), (3, rv_ x3), (4, .int x4)] [] σ := by
  have ⟨⟨X, hlk, hr, hRf, hRl, hRc, hnm⟩, hfl, hSC⟩ := Y
  have ⟨⟨hx, hb, _, hown, hts⟩, _, _⟩ := X
  intro H locs cells slots ls hP hL hB hl
  unfold wL_law_L354 at hf
  refine p_aload_n hx hb dL_law_354 rfl (lv_at hl 1 rfl) ?_
  refine p_aload_n hx hb dL_law_355 rfl (lv_at hl 0 rfl) ?_
  refine lv_iload hx hb dL_law_356 (lv_at hl 4 rfl) ?_
  refine lv_iconst (v := 1) hx hb dL_law_358 (by decide) ?_
  refine lv_iadd hx hb dL_law_359 ?_
  obtain ⟨ht254, hf⟩ := hf
  obtain ⟨hi255, hf⟩ := hf
  refine p_iald X hP ht254 hi255 dL_law_360 ?_
  refine p_aload_n hx hb dL_law_361 rfl (lv_at hl 0 rfl) ?_
  refine lv_iload hx hb dL_law_362 (lv_at hl 4 rfl) ?_
  refine lv_iconst (v := 2) hx hb dL_law_364 (by decide) ?_
  refine lv_iadd hx hb dL_law_365 ?_
  obtain ⟨hi256, hf⟩ := hf
  refine p_iald X hP ht254 hi256 dL_law_366 ?_
  refine p_aload_n hx hb dL_law_367 rfl (lv_at hl 0 rfl) ?_
  refine lv_iload hx hb dL_law_368 (lv_at hl 4 rfl) ?_
  refine lv_iconst (v := 3) hx hb dL_law_370 (by decide) ?_
  refine lv_iadd hx hb dL_law_371 ?_
  obtain ⟨hi257, hf⟩ := hf
  refine p_iald X hP ht254 hi257 dL_law_372 ?_
  obtain ⟨ht258, hf⟩ := hf
  refine p_calli hL (p_runV X cf0_ hP ht258 (metX1_replace l G _ _ _ _ _ _ X.2.2 hf) (cwV 3 hts (lw_V q764 q765 q766 q85 q767) rfl rfl rfl (by decide +kernel) ⟨Nat.le_trans (Nat.le_of_ble_eq_true rfl) hRf, Nat.le_trans (Nat.le_of_ble_eq_true rfl) hRl⟩) rfl hl.1 rfl (by decide) dL_law_373 (BU_call hB (Nat.zero_le _) (Nat.zero_le _))) (fun r259 σ260 H locs hf hP hL => ?_)
  have hB := BU_keep (τ := σ260) hB
  have hP := Pic_bu hP (bc_ σ) (bs_ σ)
  refine p_nmPB hP hB (fun σ261 hσ261 hP hB => ?_)
  have hf := hf σ261 hσ261
  have hf := hf (hSC _ _ hP)
  refine p_aload_n hx hb dL_law_376 rfl (lv_at hl 2 rfl) ?_
  refine p_aload_n hx hb dL_law_377 rfl (lv_at hl 0 rfl) ?_
  refine lv_iload hx hb dL_law_378 (lv_at hl 4 rfl) ?_
  refine lv_iconst (v := 1) hx hb dL_law_380 (by decide) ?_
  refine lv_iadd hx hb dL_law_381 ?_
  obtain ⟨ht262, hf⟩ := hf
  obtain ⟨hi263, hf⟩ := hf
  refine p_iald X hP ht262 hi263 dL_law_382 ?_
  refine p_aload_n hx hb dL_law_383 rfl (lv_at hl 0 rfl) ?_
  refine lv_iload hx hb dL_law_384 (lv_at hl 4 rfl) ?_
  refine lv_iconst (v := 2) hx hb dL_law_386 (by decide) ?_
  refine lv_iadd hx hb dL_law_387 ?_
  obtain ⟨hi264, hf⟩ := hf
  refine p_iald X hP ht262 hi264 dL_law_388 ?_
  refine p_aload_n hx hb dL_law_389 rfl (lv_at hl 0 rfl) ?_
  refine lv_iload hx hb dL_law_390 (lv_at hl 4 rfl) ?_
  refine lv_iconst (v := 3) hx hb dL_law_392 (by decide) ?_
  refine lv_iadd hx hb dL_law_393 ?_
  obtain ⟨hi265, hf⟩ := hf
  refine p_iald X hP ht262 hi265 dL_law_394 ?_
  obtain ⟨ht266, hf⟩ := hf
  refine p_calli hL (p_runV X cf8_ hP ht266 (metX9_replace l G _ _ _ _ _ _ X.2.2 hf) (cwV 3 hts (lw_V q1472 q1473 q1474 q106 q1475) rfl rfl rfl (by decide +kernel) ⟨Nat.le_trans (Nat.le_of_ble_eq_true rfl) hRf, Nat.le_trans (Nat.le_of_ble_eq_true rfl) hRl⟩) rfl hl.1 rfl (by rw [(ca_i ca_n)]; decide) dL_law_395 (BU_call hB (Nat.zero_le _) (Nat.zero_le _))) (fun r267 σ268 H locs hf hP hL => ?_)
  have hB := BU_keep (τ := σ268) hB
  have hP := Pic_bu hP (bc_ σ261) (bs_ σ261)
  refine p_nmPB hP hB (fun σ269 hσ269 hP hB => ?_)
  have hf := hf σ269 hσ269
  have hf := hf (hSC _ _ hP)
  refine lv_icmp_eq (tgt := 1000) hx hb dL_law_398 (by decide) (fun c270 => ?_) (fun c270 => ?_)
  · have hf := hf.1 c270
    exact sL_law_L1000 Y hrc33 hf _ _ _ _ _ hP hL hB (lv_sub hl [0, 1, 2, 3, 4] rfl)
  · have hf := hf.2 c270
    refine lv_iconst (v := 0) hx hb dL_law_401 (by decide) ?_
    exact p_zret X hlk hP hL (BU_le hB hRc).1 (BU_le hB hRc).2 hr nr_0 dL_law_402 hf
set_option maxHeartbeats 4000000 in
theorem sL_law_L261 {G : GG_} {p : Program} {l : Launch} {e : Env} {R : Room} {s : State} {m : MethodId} {args : Array Value} {below : List Frame} {meth : Method} {c : Code} {mc ms : Nat} {SC : Hp → Prop} (Y : (MX_ G p R s m args meth c cL_law 8 RX0 (some .boolean) 13 326 mc ms "law") ∧ l.flags = pinnedFlags ++ [noTraceFlag] ∧ ∀ σ H, Pic_ G σ H → SC σ) {post : Int32 → Hp → Prop} {rc33 : Int32 → Hp → Prop} {x0 : Nat} {x1 : Nat} {x2 : Nat} {x3 : Nat} {x4 : Int32} {σ : Hp} (hrc33 : ∀ (x4 : Int32) (σ : Hp), rc33 x4 σ → WG_ G p l e R s m args below meth c (MQ below (QI_ G post) args s mc ms (FR_ G)) (BU_ R) 8 33 [(0, rv_ x0), (1, rv_ x1), (2, rv_ x2), (3, rv_ x3), (4, .int x4)] [] σ) (hf : wL_law_L261 SC post rc33 x0 x1 x2 x3 x4 σ) : WG_ G p l e R s m args below meth c (MQ below (QI_ G post) args s mc ms (FR_ G)) (BU_ R) 8 261 [(0, rv_ x0), (1, rv_ x1), (2, rv_ x2), (3, rv_ x3), (4, .int x4)] [] σ := by
  have ⟨⟨X, hlk, hr, hRf, hRl, hRc, hnm⟩, hfl, hSC⟩ := Y
  have ⟨⟨hx, hb, _, hown, hts⟩, _, _⟩ := X
  intro H locs cells slots ls hP hL hB hl
  unfold wL_law_L261 at hf
  refine p_aload_n hx hb dL_law_261 rfl (lv_at hl 1 rfl) ?_
  refine p_aload_n hx hb dL_law_262 rfl (lv_at hl 0 rfl) ?_
  refine lv_iload hx hb dL_law_263 (lv_at hl 4 rfl) ?_
  refine lv_iconst (v := 1) hx hb dL_law_265 (by decide) ?_
  refine lv_iadd hx hb dL_law_266 ?_
  obtain ⟨ht271, hf⟩ := hf
  obtain ⟨hi272, hf⟩ := hf
  refine p_iald X hP ht271 hi272 dL_law_267 ?_
  refine p_aload_n hx hb dL_law_268 rfl (lv_at hl 0 rfl) ?_
  refine lv_iload hx hb dL_law_269 (lv_at hl 4 rfl) ?_
  refine lv_iconst (v := 2) hx hb dL_law_271 (by decide) ?_
  refine lv_iadd hx hb dL_law_272 ?_
  obtain ⟨hi273, hf⟩ := hf
  refine p_iald X hP ht271 hi273 dL_law_273 ?_
  refine lv_i2l hx hb dL_law_274 rfl ?_
  refine lv_bipush (v := 32) hx hb dL_law_275 (by decide) ?_
  refine lv_lshl hx hb dL_law_277 rfl ?_
  refine p_aload_n hx hb dL_law_278 rfl (lv_at hl 0 rfl) ?_
  refine lv_iload hx hb dL_law_279 (lv_at hl 4 rfl) ?_
  refine lv_iconst (v := 3) hx hb dL_law_281 (by decide) ?_
  refine lv_iadd hx hb dL_law_282 ?_
  obtain ⟨hi274, hf⟩ := hf
  refine p_iald X hP ht271 hi274 dL_law_283 ?_
  refine lv_i2l hx hb dL_law_284 rfl ?_
  refine lv_ldc2 hx hb hown (hts _ q1702) dL_law_285 ?_
  refine lv_land hx hb dL_law_288 ?_
  refine lv_lor hx hb dL_law_289 ?_
  refine p_aload_n hx hb dL_law_290 rfl (lv_at hl 0 rfl) ?_
  refine lv_iload hx hb dL_law_291 (lv_at hl 4 rfl) ?_
  refine lv_iconst (v := 4) hx hb dL_law_293 (by decide) ?_
  refine lv_iadd hx hb dL_law_294 ?_
  obtain ⟨hi275, hf⟩ := hf
  refine p_iald X hP ht271 hi275 dL_law_295 ?_
  refine p_aload_n hx hb dL_law_296 rfl (lv_at hl 0 rfl) ?_
  refine lv_iload hx hb dL_law_297 (lv_at hl 4 rfl) ?_
  refine lv_iconst (v := 5) hx hb dL_law_299 (by decide) ?_
  refine lv_iadd hx hb dL_law_300 ?_
  obtain ⟨hi276, hf⟩ := hf
  refine p_iald X hP ht271 hi276 dL_law_301 ?_
  obtain ⟨ht277, hf⟩ := hf
  obtain ⟨mc278, ms279, hf⟩ := hf
  obtain ⟨hb280, hf⟩ := hf
  obtain ⟨hb281, hf⟩ := hf
  refine p_calli hL (p_runV X cf0_ (Pic_bu hP mc278 ms279) ht277 (metX1_file l G _ _ _ _ _ _ _ _ _ X.2.2 hf) (cwV 4 hts (lw_V q757 q758 q759 q85 q760) rfl rfl rfl (by decide +kernel) ⟨Nat.le_trans (Nat.le_of_ble_eq_true rfl) hRf, Nat.le_trans (Nat.le_of_ble_eq_true rfl) hRl⟩) rfl hl.1 rfl (by decide) dL_law_302 (BU_call hB hb280 hb281)) (fun r282 σ283 H locs hf hP hL => ?_)
  have hB := BU_back (τ := σ283) hB hb280 hb281
  have hP := Pic_bu hP (bc_ σ - mc278) (bs_ σ - ms279)
  refine p_nmPB hP hB (fun σ284 hσ284 hP hB => ?_)
  have hf := hf σ284 hσ284
  have hf := hf (hSC _ _ hP)
  refine p_aload_n hx hb dL_law_305 rfl (lv_at hl 2 rfl) ?_
  refine p_aload_n hx hb dL_law_306 rfl (lv_at hl 0 rfl) ?_
  refine lv_iload hx hb dL_law_307 (lv_at hl 4 rfl) ?_
  refine lv_iconst (v := 1) hx hb dL_law_309 (by decide) ?_
  refine lv_iadd hx hb dL_law_310 ?_
  obtain ⟨ht285, hf⟩ := hf
  obtain ⟨hi286, hf⟩ := hf
  refine p_iald X hP ht285 hi286 dL_law_311 ?_
  refine p_aload_n hx hb dL_law_312 rfl (lv_at hl 0 rfl) ?_
  refine lv_iload hx hb dL_law_313 (lv_at hl 4 rfl) ?_
  refine lv_iconst (v := 2) hx hb dL_law_315 (by decide) ?_
  refine lv_iadd hx hb dL_law_316 ?_
  obtain ⟨hi287, hf⟩ := hf
  refine p_iald X hP ht285 hi287 dL_law_317 ?_
  refine lv_i2l hx hb dL_law_318 rfl ?_
  refine lv_bipush (v := 32) hx hb dL_law_319 (by decide) ?_
  refine lv_lshl hx hb dL_law_321 rfl ?_
  refine p_aload_n hx hb dL_law_322 rfl (lv_at hl 0 rfl) ?_
  refine lv_iload hx hb dL_law_323 (lv_at hl 4 rfl) ?_
  refine lv_iconst (v := 3) hx hb dL_law_325 (by decide) ?_
  refine lv_iadd hx hb dL_law_326 ?_
  obtain ⟨hi288, hf⟩ := hf
  refine p_iald X hP ht285 hi288 dL_law_327 ?_
  refine lv_i2l hx hb dL_law_328 rfl ?_
  refine lv_ldc2 hx hb hown (hts _ q1702) dL_law_329 ?_
  refine lv_land hx hb dL_law_332 ?_
  refine lv_lor hx hb dL_law_333 ?_
  refine p_aload_n hx hb dL_law_334 rfl (lv_at hl 0 rfl) ?_
  refine lv_iload hx hb dL_law_335 (lv_at hl 4 rfl) ?_
  refine lv_iconst (v := 4) hx hb dL_law_337 (by decide) ?_
  refine lv_iadd hx hb dL_law_338 ?_
  obtain ⟨hi289, hf⟩ := hf
  refine p_iald X hP ht285 hi289 dL_law_339 ?_
  refine p_aload_n hx hb dL_law_340 rfl (lv_at hl 0 rfl) ?_
  refine lv_iload hx hb dL_law_341 (lv_at hl 4 rfl) ?_
  refine lv_iconst (v := 5) hx hb dL_law_343 (by decide) ?_
  refine lv_iadd hx hb dL_law_344 ?_
  obtain ⟨hi290, hf⟩ := hf
  refine p_iald X hP ht285 hi290 dL_law_345 ?_
  obtain ⟨ht291, hf⟩ := hf
  refine p_calli hL (p_runV X cf8_ hP ht291 (metX9_file l G _ _ _ _ _ _ _ X.2.2 hf) (cwV 4 hts (lw_V q1465 q1466 q1467 q106 q1468) rfl rfl rfl (by decide +kernel) ⟨Nat.le_trans (Nat.le_of_ble_eq_true rfl) hRf, Nat.le_trans (Nat.le_of_ble_eq_true rfl) hRl⟩) rfl hl.1 rfl (by rw [(ca_i ca_n)]; decide) dL_law_346 (BU_call hB (Nat.zero_le _) (Nat.zero_le _))) (fun r292 σ293 H locs hf hP hL => ?_)
  have hB := BU_keep (τ := σ293) hB
  have hP := Pic_bu hP (bc_ σ284) (bs_ σ284)
  refine p_nmPB hP hB (fun σ294 hσ294 hP hB => ?_)
  have hf := hf σ294 hσ294
  have hf := hf (hSC _ _ hP)
  refine lv_icmp_eq (tgt := 1000) hx hb dL_law_349 (by decide) (fun c295 => ?_) (fun c295 => ?_)
  · have hf := hf.1 c295
    exact sL_law_L1000 Y hrc33 hf _ _ _ _ _ hP hL hB (lv_sub hl [0, 1, 2, 3, 4] rfl)
  · have hf := hf.2 c295
    refine lv_iconst (v := 0) hx hb dL_law_352 (by decide) ?_
    exact p_zret X hlk hP hL (BU_le hB hRc).1 (BU_le hB hRc).2 hr nr_0 dL_law_353 hf
set_option maxHeartbeats 4000000 in
theorem sL_law_L192 {G : GG_} {p : Program} {l : Launch} {e : Env} {R : Room} {s : State} {m : MethodId} {args : Array Value} {below : List Frame} {meth : Method} {c : Code} {mc ms : Nat} {SC : Hp → Prop} (Y : (MX_ G p R s m args meth c cL_law 8 RX0 (some .boolean) 13 326 mc ms "law") ∧ l.flags = pinnedFlags ++ [noTraceFlag] ∧ ∀ σ H, Pic_ G σ H → SC σ) {post : Int32 → Hp → Prop} {rc33 : Int32 → Hp → Prop} {x0 : Nat} {x1 : Nat} {x2 : Nat} {x3 : Nat} {x4 : Int32} {σ : Hp} (hrc33 : ∀ (x4 : Int32) (σ : Hp), rc33 x4 σ → WG_ G p l e R s m args below meth c (MQ below (QI_ G post) args s mc ms (FR_ G)) (BU_ R) 8 33 [(0, rv_ x0), (1, rv_ x1), (2, rv_ x2), (3, rv_ x3), (4, .int x4)] [] σ) (hf : wL_law_L192 SC post rc33 x0 x1 x2 x3 x4 σ) : WG_ G p l e R s m args below meth c (MQ below (QI_ G post) args s mc ms (FR_ G)) (BU_ R) 8 192 [(0, rv_ x0), (1, rv_ x1), (2, rv_ x2), (3, rv_ x3), (4, .int x4)] [] σ := by
  have ⟨⟨X, hlk, hr, hRf, hRl, hRc, hnm⟩, hfl, hSC⟩ := Y
  have ⟨⟨hx, hb, _, hown, hts⟩, _, _⟩ := X
  intro H locs cells slots ls hP hL hB hl
  unfold wL_law_L192 at hf
  refine p_aload_n hx hb dL_law_192 rfl (lv_at hl 1 rfl) ?_
  refine p_aload_n hx hb dL_law_193 rfl (lv_at hl 0 rfl) ?_
  refine lv_iload hx hb dL_law_194 (lv_at hl 4 rfl) ?_
  refine lv_iconst (v := 1) hx hb dL_law_196 (by decide) ?_
  refine lv_iadd hx hb dL_law_197 ?_
  obtain ⟨ht296, hf⟩ := hf
  obtain ⟨hi297, hf⟩ := hf
  refine p_iald X hP ht296 hi297 dL_law_198 ?_
  refine p_aload_n hx hb dL_law_199 rfl (lv_at hl 0 rfl) ?_
  refine lv_iload hx hb dL_law_200 (lv_at hl 4 rfl) ?_
  refine lv_iconst (v := 2) hx hb dL_law_202 (by decide) ?_
  refine lv_iadd hx hb dL_law_203 ?_
  obtain ⟨hi298, hf⟩ := hf
  refine p_iald X hP ht296 hi298 dL_law_204 ?_
  refine lv_i2l hx hb dL_law_205 rfl ?_
  refine lv_bipush (v := 32) hx hb dL_law_206 (by decide) ?_
  refine lv_lshl hx hb dL_law_208 rfl ?_
  refine p_aload_n hx hb dL_law_209 rfl (lv_at hl 0 rfl) ?_
  refine lv_iload hx hb dL_law_210 (lv_at hl 4 rfl) ?_
  refine lv_iconst (v := 3) hx hb dL_law_212 (by decide) ?_
  refine lv_iadd hx hb dL_law_213 ?_
  obtain ⟨hi299, hf⟩ := hf
  refine p_iald X hP ht296 hi299 dL_law_214 ?_
  refine lv_i2l hx hb dL_law_215 rfl ?_
  refine lv_ldc2 hx hb hown (hts _ q1702) dL_law_216 ?_
  refine lv_land hx hb dL_law_219 ?_
  refine lv_lor hx hb dL_law_220 ?_
  obtain ⟨ht300, hf⟩ := hf
  obtain ⟨mc301, ms302, hf⟩ := hf
  obtain ⟨hb303, hf⟩ := hf
  obtain ⟨hb304, hf⟩ := hf
  refine p_calli hL (p_runV X cf0_ (Pic_bu hP mc301 ms302) ht300 (metX1_directory l G _ _ _ _ _ _ _ X.2.2 hf) (cwV 2 hts (lw_V q671 q672 q673 q85 q674) rfl rfl rfl (by decide +kernel) ⟨Nat.le_trans (Nat.le_of_ble_eq_true rfl) hRf, Nat.le_trans (Nat.le_of_ble_eq_true rfl) hRl⟩) rfl hl.1 rfl (by decide) dL_law_221 (BU_call hB hb303 hb304)) (fun r305 σ306 H locs hf hP hL => ?_)
  have hB := BU_back (τ := σ306) hB hb303 hb304
  have hP := Pic_bu hP (bc_ σ - mc301) (bs_ σ - ms302)
  refine p_nmPB hP hB (fun σ307 hσ307 hP hB => ?_)
  have hf := hf σ307 hσ307
  have hf := hf (hSC _ _ hP)
  refine p_aload_n hx hb dL_law_224 rfl (lv_at hl 2 rfl) ?_
  refine p_aload_n hx hb dL_law_225 rfl (lv_at hl 0 rfl) ?_
  refine lv_iload hx hb dL_law_226 (lv_at hl 4 rfl) ?_
  refine lv_iconst (v := 1) hx hb dL_law_228 (by decide) ?_
  refine lv_iadd hx hb dL_law_229 ?_
  obtain ⟨ht308, hf⟩ := hf
  obtain ⟨hi309, hf⟩ := hf
  refine p_iald X hP ht308 hi309 dL_law_230 ?_
  refine p_aload_n hx hb dL_law_231 rfl (lv_at hl 0 rfl) ?_
  refine lv_iload hx hb dL_law_232 (lv_at hl 4 rfl) ?_
  refine lv_iconst (v := 2) hx hb dL_law_234 (by decide) ?_
  refine lv_iadd hx hb dL_law_235 ?_
  obtain ⟨hi310, hf⟩ := hf
  refine p_iald X hP ht308 hi310 dL_law_236 ?_
  refine lv_i2l hx hb dL_law_237 rfl ?_
  refine lv_bipush (v := 32) hx hb dL_law_238 (by decide) ?_
  refine lv_lshl hx hb dL_law_240 rfl ?_
  refine p_aload_n hx hb dL_law_241 rfl (lv_at hl 0 rfl) ?_
  refine lv_iload hx hb dL_law_242 (lv_at hl 4 rfl) ?_
  refine lv_iconst (v := 3) hx hb dL_law_244 (by decide) ?_
  refine lv_iadd hx hb dL_law_245 ?_
  obtain ⟨hi311, hf⟩ := hf
  refine p_iald X hP ht308 hi311 dL_law_246 ?_
  refine lv_i2l hx hb dL_law_247 rfl ?_
  refine lv_ldc2 hx hb hown (hts _ q1702) dL_law_248 ?_
  refine lv_land hx hb dL_law_251 ?_
  refine lv_lor hx hb dL_law_252 ?_
  obtain ⟨ht312, hf⟩ := hf
  refine p_calli hL (p_runV X cf8_ hP ht312 (metX9_directory l G _ _ _ _ _ X.2.2 hf) (cwV 2 hts (lw_V q1434 q1435 q1436 q106 q1437) rfl rfl rfl (by decide +kernel) ⟨Nat.le_trans (Nat.le_of_ble_eq_true rfl) hRf, Nat.le_trans (Nat.le_of_ble_eq_true rfl) hRl⟩) rfl hl.1 rfl (by rw [(ca_i ca_n)]; decide) dL_law_253 (BU_call hB (Nat.zero_le _) (Nat.zero_le _))) (fun r313 σ314 H locs hf hP hL => ?_)
  have hB := BU_keep (τ := σ314) hB
  have hP := Pic_bu hP (bc_ σ307) (bs_ σ307)
  refine p_nmPB hP hB (fun σ315 hσ315 hP hB => ?_)
  have hf := hf σ315 hσ315
  have hf := hf (hSC _ _ hP)
  refine lv_icmp_eq (tgt := 1000) hx hb dL_law_256 (by decide) (fun c316 => ?_) (fun c316 => ?_)
  · have hf := hf.1 c316
    exact sL_law_L1000 Y hrc33 hf _ _ _ _ _ hP hL hB (lv_sub hl [0, 1, 2, 3, 4] rfl)
  · have hf := hf.2 c316
    refine lv_iconst (v := 0) hx hb dL_law_259 (by decide) ?_
    exact p_zret X hlk hP hL (BU_le hB hRc).1 (BU_le hB hRc).2 hr nr_0 dL_law_260 hf
set_option maxHeartbeats 4000000 in
theorem sL_law_L169 {G : GG_} {p : Program} {l : Launch} {e : Env} {R : Room} {s : State} {m : MethodId} {args : Array Value} {below : List Frame} {meth : Method} {c : Code} {mc ms : Nat} {SC : Hp → Prop} (Y : (MX_ G p R s m args meth c cL_law 8 RX0 (some .boolean) 13 326 mc ms "law") ∧ l.flags = pinnedFlags ++ [noTraceFlag] ∧ ∀ σ H, Pic_ G σ H → SC σ) {post : Int32 → Hp → Prop} {rc33 : Int32 → Hp → Prop} {x0 : Nat} {x1 : Nat} {x2 : Nat} {x3 : Nat} {x4 : Int32} {σ : Hp} (hrc33 : ∀ (x4 : Int32) (σ : Hp), rc33 x4 σ → WG_ G p l e R s m args below meth c (MQ below (QI_ G post) args s mc ms (FR_ G)) (BU_ R) 8 33 [(0, rv_ x0), (1, rv_ x1), (2, rv_ x2), (3, rv_ x3), (4, .int x4)] [] σ) (hf : wL_law_L169 SC post rc33 x0 x1 x2 x3 x4 σ) : WG_ G p l e R s m args below meth c (MQ below (QI_ G post) args s mc ms (FR_ G)) (BU_ R) 8 169 [(0, rv_ x0), (1, rv_ x1), (2, rv_ x2), (3, rv_ x3), (4, .int x4)] [] σ := by
  have ⟨⟨X, hlk, hr, hRf, hRl, hRc, hnm⟩, hfl, hSC⟩ := Y
  have ⟨⟨hx, hb, _, hown, hts⟩, _, _⟩ := X
  intro H locs cells slots ls hP hL hB hl
  unfold wL_law_L169 at hf
  refine p_aload_n hx hb dL_law_169 rfl (lv_at hl 1 rfl) ?_
  refine p_aload_n hx hb dL_law_170 rfl (lv_at hl 0 rfl) ?_
  refine lv_iload hx hb dL_law_171 (lv_at hl 4 rfl) ?_
  refine lv_iconst (v := 1) hx hb dL_law_173 (by decide) ?_
  refine lv_iadd hx hb dL_law_174 ?_
  obtain ⟨ht317, hf⟩ := hf
  obtain ⟨hi318, hf⟩ := hf
  refine p_iald X hP ht317 hi318 dL_law_175 ?_
  obtain ⟨ht319, hf⟩ := hf
  refine p_callv hL (p_runV X cf0_ hP ht319 (metX1_power l G _ _ _ _ X.2.2 hf) (cwV 1 hts (lw_V q667 q668 q669 q85 q670) rfl rfl rfl (by decide +kernel) ⟨Nat.le_trans (Nat.le_of_ble_eq_true rfl) hRf, Nat.le_trans (Nat.le_of_ble_eq_true rfl) hRl⟩) rfl hl.1 rfl (by decide) dL_law_176 (BU_call hB (Nat.zero_le _) (Nat.zero_le _))) (fun σ320 H locs hf hP hL => ?_)
  have hB := BU_keep (τ := σ320) hB
  have hP := Pic_bu hP (bc_ σ) (bs_ σ)
  refine p_nmPB hP hB (fun σ321 hσ321 hP hB => ?_)
  have hf := hf σ321 hσ321
  have hf := hf (hSC _ _ hP)
  refine p_aload_n hx hb dL_law_179 rfl (lv_at hl 2 rfl) ?_
  refine p_aload_n hx hb dL_law_180 rfl (lv_at hl 0 rfl) ?_
  refine lv_iload hx hb dL_law_181 (lv_at hl 4 rfl) ?_
  refine lv_iconst (v := 1) hx hb dL_law_183 (by decide) ?_
  refine lv_iadd hx hb dL_law_184 ?_
  obtain ⟨ht322, hf⟩ := hf
  obtain ⟨hi323, hf⟩ := hf
  refine p_iald X hP ht322 hi323 dL_law_185 ?_
  obtain ⟨ht324, hf⟩ := hf
  refine p_callv hL (p_runV X cf8_ hP ht324 (metX9_power l G _ _ _ _ X.2.2 hf) (cwV 1 hts (lw_V q1430 q1431 q1432 q106 q1433) rfl rfl rfl (by decide +kernel) ⟨Nat.le_trans (Nat.le_of_ble_eq_true rfl) hRf, Nat.le_trans (Nat.le_of_ble_eq_true rfl) hRl⟩) rfl hl.1 rfl (by decide) dL_law_186 (BU_call hB (Nat.zero_le _) (Nat.zero_le _))) (fun σ325 H locs hf hP hL => ?_)
  have hB := BU_keep (τ := σ325) hB
  have hP := Pic_bu hP (bc_ σ321) (bs_ σ321)
  refine p_nmPB hP hB (fun σ326 hσ326 hP hB => ?_)
  have hf := hf σ326 hσ326
  have hf := hf (hSC _ _ hP)
  refine lv_goto (tgt := 1000) hx hb dL_law_189 (by decide) ?_
  exact sL_law_L1000 Y hrc33 hf _ _ _ _ _ hP hL hB (lv_sub hl [0, 1, 2, 3, 4] rfl)
set_option maxHeartbeats 4000000 in
theorem sL_law_L144 {G : GG_} {p : Program} {l : Launch} {e : Env} {R : Room} {s : State} {m : MethodId} {args : Array Value} {below : List Frame} {meth : Method} {c : Code} {mc ms : Nat} {SC : Hp → Prop} (Y : (MX_ G p R s m args meth c cL_law 8 RX0 (some .boolean) 13 326 mc ms "law") ∧ l.flags = pinnedFlags ++ [noTraceFlag] ∧ ∀ σ H, Pic_ G σ H → SC σ) {post : Int32 → Hp → Prop} {rc33 : Int32 → Hp → Prop} {x0 : Nat} {x1 : Nat} {x2 : Nat} {x3 : Nat} {x4 : Int32} {σ : Hp} (hrc33 : ∀ (x4 : Int32) (σ : Hp), rc33 x4 σ → WG_ G p l e R s m args below meth c (MQ below (QI_ G post) args s mc ms (FR_ G)) (BU_ R) 8 33 [(0, rv_ x0), (1, rv_ x1), (2, rv_ x2), (3, rv_ x3), (4, .int x4)] [] σ) (hf : wL_law_L144 SC post rc33 x0 x1 x2 x3 x4 σ) : WG_ G p l e R s m args below meth c (MQ below (QI_ G post) args s mc ms (FR_ G)) (BU_ R) 8 144 [(0, rv_ x0), (1, rv_ x1), (2, rv_ x2), (3, rv_ x3), (4, .int x4)] [] σ := by
  have ⟨⟨X, hlk, hr, hRf, hRl, hRc, hnm⟩, hfl, hSC⟩ := Y
  have ⟨⟨hx, hb, _, hown, hts⟩, _, _⟩ := X
  intro H locs cells slots ls hP hL hB hl
  unfold wL_law_L144 at hf
  refine p_aload_n hx hb dL_law_144 rfl (lv_at hl 1 rfl) ?_
  refine p_aload_n hx hb dL_law_145 rfl (lv_at hl 0 rfl) ?_
  refine lv_iload hx hb dL_law_146 (lv_at hl 4 rfl) ?_
  refine lv_iconst (v := 1) hx hb dL_law_148 (by decide) ?_
  refine lv_iadd hx hb dL_law_149 ?_
  obtain ⟨ht327, hf⟩ := hf
  obtain ⟨hi328, hf⟩ := hf
  refine p_iald X hP ht327 hi328 dL_law_150 ?_
  obtain ⟨ht329, hf⟩ := hf
  refine p_calli hL (p_runV X cf0_ hP ht329 (metX1_defect l G _ _ _ _ X.2.2 hf) (cwV 1 hts (lw_V q660 q661 q662 q85 q663) rfl rfl rfl (by decide +kernel) ⟨Nat.le_trans (Nat.le_of_ble_eq_true rfl) hRf, Nat.le_trans (Nat.le_of_ble_eq_true rfl) hRl⟩) rfl hl.1 rfl (by decide) dL_law_151 (BU_call hB (Nat.zero_le _) (Nat.zero_le _))) (fun r330 σ331 H locs hf hP hL => ?_)
  have hB := BU_keep (τ := σ331) hB
  have hP := Pic_bu hP (bc_ σ) (bs_ σ)
  refine p_nmPB hP hB (fun σ332 hσ332 hP hB => ?_)
  have hf := hf σ332 hσ332
  have hf := hf (hSC _ _ hP)
  refine p_aload_n hx hb dL_law_154 rfl (lv_at hl 2 rfl) ?_
  refine p_aload_n hx hb dL_law_155 rfl (lv_at hl 0 rfl) ?_
  refine lv_iload hx hb dL_law_156 (lv_at hl 4 rfl) ?_
  refine lv_iconst (v := 1) hx hb dL_law_158 (by decide) ?_
  refine lv_iadd hx hb dL_law_159 ?_
  obtain ⟨ht333, hf⟩ := hf
  obtain ⟨hi334, hf⟩ := hf
  refine p_iald X hP ht333 hi334 dL_law_160 ?_
  obtain ⟨ht335, hf⟩ := hf
  refine p_calli hL (p_runV X cf8_ hP ht335 (metX9_defect l G _ _ _ _ X.2.2 hf) (cwV 1 hts (lw_V q1423 q1424 q1425 q106 q1426) rfl rfl rfl (by decide +kernel) ⟨Nat.le_trans (Nat.le_of_ble_eq_true rfl) hRf, Nat.le_trans (Nat.le_of_ble_eq_true rfl) hRl⟩) rfl hl.1 rfl (by rw [(ca_i ca_n)]; decide) dL_law_161 (BU_call hB (Nat.zero_le _) (Nat.zero_le _))) (fun r336 σ337 H locs hf hP hL => ?_)
  have hB := BU_keep (τ := σ337) hB
  have hP := Pic_bu hP (bc_ σ332) (bs_ σ332)
  refine p_nmPB hP hB (fun σ338 hσ338 hP hB => ?_)
  have hf := hf σ338 hσ338
  have hf := hf (hSC _ _ hP)
  refine lv_icmp_eq (tgt := 1000) hx hb dL_law_164 (by decide) (fun c339 => ?_) (fun c339 => ?_)
  · have hf := hf.1 c339
    exact sL_law_L1000 Y hrc33 hf _ _ _ _ _ hP hL hB (lv_sub hl [0, 1, 2, 3, 4] rfl)
  · have hf := hf.2 c339
    refine lv_iconst (v := 0) hx hb dL_law_167 (by decide) ?_
    exact p_zret X hlk hP hL (BU_le hB hRc).1 (BU_le hB hRc).2 hr nr_0 dL_law_168 hf
set_option maxHeartbeats 4000000 in
theorem sL_law_B33 {G : GG_} {p : Program} {l : Launch} {e : Env} {R : Room} {s : State} {m : MethodId} {args : Array Value} {below : List Frame} {meth : Method} {c : Code} {mc ms : Nat} {SC : Hp → Prop} (Y : (MX_ G p R s m args meth c cL_law 8 RX0 (some .boolean) 13 326 mc ms "law") ∧ l.flags = pinnedFlags ++ [noTraceFlag] ∧ ∀ σ H, Pic_ G σ H → SC σ) {post : Int32 → Hp → Prop} {rc33 : Int32 → Hp → Prop} {x0 : Nat} {x1 : Nat} {x2 : Nat} {x3 : Nat} {x4 : Int32} {σ : Hp} (hrc33 : ∀ (x4 : Int32) (σ : Hp), rc33 x4 σ → WG_ G p l e R s m args below meth c (MQ below (QI_ G post) args s mc ms (FR_ G)) (BU_ R) 8 33 [(0, rv_ x0), (1, rv_ x1), (2, rv_ x2), (3, rv_ x3), (4, .int x4)] [] σ) (hf : wL_law_B33 SC post rc33 x0 x1 x2 x3 x4 σ) : WG_ G p l e R s m args below meth c (MQ below (QI_ G post) args s mc ms (FR_ G)) (BU_ R) 8 33 [(0, rv_ x0), (1, rv_ x1), (2, rv_ x2), (3, rv_ x3), (4, .int x4)] [] σ := by
  have ⟨⟨X, hlk, hr, hRf, hRl, hRc, hnm⟩, hfl, hSC⟩ := Y
  have ⟨⟨hx, hb, _, hown, hts⟩, _, _⟩ := X
  intro H locs cells slots ls hP hL hB hl
  unfold wL_law_B33 at hf
  refine lv_iload hx hb dL_law_33 (lv_at hl 4 rfl) ?_
  refine p_aload_n hx hb dL_law_35 rfl (lv_at hl 0 rfl) ?_
  obtain ⟨ht340, hf⟩ := hf
  refine p_alen X hP ht340 (by decide) (by decide) dL_law_36 ?_
  refine lv_bipush (v := 6) hx hb dL_law_37 (by decide) ?_
  refine lv_isub hx hb dL_law_39 ?_
  refine lv_icmp_gt (tgt := 1006) hx hb dL_law_40 (by decide) (fun c341 => ?_) (fun c341 => ?_)
  · have hf := hf.1 c341
    refine lv_iconst (v := 1) hx hb dL_law_1006 (by decide) ?_
    exact p_zret X hlk hP hL (BU_le hB hRc).1 (BU_le hB hRc).2 hr nr_1 dL_law_1007 hf
  · have hf := hf.2 c341
    refine p_aload_n hx hb dL_law_43 rfl (lv_at hl 0 rfl) ?_
    refine lv_iload hx hb dL_law_44 (lv_at hl 4 rfl) ?_
    obtain ⟨hi342, hf⟩ := hf
    refine p_iald X hP ht340 hi342 dL_law_46 ?_
    refine lv_bipush (v := 31) hx hb dL_law_47 (by decide) ?_
    refine lv_iand hx hb dL_law_49 ?_
    refine lv_topi (fun y343 hy343 => ?_)
    have hf := hf y343 hy343
    clear hy343
    rcases sw20 y343 with hy | hy | hy | hy | hy | hy | hy | hy | hy | hy | hy | hy | hy | hy | hy | hy | hy | hy | hy | hy | hy
    · have hf := hf.1 hy
      refine lv_tableOut (tgt := 1000) hx hb dL_law_50 (sw_out hy) (by decide) ?_
      exact sL_law_L1000 Y hrc33 hf _ _ _ _ _ hP hL hB (lv_sub hl [0, 1, 2, 3, 4] rfl)
    · have hf := hf.2.1 hy
      rw [hy]
      refine lv_tableIn (tgt := 144) (off := 94) hx hb dL_law_50 (by decide) (by decide) (by decide) (by decide) ?_
      exact sL_law_L144 Y hrc33 hf _ _ _ _ _ hP hL hB (lv_sub hl [0, 1, 2, 3, 4] rfl)
    · have hf := hf.2.2.1 hy
      rw [hy]
      refine lv_tableIn (tgt := 169) (off := 119) hx hb dL_law_50 (by decide) (by decide) (by decide) (by decide) ?_
      exact sL_law_L169 Y hrc33 hf _ _ _ _ _ hP hL hB (lv_sub hl [0, 1, 2, 3, 4] rfl)
    · have hf := hf.2.2.2.1 hy
      rw [hy]
      refine lv_tableIn (tgt := 192) (off := 142) hx hb dL_law_50 (by decide) (by decide) (by decide) (by decide) ?_
      exact sL_law_L192 Y hrc33 hf _ _ _ _ _ hP hL hB (lv_sub hl [0, 1, 2, 3, 4] rfl)
    · have hf := hf.2.2.2.2.1 hy
      rw [hy]
      refine lv_tableIn (tgt := 261) (off := 211) hx hb dL_law_50 (by decide) (by decide) (by decide) (by decide) ?_
      exact sL_law_L261 Y hrc33 hf _ _ _ _ _ hP hL hB (lv_sub hl [0, 1, 2, 3, 4] rfl)
    · have hf := hf.2.2.2.2.2.1 hy
      rw [hy]
      refine lv_tableIn (tgt := 354) (off := 304) hx hb dL_law_50 (by decide) (by decide) (by decide) (by decide) ?_
      exact sL_law_L354 Y hrc33 hf _ _ _ _ _ hP hL hB (lv_sub hl [0, 1, 2, 3, 4] rfl)
    · have hf := hf.2.2.2.2.2.2.1 hy
      rw [hy]
      refine lv_tableIn (tgt := 403) (off := 353) hx hb dL_law_50 (by decide) (by decide) (by decide) (by decide) ?_
      exact sL_law_L403 Y hrc33 hf _ _ _ _ _ hP hL hB (lv_sub hl [0, 1, 2, 3, 4] rfl)
    · have hf := hf.2.2.2.2.2.2.2.1 hy
      rw [hy]
      refine lv_tableIn (tgt := 428) (off := 378) hx hb dL_law_50 (by decide) (by decide) (by decide) (by decide) ?_
      exact sL_law_L428 Y hrc33 hf _ _ _ _ _ hP hL hB (lv_sub hl [0, 1, 2, 3, 4] rfl)
    · have hf := hf.2.2.2.2.2.2.2.2.1 hy
      rw [hy]
      refine lv_tableIn (tgt := 509) (off := 459) hx hb dL_law_50 (by decide) (by decide) (by decide) (by decide) ?_
      exact sL_law_L509 Y hrc33 hf _ _ _ _ _ hP hL hB (lv_sub hl [0, 1, 2, 3, 4] rfl)
    · have hf := hf.2.2.2.2.2.2.2.2.2.1 hy
      rw [hy]
      refine lv_tableIn (tgt := 522) (off := 472) hx hb dL_law_50 (by decide) (by decide) (by decide) (by decide) ?_
      exact sL_law_L522 Y hrc33 hf _ _ _ _ _ hP hL hB (lv_sub hl [0, 1, 2, 3, 4] rfl)
    · have hf := hf.2.2.2.2.2.2.2.2.2.2.1 hy
      rw [hy]
      refine lv_tableIn (tgt := 535) (off := 485) hx hb dL_law_50 (by decide) (by decide) (by decide) (by decide) ?_
      exact sL_law_L535 Y hrc33 hf _ _ _ _ _ hP hL hB (lv_sub hl [0, 1, 2, 3, 4] rfl)
    · have hf := hf.2.2.2.2.2.2.2.2.2.2.2.1 hy
      rw [hy]
      refine lv_tableIn (tgt := 548) (off := 498) hx hb dL_law_50 (by decide) (by decide) (by decide) (by decide) ?_
      exact sL_law_L548 Y hrc33 hf _ _ _ _ _ hP hL hB (lv_sub hl [0, 1, 2, 3, 4] rfl)
    · have hf := hf.2.2.2.2.2.2.2.2.2.2.2.2.1 hy
      rw [hy]
      refine lv_tableIn (tgt := 573) (off := 523) hx hb dL_law_50 (by decide) (by decide) (by decide) (by decide) ?_
      exact sL_law_L573 Y hrc33 hf _ _ _ _ _ hP hL hB (lv_sub hl [0, 1, 2, 3, 4] rfl)
    · have hf := hf.2.2.2.2.2.2.2.2.2.2.2.2.2.1 hy
      rw [hy]
      refine lv_tableIn (tgt := 598) (off := 548) hx hb dL_law_50 (by decide) (by decide) (by decide) (by decide) ?_
      exact sL_law_L598 Y hrc33 hf _ _ _ _ _ hP hL hB (lv_sub hl [0, 1, 2, 3, 4] rfl)
    · have hf := hf.2.2.2.2.2.2.2.2.2.2.2.2.2.2.1 hy
      rw [hy]
      refine lv_tableIn (tgt := 635) (off := 585) hx hb dL_law_50 (by decide) (by decide) (by decide) (by decide) ?_
      exact sL_law_L635 Y hrc33 hf _ _ _ _ _ hP hL hB (lv_sub hl [0, 1, 2, 3, 4] rfl)
    · have hf := hf.2.2.2.2.2.2.2.2.2.2.2.2.2.2.2.1 hy
      rw [hy]
      refine lv_tableIn (tgt := 648) (off := 598) hx hb dL_law_50 (by decide) (by decide) (by decide) (by decide) ?_
      exact sL_law_L648 Y hrc33 hf _ _ _ _ _ hP hL hB (lv_sub hl [0, 1, 2, 3, 4] rfl)
    · have hf := hf.2.2.2.2.2.2.2.2.2.2.2.2.2.2.2.2.1 hy
      rw [hy]
      refine lv_tableIn (tgt := 716) (off := 666) hx hb dL_law_50 (by decide) (by decide) (by decide) (by decide) ?_
      exact sL_law_L716 Y hrc33 hf _ _ _ _ _ hP hL hB (lv_sub hl [0, 1, 2, 3, 4] rfl)
    · have hf := hf.2.2.2.2.2.2.2.2.2.2.2.2.2.2.2.2.2.1 hy
      rw [hy]
      refine lv_tableIn (tgt := 741) (off := 691) hx hb dL_law_50 (by decide) (by decide) (by decide) (by decide) ?_
      exact sL_law_L741 Y hrc33 hf _ _ _ _ _ hP hL hB (lv_sub hl [0, 1, 2, 3, 4] rfl)
    · have hf := hf.2.2.2.2.2.2.2.2.2.2.2.2.2.2.2.2.2.2.1 hy
      rw [hy]
      refine lv_tableIn (tgt := 809) (off := 759) hx hb dL_law_50 (by decide) (by decide) (by decide) (by decide) ?_
      exact sL_law_L809 Y hrc33 hf _ _ _ _ _ hP hL hB (lv_sub hl [0, 1, 2, 3, 4] rfl)
    · have hf := hf.2.2.2.2.2.2.2.2.2.2.2.2.2.2.2.2.2.2.2.1 hy
      rw [hy]
      refine lv_tableIn (tgt := 864) (off := 814) hx hb dL_law_50 (by decide) (by decide) (by decide) (by decide) ?_
      exact sL_law_L864 Y hrc33 hf _ _ _ _ _ hP hL hB (lv_sub hl [0, 1, 2, 3, 4] rfl)
    · have hf := hf.2.2.2.2.2.2.2.2.2.2.2.2.2.2.2.2.2.2.2.2 hy
      rw [hy]
      refine lv_tableIn (tgt := 932) (off := 882) hx hb dL_law_50 (by decide) (by decide) (by decide) (by decide) ?_
      exact sL_law_L932 Y hrc33 hf _ _ _ _ _ hP hL hB (lv_sub hl [0, 1, 2, 3, 4] rfl)
set_option maxHeartbeats 4000000 in
theorem sL_law_L33 {G : GG_} {p : Program} {l : Launch} {e : Env} {R : Room} {s : State} {m : MethodId} {args : Array Value} {below : List Frame} {meth : Method} {c : Code} {mc ms : Nat} {SC : Hp → Prop} (Y : (MX_ G p R s m args meth c cL_law 8 RX0 (some .boolean) 13 326 mc ms "law") ∧ l.flags = pinnedFlags ++ [noTraceFlag] ∧ ∀ σ H, Pic_ G σ H → SC σ) {post : Int32 → Hp → Prop} {x0 : Nat} {x1 : Nat} {x2 : Nat} {x3 : Nat} {x4 : Int32} {σ : Hp} (hf : wL_law_L33 SC post x0 x1 x2 x3 x4 σ) : WG_ G p l e R s m args below meth c (MQ below (QI_ G post) args s mc ms (FR_ G)) (BU_ R) 8 33 [(0, rv_ x0), (1, rv_ x1), (2, rv_ x2), (3, rv_ x3), (4, .int x4)] [] σ := by
  unfold wL_law_L33 at hf
  obtain ⟨I, μ, h0, hI⟩ := hf
  have key : ∀ (n : Nat) (x4 : Int32) (σ : Hp), I x4 σ → μ x4 σ < n → WG_ G p l e R s m args below meth c (MQ below (QI_ G post) args s mc ms (FR_ G)) (BU_ R) 8 33 [(0, rv_ x0), (1, rv_ x1), (2, rv_ x2), (3, rv_ x3), (4, .int x4)] [] σ := by
    intro n
    induction n with
    | zero => intro x4 σ _ h; exact absurd h (Nat.not_lt_zero _)
    | succ n ih => intro x4 σ hi hn; exact sL_law_B33 Y (fun x4' σ' h => ih x4' σ' h.1 (Nat.lt_of_lt_of_le h.2 (Nat.le_of_lt_succ hn))) (hI x4 σ hi)
  exact key _ _ _ h0 (Nat.lt_succ_self _)
set_option maxHeartbeats 4000000 in
theorem sL_law {G : GG_} {p : Program} {l : Launch} {e : Env} {R : Room} {s : State} {m : MethodId} {args : Array Value} {below : List Frame} {meth : Method} {c : Code} {mc ms : Nat} {SC : Hp → Prop} (Y : (MX_ G p R s m args meth c cL_law 8 RX0 (some .boolean) 13 326 mc ms "law") ∧ l.flags = pinnedFlags ++ [noTraceFlag] ∧ ∀ σ H, Pic_ G σ H → SC σ) {post : Int32 → Hp → Prop} {x0 : Nat} {σ : Hp} (hf : wL_law SC x0 σ post) : WG_ G p l e R s m args below meth c (MQ below (QI_ G post) args s mc ms (FR_ G)) (BU_ R) 8 0 [(0, rv_ x0)] [] σ := by
  have ⟨⟨X, hlk, hr, hRf, hRl, hRc, hnm⟩, hfl, hSC⟩ := Y
  have ⟨⟨hx, hb, _, hown, hts⟩, _, _⟩ := X
  intro H locs cells slots ls hP hL hB hl
  unfold wL_law at hf
  obtain ⟨hb344, hf⟩ := hf
  obtain ⟨hb345, hf⟩ := hf
  refine p_new X cf0_ (by decide +kernel) hP hB q113 q114 q85 hb344 hb345 dL_law_0 (fun H hP hB => ?_)
  refine p_nmPB hP hB (fun σ346 hσ346 hP hB => ?_)
  have hf := hf σ346 hσ346
  refine lv_dup hx hb dL_law_3 (rv_cat _) ?_
  refine p_aload_n hx hb dL_law_4 rfl (lv_at hl 0 rfl) ?_
  refine lv_iconst (v := 0) hx hb dL_law_5 (by decide) ?_
  refine p_calli hL (p_runS X hP (metX0_cell l G _ _ _ _ X.2.2 hf) (va_cwS 2 hts (lw_S q1176 q1177 q84 q1178) rfl rfl rfl (by decide +kernel) ⟨Nat.le_trans (Nat.le_of_ble_eq_true rfl) hRf, Nat.le_trans (Nat.le_of_ble_eq_true rfl) hRl⟩) rfl hl.1 rfl (by rw [(ca_r (ca_r ca_n))]; decide) dL_law_6 (BU_call hB (Nat.zero_le _) (Nat.zero_le _))) (fun r347 σ₁ H locs hf hP hL => ?_)
  obtain ⟨e₁, hf⟩ := hf
  rw [e₁] at hP
  obtain ⟨ht348, hf⟩ := hf
  obtain ⟨mc349, ms350, hf⟩ := hf
  obtain ⟨hb351, hf⟩ := hf
  obtain ⟨hb352, hf⟩ := hf
  refine p_callv hL (p_runI X (Pic_bu hP mc349 ms350) ht348 (metX1_init l G _ _ _ _ _ _ X.2.2 hf) (cwI 1 hts (lw_meth q117) rfl rfl rfl (hts _ q85) (hts _ q115) (hts _ q116) rfl (by decide +kernel) ⟨Nat.le_trans (Nat.le_of_ble_eq_true rfl) hRf, Nat.le_trans (Nat.le_of_ble_eq_true rfl) hRl⟩) rfl hl.1 rfl (by rw [(ca_r ca_n)]; decide) dL_law_9 (BU_call hB hb351 hb352)) (fun σ353 H locs hf hP hL => ?_)
  have hB := BU_back (τ := σ353) hB hb351 hb352
  have hP := Pic_bu hP (bc_ σ346 - mc349) (bs_ σ346 - ms350)
  refine p_nmPB hP hB (fun σ354 hσ354 hP hB => ?_)
  have hf := hf σ354 hσ354
  have hf := hf (hSC _ _ hP)
  refine p_topr (fun y355 hy355 => ?_)
  have hf := hf y355 hy355
  refine p_astore_n (i := 1) hx hb dL_law_12 rfl hl (by decide) ⟨⟨ne_ rfl, Or.inr (rv_cat _)⟩, trivial⟩ (fun ls hl => ?_)
  obtain ⟨hb356, hf⟩ := hf
  obtain ⟨hb357, hf⟩ := hf
  refine p_new X cf8_ (by decide +kernel) hP hB q1283 q1284 q106 hb356 hb357 dL_law_13 (fun H hP hB => ?_)
  refine p_nmPB hP hB (fun σ358 hσ358 hP hB => ?_)
  have hf := hf σ358 hσ358
  refine lv_dup hx hb dL_law_16 (rv_cat _) ?_
  refine p_aload_n hx hb dL_law_17 rfl (lv_at hl 1 rfl) ?_
  refine lv_iconst (v := 0) hx hb dL_law_18 (by decide) ?_
  refine p_calli hL (p_runS X hP (metX0_cell l G _ _ _ _ X.2.2 hf) (va_cwS 2 hts (lw_S q1176 q1177 q84 q1178) rfl rfl rfl (by decide +kernel) ⟨Nat.le_trans (Nat.le_of_ble_eq_true rfl) hRf, Nat.le_trans (Nat.le_of_ble_eq_true rfl) hRl⟩) rfl hl.1 rfl (by rw [(ca_r (ca_r ca_n))]; decide) dL_law_19 (BU_call hB (Nat.zero_le _) (Nat.zero_le _))) (fun r359 σ₁ H locs hf hP hL => ?_)
  obtain ⟨e₁, hf⟩ := hf
  rw [e₁] at hP
  obtain ⟨ht360, hf⟩ := hf
  obtain ⟨mc361, ms362, hf⟩ := hf
  obtain ⟨hb363, hf⟩ := hf
  obtain ⟨hb364, hf⟩ := hf
  refine p_callv hL (p_runI X (Pic_bu hP mc361 ms362) ht360 (metX9_init l G _ _ _ _ _ _ X.2.2 hf) (cwI 1 hts (lw_meth q1287) rfl rfl rfl (hts _ q106) (hts _ q1285) (hts _ q1286) rfl (by decide +kernel) ⟨Nat.le_trans (Nat.le_of_ble_eq_true rfl) hRf, Nat.le_trans (Nat.le_of_ble_eq_true rfl) hRl⟩) rfl hl.1 rfl (by rw [(ca_r ca_n)]; decide) dL_law_22 (BU_call hB hb363 hb364)) (fun σ365 H locs hf hP hL => ?_)
  have hB := BU_back (τ := σ365) hB hb363 hb364
  have hP := Pic_bu hP (bc_ σ358 - mc361) (bs_ σ358 - ms362)
  refine p_nmPB hP hB (fun σ366 hσ366 hP hB => ?_)
  have hf := hf σ366 hσ366
  have hf := hf (hSC _ _ hP)
  refine p_topr (fun y367 hy367 => ?_)
  have hf := hf y367 hy367
  refine p_astore_n (i := 2) hx hb dL_law_25 rfl hl (by decide) ⟨⟨ne_ rfl, Or.inr (rv_cat _)⟩, ⟨⟨ne_ rfl, Or.inl (ne_ rfl)⟩, trivial⟩⟩ (fun ls hl => ?_)
  refine lv_iconst (v := 1) hx hb dL_law_26 (by decide) ?_
  obtain ⟨hb368, hf⟩ := hf
  obtain ⟨hb369, hf⟩ := hf
  obtain ⟨hb370, hf⟩ := hf
  obtain ⟨hb371, hf⟩ := hf
  refine p_newa X (atype := .long) (t := 103) rfl (by decide) (by decide) q1418 hP hB hb368 hb369 hb370 hb371 dL_law_27 (fun H hP hB => ?_)
  refine p_nmPB hP hB (fun σ372 hσ372 hP hB => ?_)
  have hf := hf σ372 hσ372
  refine p_topr (fun y373 hy373 => ?_)
  have hf := hf y373 hy373
  refine p_astore_n (i := 3) hx hb dL_law_29 rfl hl (by decide) ⟨⟨ne_ rfl, Or.inr (rv_cat _)⟩, ⟨⟨ne_ rfl, Or.inl (ne_ rfl)⟩, ⟨⟨ne_ rfl, Or.inl (ne_ rfl)⟩, trivial⟩⟩⟩ (fun ls hl => ?_)
  refine lv_iconst (v := 1) hx hb dL_law_30 (by decide) ?_
  refine p_istore (i := 4) hx hb dL_law_31 hl (by decide) ⟨⟨ne_ rfl, Or.inr (rv_cat _)⟩, ⟨⟨ne_ rfl, Or.inl (ne_ rfl)⟩, ⟨⟨ne_ rfl, Or.inl (ne_ rfl)⟩, ⟨⟨ne_ rfl, Or.inl (ne_ rfl)⟩, trivial⟩⟩⟩⟩ (fun ls hl => ?_)
  exact sL_law_L33 Y hf _ _ _ _ _ hP hL hB (lv_sub hl [4, 3, 2, 1, 0] rfl)
