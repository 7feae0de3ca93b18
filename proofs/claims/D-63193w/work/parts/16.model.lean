set_option maxRecDepth 100000
abbrev cX9_isRecord : ByteArray := prog_11_method_55_code
def yX9_isRecord : MethodName := ⟨RX9, "isRecord", "(II)Z"⟩
theorem dX9_isRecord_0 : decode cX9_isRecord 0 = .ok (.sipush 2048, 3) := by decide +kernel
theorem dX9_isRecord_3 : decode cX9_isRecord 3 = .ok (.iload_n 1, 1) := by decide +kernel
theorem dX9_isRecord_4 : decode cX9_isRecord 4 = .ok (.sipush 2048, 3) := by decide +kernel
theorem dX9_isRecord_7 : decode cX9_isRecord 7 = .ok (.irem, 1) := by decide +kernel
theorem dX9_isRecord_8 : decode cX9_isRecord 8 = .ok (.isub, 1) := by decide +kernel
theorem dX9_isRecord_9 : decode cX9_isRecord 9 = .ok (.istore_n 3, 1) := by decide +kernel
theorem dX9_isRecord_10 : decode cX9_isRecord 10 = .ok (.aload_n 0, 1) := by decide +kernel
theorem dX9_isRecord_11 : decode cX9_isRecord 11 = .ok (.iload_n 1, 1) := by decide +kernel
theorem dX9_isRecord_12 : decode cX9_isRecord 12 = .ok (.invokevirtual 225, 3) := by decide +kernel
theorem dX9_isRecord_15 : decode cX9_isRecord 15 = .ok (.istore 4, 2) := by decide +kernel
theorem dX9_isRecord_17 : decode cX9_isRecord 17 = .ok (.iload 4, 2) := by decide +kernel
theorem dX9_isRecord_19 : decode cX9_isRecord 19 = .ok (.bipush 34, 2) := by decide +kernel
theorem dX9_isRecord_21 : decode cX9_isRecord 21 = .ok (.if_icmp .lt 9, 3) := by decide +kernel
theorem dX9_isRecord_24 : decode cX9_isRecord 24 = .ok (.iload 4, 2) := by decide +kernel
theorem dX9_isRecord_26 : decode cX9_isRecord 26 = .ok (.iload_n 3, 1) := by decide +kernel
theorem dX9_isRecord_27 : decode cX9_isRecord 27 = .ok (.if_icmp .le 9, 3) := by decide +kernel
theorem dX9_isRecord_30 : decode cX9_isRecord 30 = .ok (.aload_n 0, 1) := by decide +kernel
theorem dX9_isRecord_31 : decode cX9_isRecord 31 = .ok (.iload_n 1, 1) := by decide +kernel
theorem dX9_isRecord_32 : decode cX9_isRecord 32 = .ok (.invokevirtual 263, 3) := by decide +kernel
theorem dX9_isRecord_35 : decode cX9_isRecord 35 = .ok (.ireturn, 1) := by decide +kernel
theorem dX9_isRecord_36 : decode cX9_isRecord 36 = .ok (.aload_n 0, 1) := by decide +kernel
theorem dX9_isRecord_37 : decode cX9_isRecord 37 = .ok (.iload_n 1, 1) := by decide +kernel
theorem dX9_isRecord_38 : decode cX9_isRecord 38 = .ok (.bipush 32, 2) := by decide +kernel
theorem dX9_isRecord_40 : decode cX9_isRecord 40 = .ok (.iadd, 1) := by decide +kernel
theorem dX9_isRecord_41 : decode cX9_isRecord 41 = .ok (.invokevirtual 225, 3) := by decide +kernel
theorem dX9_isRecord_44 : decode cX9_isRecord 44 = .ok (.istore 5, 2) := by decide +kernel
theorem dX9_isRecord_46 : decode cX9_isRecord 46 = .ok (.iload 4, 2) := by decide +kernel
theorem dX9_isRecord_48 : decode cX9_isRecord 48 = .ok (.bipush 33, 2) := by decide +kernel
theorem dX9_isRecord_50 : decode cX9_isRecord 50 = .ok (.iload 5, 2) := by decide +kernel
theorem dX9_isRecord_52 : decode cX9_isRecord 52 = .ok (.iadd, 1) := by decide +kernel
theorem dX9_isRecord_53 : decode cX9_isRecord 53 = .ok (.invokestatic 196, 3) := by decide +kernel
theorem dX9_isRecord_56 : decode cX9_isRecord 56 = .ok (.if_icmp .ne 91, 3) := by decide +kernel
theorem dX9_isRecord_59 : decode cX9_isRecord 59 = .ok (.iload 5, 2) := by decide +kernel
theorem dX9_isRecord_61 : decode cX9_isRecord 61 = .ok (.iconst 2, 1) := by decide +kernel
theorem dX9_isRecord_62 : decode cX9_isRecord 62 = .ok (.irem, 1) := by decide +kernel
theorem dX9_isRecord_63 : decode cX9_isRecord 63 = .ok (.iconst 1, 1) := by decide +kernel
theorem dX9_isRecord_64 : decode cX9_isRecord 64 = .ok (.if_icmp .eq 17, 3) := by decide +kernel
theorem dX9_isRecord_67 : decode cX9_isRecord 67 = .ok (.aload_n 0, 1) := by decide +kernel
theorem dX9_isRecord_68 : decode cX9_isRecord 68 = .ok (.iload_n 1, 1) := by decide +kernel
theorem dX9_isRecord_69 : decode cX9_isRecord 69 = .ok (.bipush 33, 2) := by decide +kernel
theorem dX9_isRecord_71 : decode cX9_isRecord 71 = .ok (.iadd, 1) := by decide +kernel
theorem dX9_isRecord_72 : decode cX9_isRecord 72 = .ok (.iload 5, 2) := by decide +kernel
theorem dX9_isRecord_74 : decode cX9_isRecord 74 = .ok (.iadd, 1) := by decide +kernel
theorem dX9_isRecord_75 : decode cX9_isRecord 75 = .ok (.invokevirtual 225, 3) := by decide +kernel
theorem dX9_isRecord_78 : decode cX9_isRecord 78 = .ok (.ifCond .ne 69, 3) := by decide +kernel
theorem dX9_isRecord_81 : decode cX9_isRecord 81 = .ok (.aload_n 0, 1) := by decide +kernel
theorem dX9_isRecord_82 : decode cX9_isRecord 82 = .ok (.iload_n 1, 1) := by decide +kernel
theorem dX9_isRecord_83 : decode cX9_isRecord 83 = .ok (.iconst 2, 1) := by decide +kernel
theorem dX9_isRecord_84 : decode cX9_isRecord 84 = .ok (.iadd, 1) := by decide +kernel
theorem dX9_isRecord_85 : decode cX9_isRecord 85 = .ok (.iconst 4, 1) := by decide +kernel
theorem dX9_isRecord_86 : decode cX9_isRecord 86 = .ok (.invokevirtual 266, 3) := by decide +kernel
theorem dX9_isRecord_89 : decode cX9_isRecord 89 = .ok (.aload_n 0, 1) := by decide +kernel
theorem dX9_isRecord_90 : decode cX9_isRecord 90 = .ok (.iload_n 1, 1) := by decide +kernel
theorem dX9_isRecord_91 : decode cX9_isRecord 91 = .ok (.bipush 6, 2) := by decide +kernel
theorem dX9_isRecord_93 : decode cX9_isRecord 93 = .ok (.iadd, 1) := by decide +kernel
theorem dX9_isRecord_94 : decode cX9_isRecord 94 = .ok (.iconst 4, 1) := by decide +kernel
theorem dX9_isRecord_95 : decode cX9_isRecord 95 = .ok (.invokevirtual 269, 3) := by decide +kernel
theorem dX9_isRecord_98 : decode cX9_isRecord 98 = .ok (.if_icmp .ne 49, 3) := by decide +kernel
theorem dX9_isRecord_101 : decode cX9_isRecord 101 = .ok (.aload_n 0, 1) := by decide +kernel
theorem dX9_isRecord_102 : decode cX9_isRecord 102 = .ok (.iload_n 1, 1) := by decide +kernel
theorem dX9_isRecord_103 : decode cX9_isRecord 103 = .ok (.bipush 10, 2) := by decide +kernel
theorem dX9_isRecord_105 : decode cX9_isRecord 105 = .ok (.iadd, 1) := by decide +kernel
theorem dX9_isRecord_106 : decode cX9_isRecord 106 = .ok (.iconst 4, 1) := by decide +kernel
theorem dX9_isRecord_107 : decode cX9_isRecord 107 = .ok (.invokevirtual 266, 3) := by decide +kernel
theorem dX9_isRecord_110 : decode cX9_isRecord 110 = .ok (.aload_n 0, 1) := by decide +kernel
theorem dX9_isRecord_111 : decode cX9_isRecord 111 = .ok (.iload_n 1, 1) := by decide +kernel
theorem dX9_isRecord_112 : decode cX9_isRecord 112 = .ok (.bipush 14, 2) := by decide +kernel
theorem dX9_isRecord_114 : decode cX9_isRecord 114 = .ok (.iadd, 1) := by decide +kernel
theorem dX9_isRecord_115 : decode cX9_isRecord 115 = .ok (.iconst 4, 1) := by decide +kernel
theorem dX9_isRecord_116 : decode cX9_isRecord 116 = .ok (.invokevirtual 269, 3) := by decide +kernel
theorem dX9_isRecord_119 : decode cX9_isRecord 119 = .ok (.if_icmp .ne 28, 3) := by decide +kernel
theorem dX9_isRecord_122 : decode cX9_isRecord 122 = .ok (.aload_n 0, 1) := by decide +kernel
theorem dX9_isRecord_123 : decode cX9_isRecord 123 = .ok (.iload_n 1, 1) := by decide +kernel
theorem dX9_isRecord_124 : decode cX9_isRecord 124 = .ok (.bipush 28, 2) := by decide +kernel
theorem dX9_isRecord_126 : decode cX9_isRecord 126 = .ok (.iadd, 1) := by decide +kernel
theorem dX9_isRecord_127 : decode cX9_isRecord 127 = .ok (.iconst 2, 1) := by decide +kernel
theorem dX9_isRecord_128 : decode cX9_isRecord 128 = .ok (.invokevirtual 266, 3) := by decide +kernel
theorem dX9_isRecord_131 : decode cX9_isRecord 131 = .ok (.aload_n 0, 1) := by decide +kernel
theorem dX9_isRecord_132 : decode cX9_isRecord 132 = .ok (.iload_n 1, 1) := by decide +kernel
theorem dX9_isRecord_133 : decode cX9_isRecord 133 = .ok (.bipush 30, 2) := by decide +kernel
theorem dX9_isRecord_135 : decode cX9_isRecord 135 = .ok (.iadd, 1) := by decide +kernel
theorem dX9_isRecord_136 : decode cX9_isRecord 136 = .ok (.iconst 2, 1) := by decide +kernel
theorem dX9_isRecord_137 : decode cX9_isRecord 137 = .ok (.invokevirtual 269, 3) := by decide +kernel
theorem dX9_isRecord_140 : decode cX9_isRecord 140 = .ok (.if_icmp .ne 7, 3) := by decide +kernel
theorem dX9_isRecord_143 : decode cX9_isRecord 143 = .ok (.iconst 1, 1) := by decide +kernel
theorem dX9_isRecord_144 : decode cX9_isRecord 144 = .ok (.goto 4, 3) := by decide +kernel
theorem dX9_isRecord_147 : decode cX9_isRecord 147 = .ok (.iconst 0, 1) := by decide +kernel
theorem dX9_isRecord_148 : decode cX9_isRecord 148 = .ok (.istore 6, 2) := by decide +kernel
theorem dX9_isRecord_150 : decode cX9_isRecord 150 = .ok (.aload_n 0, 1) := by decide +kernel
theorem dX9_isRecord_151 : decode cX9_isRecord 151 = .ok (.iload_n 1, 1) := by decide +kernel
theorem dX9_isRecord_152 : decode cX9_isRecord 152 = .ok (.bipush 25, 2) := by decide +kernel
theorem dX9_isRecord_154 : decode cX9_isRecord 154 = .ok (.iadd, 1) := by decide +kernel
theorem dX9_isRecord_155 : decode cX9_isRecord 155 = .ok (.invokevirtual 225, 3) := by decide +kernel
theorem dX9_isRecord_158 : decode cX9_isRecord 158 = .ok (.istore 7, 2) := by decide +kernel
theorem dX9_isRecord_160 : decode cX9_isRecord 160 = .ok (.iload 6, 2) := by decide +kernel
theorem dX9_isRecord_162 : decode cX9_isRecord 162 = .ok (.ifCond .eq 14, 3) := by decide +kernel
theorem dX9_isRecord_165 : decode cX9_isRecord 165 = .ok (.iload 7, 2) := by decide +kernel
theorem dX9_isRecord_167 : decode cX9_isRecord 167 = .ok (.ifCond .eq 15, 3) := by decide +kernel
theorem dX9_isRecord_170 : decode cX9_isRecord 170 = .ok (.iload 7, 2) := by decide +kernel
theorem dX9_isRecord_172 : decode cX9_isRecord 172 = .ok (.iconst 2, 1) := by decide +kernel
theorem dX9_isRecord_173 : decode cX9_isRecord 173 = .ok (.if_icmp .eq 9, 3) := by decide +kernel
theorem dX9_isRecord_176 : decode cX9_isRecord 176 = .ok (.aload_n 0, 1) := by decide +kernel
theorem dX9_isRecord_177 : decode cX9_isRecord 177 = .ok (.iload_n 1, 1) := by decide +kernel
theorem dX9_isRecord_178 : decode cX9_isRecord 178 = .ok (.invokevirtual 263, 3) := by decide +kernel
theorem dX9_isRecord_181 : decode cX9_isRecord 181 = .ok (.ireturn, 1) := by decide +kernel
theorem dX9_isRecord_182 : decode cX9_isRecord 182 = .ok (.iload 7, 2) := by decide +kernel
theorem dX9_isRecord_184 : decode cX9_isRecord 184 = .ok (.iconst 2, 1) := by decide +kernel
theorem dX9_isRecord_185 : decode cX9_isRecord 185 = .ok (.if_icmp .ne 7, 3) := by decide +kernel
theorem dX9_isRecord_188 : decode cX9_isRecord 188 = .ok (.iconst 1, 1) := by decide +kernel
theorem dX9_isRecord_189 : decode cX9_isRecord 189 = .ok (.goto 4, 3) := by decide +kernel
theorem dX9_isRecord_192 : decode cX9_isRecord 192 = .ok (.iconst 0, 1) := by decide +kernel
theorem dX9_isRecord_193 : decode cX9_isRecord 193 = .ok (.istore 8, 2) := by decide +kernel
theorem dX9_isRecord_195 : decode cX9_isRecord 195 = .ok (.iload_n 2, 1) := by decide +kernel
theorem dX9_isRecord_196 : decode cX9_isRecord 196 = .ok (.iconst 2, 1) := by decide +kernel
theorem dX9_isRecord_197 : decode cX9_isRecord 197 = .ok (.if_icmp .ge 36, 3) := by decide +kernel
theorem dX9_isRecord_200 : decode cX9_isRecord 200 = .ok (.iload 8, 2) := by decide +kernel
theorem dX9_isRecord_202 : decode cX9_isRecord 202 = .ok (.ifCond .eq 25, 3) := by decide +kernel
theorem dX9_isRecord_205 : decode cX9_isRecord 205 = .ok (.iload 5, 2) := by decide +kernel
theorem dX9_isRecord_207 : decode cX9_isRecord 207 = .ok (.iconst 1, 1) := by decide +kernel
theorem dX9_isRecord_208 : decode cX9_isRecord 208 = .ok (.if_icmp .ne 19, 3) := by decide +kernel
theorem dX9_isRecord_211 : decode cX9_isRecord 211 = .ok (.aload_n 0, 1) := by decide +kernel
theorem dX9_isRecord_212 : decode cX9_isRecord 212 = .ok (.iload_n 1, 1) := by decide +kernel
theorem dX9_isRecord_213 : decode cX9_isRecord 213 = .ok (.bipush 33, 2) := by decide +kernel
theorem dX9_isRecord_215 : decode cX9_isRecord 215 = .ok (.iadd, 1) := by decide +kernel
theorem dX9_isRecord_216 : decode cX9_isRecord 216 = .ok (.invokevirtual 225, 3) := by decide +kernel
theorem dX9_isRecord_219 : decode cX9_isRecord 219 = .ok (.iload_n 2, 1) := by decide +kernel
theorem dX9_isRecord_220 : decode cX9_isRecord 220 = .ok (.if_icmp .ne 7, 3) := by decide +kernel
theorem dX9_isRecord_223 : decode cX9_isRecord 223 = .ok (.iconst 1, 1) := by decide +kernel
theorem dX9_isRecord_224 : decode cX9_isRecord 224 = .ok (.goto 4, 3) := by decide +kernel
theorem dX9_isRecord_227 : decode cX9_isRecord 227 = .ok (.iconst 0, 1) := by decide +kernel
theorem dX9_isRecord_228 : decode cX9_isRecord 228 = .ok (.istore 6, 2) := by decide +kernel
theorem dX9_isRecord_230 : decode cX9_isRecord 230 = .ok (.goto 93, 3) := by decide +kernel
theorem dX9_isRecord_233 : decode cX9_isRecord 233 = .ok (.iload 8, 2) := by decide +kernel
theorem dX9_isRecord_235 : decode cX9_isRecord 235 = .ok (.ifCond .eq 18, 3) := by decide +kernel
theorem dX9_isRecord_238 : decode cX9_isRecord 238 = .ok (.aload_n 0, 1) := by decide +kernel
theorem dX9_isRecord_239 : decode cX9_isRecord 239 = .ok (.iload_n 1, 1) := by decide +kernel
theorem dX9_isRecord_240 : decode cX9_isRecord 240 = .ok (.bipush 33, 2) := by decide +kernel
theorem dX9_isRecord_242 : decode cX9_isRecord 242 = .ok (.iadd, 1) := by decide +kernel
theorem dX9_isRecord_243 : decode cX9_isRecord 243 = .ok (.iload 5, 2) := by decide +kernel
theorem dX9_isRecord_245 : decode cX9_isRecord 245 = .ok (.invokevirtual 272, 3) := by decide +kernel
theorem dX9_isRecord_248 : decode cX9_isRecord 248 = .ok (.istore 6, 2) := by decide +kernel
theorem dX9_isRecord_250 : decode cX9_isRecord 250 = .ok (.goto 73, 3) := by decide +kernel
theorem dX9_isRecord_253 : decode cX9_isRecord 253 = .ok (.aload_n 0, 1) := by decide +kernel
theorem dX9_isRecord_254 : decode cX9_isRecord 254 = .ok (.iload_n 1, 1) := by decide +kernel
theorem dX9_isRecord_255 : decode cX9_isRecord 255 = .ok (.bipush 33, 2) := by decide +kernel
theorem dX9_isRecord_257 : decode cX9_isRecord 257 = .ok (.iadd, 1) := by decide +kernel
theorem dX9_isRecord_258 : decode cX9_isRecord 258 = .ok (.iload 5, 2) := by decide +kernel
theorem dX9_isRecord_260 : decode cX9_isRecord 260 = .ok (.iconst 3, 1) := by decide +kernel
theorem dX9_isRecord_261 : decode cX9_isRecord 261 = .ok (.isub, 1) := by decide +kernel
theorem dX9_isRecord_262 : decode cX9_isRecord 262 = .ok (.invokevirtual 272, 3) := by decide +kernel
theorem dX9_isRecord_265 : decode cX9_isRecord 265 = .ok (.ifCond .eq 55, 3) := by decide +kernel
theorem dX9_isRecord_268 : decode cX9_isRecord 268 = .ok (.aload_n 0, 1) := by decide +kernel
theorem dX9_isRecord_269 : decode cX9_isRecord 269 = .ok (.iload_n 1, 1) := by decide +kernel
theorem dX9_isRecord_270 : decode cX9_isRecord 270 = .ok (.bipush 30, 2) := by decide +kernel
theorem dX9_isRecord_272 : decode cX9_isRecord 272 = .ok (.iadd, 1) := by decide +kernel
theorem dX9_isRecord_273 : decode cX9_isRecord 273 = .ok (.iload 5, 2) := by decide +kernel
theorem dX9_isRecord_275 : decode cX9_isRecord 275 = .ok (.iadd, 1) := by decide +kernel
theorem dX9_isRecord_276 : decode cX9_isRecord 276 = .ok (.invokevirtual 225, 3) := by decide +kernel
theorem dX9_isRecord_279 : decode cX9_isRecord 279 = .ok (.bipush 46, 2) := by decide +kernel
theorem dX9_isRecord_281 : decode cX9_isRecord 281 = .ok (.if_icmp .ne 39, 3) := by decide +kernel
theorem dX9_isRecord_284 : decode cX9_isRecord 284 = .ok (.aload_n 0, 1) := by decide +kernel
theorem dX9_isRecord_285 : decode cX9_isRecord 285 = .ok (.iload_n 1, 1) := by decide +kernel
theorem dX9_isRecord_286 : decode cX9_isRecord 286 = .ok (.bipush 31, 2) := by decide +kernel
theorem dX9_isRecord_288 : decode cX9_isRecord 288 = .ok (.iadd, 1) := by decide +kernel
theorem dX9_isRecord_289 : decode cX9_isRecord 289 = .ok (.iload 5, 2) := by decide +kernel
theorem dX9_isRecord_291 : decode cX9_isRecord 291 = .ok (.iadd, 1) := by decide +kernel
theorem dX9_isRecord_292 : decode cX9_isRecord 292 = .ok (.invokevirtual 225, 3) := by decide +kernel
theorem dX9_isRecord_295 : decode cX9_isRecord 295 = .ok (.bipush 59, 2) := by decide +kernel
theorem dX9_isRecord_297 : decode cX9_isRecord 297 = .ok (.if_icmp .ne 23, 3) := by decide +kernel
theorem dX9_isRecord_300 : decode cX9_isRecord 300 = .ok (.aload_n 0, 1) := by decide +kernel
theorem dX9_isRecord_301 : decode cX9_isRecord 301 = .ok (.iload_n 1, 1) := by decide +kernel
theorem dX9_isRecord_302 : decode cX9_isRecord 302 = .ok (.bipush 32, 2) := by decide +kernel
theorem dX9_isRecord_304 : decode cX9_isRecord 304 = .ok (.iadd, 1) := by decide +kernel
theorem dX9_isRecord_305 : decode cX9_isRecord 305 = .ok (.iload 5, 2) := by decide +kernel
theorem dX9_isRecord_307 : decode cX9_isRecord 307 = .ok (.iadd, 1) := by decide +kernel
theorem dX9_isRecord_308 : decode cX9_isRecord 308 = .ok (.invokevirtual 225, 3) := by decide +kernel
theorem dX9_isRecord_311 : decode cX9_isRecord 311 = .ok (.bipush 49, 2) := by decide +kernel
theorem dX9_isRecord_313 : decode cX9_isRecord 313 = .ok (.if_icmp .ne 7, 3) := by decide +kernel
theorem dX9_isRecord_316 : decode cX9_isRecord 316 = .ok (.iconst 1, 1) := by decide +kernel
theorem dX9_isRecord_317 : decode cX9_isRecord 317 = .ok (.goto 4, 3) := by decide +kernel
theorem dX9_isRecord_320 : decode cX9_isRecord 320 = .ok (.iconst 0, 1) := by decide +kernel
theorem dX9_isRecord_321 : decode cX9_isRecord 321 = .ok (.istore 6, 2) := by decide +kernel
theorem dX9_isRecord_323 : decode cX9_isRecord 323 = .ok (.aload_n 0, 1) := by decide +kernel
theorem dX9_isRecord_324 : decode cX9_isRecord 324 = .ok (.iload_n 1, 1) := by decide +kernel
theorem dX9_isRecord_325 : decode cX9_isRecord 325 = .ok (.iconst 2, 1) := by decide +kernel
theorem dX9_isRecord_326 : decode cX9_isRecord 326 = .ok (.iadd, 1) := by decide +kernel
theorem dX9_isRecord_327 : decode cX9_isRecord 327 = .ok (.iconst 4, 1) := by decide +kernel
theorem dX9_isRecord_328 : decode cX9_isRecord 328 = .ok (.invokevirtual 266, 3) := by decide +kernel
theorem dX9_isRecord_331 : decode cX9_isRecord 331 = .ok (.istore 9, 2) := by decide +kernel
theorem dX9_isRecord_333 : decode cX9_isRecord 333 = .ok (.aload_n 0, 1) := by decide +kernel
theorem dX9_isRecord_334 : decode cX9_isRecord 334 = .ok (.iload_n 1, 1) := by decide +kernel
theorem dX9_isRecord_335 : decode cX9_isRecord 335 = .ok (.bipush 10, 2) := by decide +kernel
theorem dX9_isRecord_337 : decode cX9_isRecord 337 = .ok (.iadd, 1) := by decide +kernel
theorem dX9_isRecord_338 : decode cX9_isRecord 338 = .ok (.iconst 4, 1) := by decide +kernel
theorem dX9_isRecord_339 : decode cX9_isRecord 339 = .ok (.invokevirtual 266, 3) := by decide +kernel
theorem dX9_isRecord_342 : decode cX9_isRecord 342 = .ok (.istore 10, 2) := by decide +kernel
theorem dX9_isRecord_344 : decode cX9_isRecord 344 = .ok (.iload 6, 2) := by decide +kernel
theorem dX9_isRecord_346 : decode cX9_isRecord 346 = .ok (.ifCond .eq 30, 3) := by decide +kernel
theorem dX9_isRecord_349 : decode cX9_isRecord 349 = .ok (.iload 8, 2) := by decide +kernel
theorem dX9_isRecord_351 : decode cX9_isRecord 351 = .ok (.ifCond .eq 20, 3) := by decide +kernel
theorem dX9_isRecord_354 : decode cX9_isRecord 354 = .ok (.iload 10, 2) := by decide +kernel
theorem dX9_isRecord_356 : decode cX9_isRecord 356 = .ok (.ifCond .le 20, 3) := by decide +kernel
theorem dX9_isRecord_359 : decode cX9_isRecord 359 = .ok (.iload 10, 2) := by decide +kernel
theorem dX9_isRecord_361 : decode cX9_isRecord 361 = .ok (.sipush 2048, 3) := by decide +kernel
theorem dX9_isRecord_364 : decode cX9_isRecord 364 = .ok (.irem, 1) := by decide +kernel
theorem dX9_isRecord_365 : decode cX9_isRecord 365 = .ok (.ifCond .eq 17, 3) := by decide +kernel
theorem dX9_isRecord_368 : decode cX9_isRecord 368 = .ok (.goto 8, 3) := by decide +kernel
theorem dX9_isRecord_371 : decode cX9_isRecord 371 = .ok (.iload 10, 2) := by decide +kernel
theorem dX9_isRecord_373 : decode cX9_isRecord 373 = .ok (.ifCond .ge 9, 3) := by decide +kernel
theorem dX9_isRecord_376 : decode cX9_isRecord 376 = .ok (.aload_n 0, 1) := by decide +kernel
theorem dX9_isRecord_377 : decode cX9_isRecord 377 = .ok (.iload_n 1, 1) := by decide +kernel
theorem dX9_isRecord_378 : decode cX9_isRecord 378 = .ok (.invokevirtual 263, 3) := by decide +kernel
theorem dX9_isRecord_381 : decode cX9_isRecord 381 = .ok (.ireturn, 1) := by decide +kernel
theorem dX9_isRecord_382 : decode cX9_isRecord 382 = .ok (.iload 10, 2) := by decide +kernel
theorem dX9_isRecord_384 : decode cX9_isRecord 384 = .ok (.ifCond .ne 22, 3) := by decide +kernel
theorem dX9_isRecord_387 : decode cX9_isRecord 387 = .ok (.iload 9, 2) := by decide +kernel
theorem dX9_isRecord_389 : decode cX9_isRecord 389 = .ok (.ifCond .eq 11, 3) := by decide +kernel
theorem dX9_isRecord_392 : decode cX9_isRecord 392 = .ok (.aload_n 0, 1) := by decide +kernel
theorem dX9_isRecord_393 : decode cX9_isRecord 393 = .ok (.iload_n 1, 1) := by decide +kernel
theorem dX9_isRecord_394 : decode cX9_isRecord 394 = .ok (.invokevirtual 263, 3) := by decide +kernel
theorem dX9_isRecord_397 : decode cX9_isRecord 397 = .ok (.ifCond .eq 7, 3) := by decide +kernel
theorem dX9_isRecord_400 : decode cX9_isRecord 400 = .ok (.iconst 1, 1) := by decide +kernel
theorem dX9_isRecord_401 : decode cX9_isRecord 401 = .ok (.goto 4, 3) := by decide +kernel
theorem dX9_isRecord_404 : decode cX9_isRecord 404 = .ok (.iconst 0, 1) := by decide +kernel
theorem dX9_isRecord_405 : decode cX9_isRecord 405 = .ok (.ireturn, 1) := by decide +kernel
theorem dX9_isRecord_406 : decode cX9_isRecord 406 = .ok (.aload_n 0, 1) := by decide +kernel
theorem dX9_isRecord_407 : decode cX9_isRecord 407 = .ok (.iload 9, 2) := by decide +kernel
theorem dX9_isRecord_409 : decode cX9_isRecord 409 = .ok (.iload 10, 2) := by decide +kernel
theorem dX9_isRecord_411 : decode cX9_isRecord 411 = .ok (.i2l, 1) := by decide +kernel
theorem dX9_isRecord_412 : decode cX9_isRecord 412 = .ok (.ldc2_w 275, 3) := by decide +kernel
theorem dX9_isRecord_415 : decode cX9_isRecord 415 = .ok (.ladd, 1) := by decide +kernel
theorem dX9_isRecord_416 : decode cX9_isRecord 416 = .ok (.ldc2_w 277, 3) := by decide +kernel
theorem dX9_isRecord_419 : decode cX9_isRecord 419 = .ok (.ldiv, 1) := by decide +kernel
theorem dX9_isRecord_420 : decode cX9_isRecord 420 = .ok (.invokevirtual 279, 3) := by decide +kernel
theorem dX9_isRecord_423 : decode cX9_isRecord 423 = .ok (.ifCond .ne 11, 3) := by decide +kernel
theorem dX9_isRecord_426 : decode cX9_isRecord 426 = .ok (.aload_n 0, 1) := by decide +kernel
theorem dX9_isRecord_427 : decode cX9_isRecord 427 = .ok (.iload_n 1, 1) := by decide +kernel
theorem dX9_isRecord_428 : decode cX9_isRecord 428 = .ok (.invokevirtual 263, 3) := by decide +kernel
theorem dX9_isRecord_431 : decode cX9_isRecord 431 = .ok (.ifCond .eq 7, 3) := by decide +kernel
theorem dX9_isRecord_434 : decode cX9_isRecord 434 = .ok (.iconst 1, 1) := by decide +kernel
theorem dX9_isRecord_435 : decode cX9_isRecord 435 = .ok (.goto 4, 3) := by decide +kernel
theorem dX9_isRecord_438 : decode cX9_isRecord 438 = .ok (.iconst 0, 1) := by decide +kernel
theorem dX9_isRecord_439 : decode cX9_isRecord 439 = .ok (.ireturn, 1) := by decide +kernel
/-- WriteOnceDiscModel.isRecord(II)Z -/
def wX9_isRecord_L434 (post : Int32 → Hp → Prop) (σ : Hp) : Prop :=
post (1 : Int32) σ
def wX9_isRecord_L400 (post : Int32 → Hp → Prop) (σ : Hp) : Prop :=
post (1 : Int32) σ
def wX9_isRecord_L382 (post : Int32 → Hp → Prop) (x0 : Nat) (x1 : Int32) (x9 : Int32) (x10 : Int32) (σ : Hp) : Prop :=
((¬ x10 = 0 →
  (tg_ σ x0 = 9 ∧ (wX9_areWritten x0 x9 (((x10).toInt64 + (2047 : Int64)) / (2048 : Int64)) σ (fun r3 => ((¬ r3 = 0 →
   wX9_isRecord_L434 post σ) ∧
  (r3 = 0 →
   (wX9_no x0 x1 σ (fun r5 σ6 => ((r5 = 0 →
    post (0 : Int32) σ6) ∧
   (¬ r5 = 0 →
    wX9_isRecord_L434 post σ6)))))))))) ∧
 (x10 = 0 →
  ((x9 = 0 →
   wX9_isRecord_L400 post σ) ∧
  (¬ x9 = 0 →
   (tg_ σ x0 = 9 ∧ (wX9_no x0 x1 σ (fun r10 σ11 => ((r10 = 0 →
    post (0 : Int32) σ11) ∧
   (¬ r10 = 0 →
    wX9_isRecord_L400 post σ11)))))))))
def wX9_isRecord_L376 (post : Int32 → Hp → Prop) (x0 : Nat) (x1 : Int32) (σ : Hp) : Prop :=
(tg_ σ x0 = 9 ∧ (wX9_no x0 x1 σ (fun r14 σ15 => (nr_ .boolean r14 ∧ post r14 σ15))))
def wX9_isRecord_L323 (post : Int32 → Hp → Prop) (x0 : Nat) (x1 : Int32) (x6 : Int32) (x8 : Int32) (σ : Hp) : Prop :=
(tg_ σ x0 = 9 ∧ (wX9_lowAt x0 (x1 + (2 : Int32)) (4 : Int32) σ (fun r18 => (wX9_lowAt x0 (x1 + (10 : Int32)) (4 : Int32) σ (fun r19 => ((x6 = 0 →
  wX9_isRecord_L376 post x0 x1 σ) ∧
 (¬ x6 = 0 →
  ((x8 = 0 →
   ((0 ≤ r19 →
    wX9_isRecord_L382 post x0 x1 r18 r19 σ) ∧
   (¬ 0 ≤ r19 →
    wX9_isRecord_L376 post x0 x1 σ))) ∧
  (¬ x8 = 0 →
   ((r19 ≤ 0 →
    wX9_isRecord_L376 post x0 x1 σ) ∧
   (¬ r19 ≤ 0 →
    (((r19 - r19 / (2048 : Int32) * (2048 : Int32)) = 0 →
     wX9_isRecord_L382 post x0 x1 r18 r19 σ) ∧
    (¬ (r19 - r19 / (2048 : Int32) * (2048 : Int32)) = 0 →
     wX9_isRecord_L376 post x0 x1 σ)))))))))))))
def wX9_isRecord_L321 (post : Int32 → Hp → Prop) (x0 : Nat) (x1 : Int32) (x8 : Int32) (s0 : Int32) (σ : Hp) : Prop :=
wX9_isRecord_L323 post x0 x1 s0 x8 σ
def wX9_isRecord_L320 (post : Int32 → Hp → Prop) (x0 : Nat) (x1 : Int32) (x8 : Int32) (σ : Hp) : Prop :=
wX9_isRecord_L321 post x0 x1 x8 (0 : Int32) σ
def wX9_isRecord_L228 (post : Int32 → Hp → Prop) (x0 : Nat) (x1 : Int32) (x8 : Int32) (s0 : Int32) (σ : Hp) : Prop :=
wX9_isRecord_L323 post x0 x1 s0 x8 σ
def wX9_isRecord_L227 (post : Int32 → Hp → Prop) (x0 : Nat) (x1 : Int32) (x8 : Int32) (σ : Hp) : Prop :=
wX9_isRecord_L228 post x0 x1 x8 (0 : Int32) σ
def wX9_isRecord_L193 (post : Int32 → Hp → Prop) (x0 : Nat) (x1 : Int32) (x2 : Int32) (x5 : Int32) (s0 : Int32) (σ : Hp) : Prop :=
(((2 : Int32) ≤ x2 →
  ((s0 = 0 →
   (tg_ σ x0 = 9 ∧ (wX9_isName x0 (x1 + (33 : Int32)) (x5 - (3 : Int32)) σ (fun r28 => ((r28 = 0 →
    wX9_isRecord_L320 post x0 x1 s0 σ) ∧
   (¬ r28 = 0 →
    (wX9_get x0 ((x1 + (30 : Int32)) + x5) σ (fun r30 => ((¬ r30 = (46 : Int32) →
     wX9_isRecord_L320 post x0 x1 s0 σ) ∧
    (r30 = (46 : Int32) →
     (wX9_get x0 ((x1 + (31 : Int32)) + x5) σ (fun r32 => ((¬ r32 = (59 : Int32) →
      wX9_isRecord_L320 post x0 x1 s0 σ) ∧
     (r32 = (59 : Int32) →
      (wX9_get x0 ((x1 + (32 : Int32)) + x5) σ (fun r34 => ((¬ r34 = (49 : Int32) →
       wX9_isRecord_L320 post x0 x1 s0 σ) ∧
      (r34 = (49 : Int32) →
       wX9_isRecord_L321 post x0 x1 s0 (1 : Int32) σ)))))))))))))))))) ∧
  (¬ s0 = 0 →
   (tg_ σ x0 = 9 ∧ (wX9_isName x0 (x1 + (33 : Int32)) x5 σ (fun r37 => wX9_isRecord_L323 post x0 x1 r37 s0 σ)))))) ∧
 (¬ (2 : Int32) ≤ x2 →
  ((s0 = 0 →
   wX9_isRecord_L227 post x0 x1 s0 σ) ∧
  (¬ s0 = 0 →
   ((¬ x5 = (1 : Int32) →
    wX9_isRecord_L227 post x0 x1 s0 σ) ∧
   (x5 = (1 : Int32) →
    (tg_ σ x0 = 9 ∧ (wX9_get x0 (x1 + (33 : Int32)) σ (fun r41 => ((¬ r41 = x2 →
     wX9_isRecord_L227 post x0 x1 s0 σ) ∧
    (r41 = x2 →
     wX9_isRecord_L228 post x0 x1 s0 (1 : Int32) σ)))))))))))
def wX9_isRecord_L182 (post : Int32 → Hp → Prop) (x0 : Nat) (x1 : Int32) (x2 : Int32) (x5 : Int32) (x7 : Int32) (σ : Hp) : Prop :=
((¬ x7 = (2 : Int32) →
  wX9_isRecord_L193 post x0 x1 x2 x5 (0 : Int32) σ) ∧
 (x7 = (2 : Int32) →
  wX9_isRecord_L193 post x0 x1 x2 x5 (1 : Int32) σ))
def wX9_isRecord_L176 (post : Int32 → Hp → Prop) (x0 : Nat) (x1 : Int32) (σ : Hp) : Prop :=
(tg_ σ x0 = 9 ∧ (wX9_no x0 x1 σ (fun r45 σ46 => (nr_ .boolean r45 ∧ post r45 σ46))))
def wX9_isRecord_L148 (post : Int32 → Hp → Prop) (x0 : Nat) (x1 : Int32) (x2 : Int32) (x5 : Int32) (s0 : Int32) (σ : Hp) : Prop :=
(tg_ σ x0 = 9 ∧ (wX9_get x0 (x1 + (25 : Int32)) σ (fun r49 => ((s0 = 0 →
  wX9_isRecord_L176 post x0 x1 σ) ∧
 (¬ s0 = 0 →
  ((r49 = 0 →
   wX9_isRecord_L182 post x0 x1 x2 x5 r49 σ) ∧
  (¬ r49 = 0 →
   ((r49 = (2 : Int32) →
    wX9_isRecord_L182 post x0 x1 x2 x5 r49 σ) ∧
   (¬ r49 = (2 : Int32) →
    wX9_isRecord_L176 post x0 x1 σ)))))))))
def wX9_isRecord_L147 (post : Int32 → Hp → Prop) (x0 : Nat) (x1 : Int32) (x2 : Int32) (x5 : Int32) (σ : Hp) : Prop :=
wX9_isRecord_L148 post x0 x1 x2 x5 (0 : Int32) σ
def wX9_isRecord_L81 (post : Int32 → Hp → Prop) (x0 : Nat) (x1 : Int32) (x2 : Int32) (x5 : Int32) (σ : Hp) : Prop :=
(tg_ σ x0 = 9 ∧ (wX9_lowAt x0 (x1 + (2 : Int32)) (4 : Int32) σ (fun r54 => (wX9_highAt x0 (x1 + (6 : Int32)) (4 : Int32) σ (fun r55 => ((¬ r54 = r55 →
  wX9_isRecord_L147 post x0 x1 x2 x5 σ) ∧
 (r54 = r55 →
  (wX9_lowAt x0 (x1 + (10 : Int32)) (4 : Int32) σ (fun r57 => (wX9_highAt x0 (x1 + (14 : Int32)) (4 : Int32) σ (fun r58 => ((¬ r57 = r58 →
   wX9_isRecord_L147 post x0 x1 x2 x5 σ) ∧
  (r57 = r58 →
   (wX9_lowAt x0 (x1 + (28 : Int32)) (2 : Int32) σ (fun r60 => (wX9_highAt x0 (x1 + (30 : Int32)) (2 : Int32) σ (fun r61 => ((¬ r60 = r61 →
    wX9_isRecord_L147 post x0 x1 x2 x5 σ) ∧
   (r60 = r61 →
    wX9_isRecord_L148 post x0 x1 x2 x5 (1 : Int32) σ)))))))))))))))))))
def wX9_isRecord_L30 (post : Int32 → Hp → Prop) (x0 : Nat) (x1 : Int32) (σ : Hp) : Prop :=
(tg_ σ x0 = 9 ∧ (wX9_no x0 x1 σ (fun r64 σ65 => (nr_ .boolean r64 ∧ post r64 σ65))))
def wX9_isRecord (x0 : Nat) (x1 : Int32) (x2 : Int32) (σ : Hp) (post : Int32 → Hp → Prop) : Prop :=
(∀ y67 : Int32, y67 = ((2048 : Int32) - (x1 - x1 / (2048 : Int32) * (2048 : Int32))) → (tg_ σ x0 = 9 ∧ (wX9_get x0 x1 σ (fun r69 => ((r69 < (34 : Int32) →
  wX9_isRecord_L30 post x0 x1 σ) ∧
 (¬ r69 < (34 : Int32) →
  ((r69 ≤ y67 →
   (wX9_get x0 (x1 + (32 : Int32)) σ (fun r72 => (wX9_even ((33 : Int32) + r72) σ (fun r73 => ((¬ r69 = r73 →
    wX9_isRecord_L147 post x0 x1 x2 r72 σ) ∧
   (r69 = r73 →
    (((r72 - r72 / (2 : Int32) * (2 : Int32)) = (1 : Int32) →
     wX9_isRecord_L81 post x0 x1 x2 r72 σ) ∧
    (¬ (r72 - r72 / (2 : Int32) * (2 : Int32)) = (1 : Int32) →
     (wX9_get x0 ((x1 + (33 : Int32)) + r72) σ (fun r76 => ((¬ r76 = 0 →
      wX9_isRecord_L147 post x0 x1 x2 r72 σ) ∧
     (r76 = 0 →
      wX9_isRecord_L81 post x0 x1 x2 r72 σ))))))))))))) ∧
  (¬ r69 ≤ y67 →
   wX9_isRecord_L30 post x0 x1 σ))))))))
set_option maxHeartbeats 4000000 in
theorem sX9_isRecord_L434 {G : GG_} {p : Program} {l : Launch} {e : Env} {R : Room} {s : State} {m : MethodId} {args : Array Value} {below : List Frame} {meth : Method} {c : Code} (Y : MX_ G p R s m args meth c cX9_isRecord 11 RX9 (some Jvm.ClassFile.FieldType.boolean) 4 87 0 0 "isRecord") {post : Int32 → Hp → Prop} {σ : Hp} (hf : wX9_isRecord_L434 post σ) : WG_ G p l e R s m args below meth c (MQ below (QI_ G post) args s 0 0 (FR_ G)) BN_ 11 434 [] [] σ := by
  have ⟨X, hlk, hr, hRf, hRl, hRc, hnm⟩ := Y
  have ⟨⟨hx, hb, _, hown, hts⟩, _, _⟩ := X
  intro H locs cells slots ls hP hL hB hl
  obtain ⟨rfl, rfl⟩ := hB
  unfold wX9_isRecord_L434 at hf
  refine lv_iconst (v := 1) hx hb dX9_isRecord_434 (by decide) ?_
  refine lv_goto (tgt := 439) hx hb dX9_isRecord_435 (by decide) ?_
  exact p_zret X hlk hP hL (Nat.le_refl _) (Nat.le_refl _) hr nr_1 dX9_isRecord_439 hf
set_option maxHeartbeats 4000000 in
theorem sX9_isRecord_L400 {G : GG_} {p : Program} {l : Launch} {e : Env} {R : Room} {s : State} {m : MethodId} {args : Array Value} {below : List Frame} {meth : Method} {c : Code} (Y : MX_ G p R s m args meth c cX9_isRecord 11 RX9 (some Jvm.ClassFile.FieldType.boolean) 4 87 0 0 "isRecord") {post : Int32 → Hp → Prop} {σ : Hp} (hf : wX9_isRecord_L400 post σ) : WG_ G p l e R s m args below meth c (MQ below (QI_ G post) args s 0 0 (FR_ G)) BN_ 11 400 [] [] σ := by
  have ⟨X, hlk, hr, hRf, hRl, hRc, hnm⟩ := Y
  have ⟨⟨hx, hb, _, hown, hts⟩, _, _⟩ := X
  intro H locs cells slots ls hP hL hB hl
  obtain ⟨rfl, rfl⟩ := hB
  unfold wX9_isRecord_L400 at hf
  refine lv_iconst (v := 1) hx hb dX9_isRecord_400 (by decide) ?_
  refine lv_goto (tgt := 405) hx hb dX9_isRecord_401 (by decide) ?_
  exact p_zret X hlk hP hL (Nat.le_refl _) (Nat.le_refl _) hr nr_1 dX9_isRecord_405 hf
set_option maxHeartbeats 4000000 in
theorem sX9_isRecord_L382 {G : GG_} {p : Program} {l : Launch} {e : Env} {R : Room} {s : State} {m : MethodId} {args : Array Value} {below : List Frame} {meth : Method} {c : Code} (Y : MX_ G p R s m args meth c cX9_isRecord 11 RX9 (some Jvm.ClassFile.FieldType.boolean) 4 87 0 0 "isRecord") {post : Int32 → Hp → Prop} {x0 : Nat} {x1 : Int32} {x9 : Int32} {x10 : Int32} {σ : Hp} (hf : wX9_isRecord_L382 post x0 x1 x9 x10 σ) : WG_ G p l e R s m args below meth c (MQ below (QI_ G post) args s 0 0 (FR_ G)) BN_ 11 382 [(0, rv_ x0), (1, .int x1), (9, .int x9), (10, .int x10)] [] σ := by
  have ⟨X, hlk, hr, hRf, hRl, hRc, hnm⟩ := Y
  have ⟨⟨hx, hb, _, hown, hts⟩, _, _⟩ := X
  intro H locs cells slots ls hP hL hB hl
  obtain ⟨rfl, rfl⟩ := hB
  unfold wX9_isRecord_L382 at hf
  refine lv_iload hx hb dX9_isRecord_382 (lv_at hl 3 rfl) ?_
  refine lv_if_ne (tgt := 406) hx hb dX9_isRecord_384 (by decide) (fun c1 => ?_) (fun c1 => ?_)
  · have hf := hf.1 c1
    refine p_aload_n hx hb dX9_isRecord_406 rfl (lv_at hl 0 rfl) ?_
    refine lv_iload hx hb dX9_isRecord_407 (lv_at hl 2 rfl) ?_
    refine lv_iload hx hb dX9_isRecord_409 (lv_at hl 3 rfl) ?_
    refine lv_i2l hx hb dX9_isRecord_411 rfl ?_
    refine lv_ldc2 hx hb hown (hts _ q1639) dX9_isRecord_412 ?_
    refine lv_ladd hx hb dX9_isRecord_415 ?_
    refine lv_ldc2 hx hb hown (hts _ q1640) dX9_isRecord_416 ?_
    refine lv_ldiv hx hb dX9_isRecord_419 (by decide) ?_
    obtain ⟨ht2, hf⟩ := hf
    refine p_calli hL (p_runV X cf8_ hP ht2 (metX9_areWritten l G _ _ _ _ _ X.2.2 hf) (cwV 2 hts (lw_V q1641 q1643 qs78 q106 q1644) rfl rfl rfl (by decide +kernel) ⟨Nat.le_trans (Nat.le_of_ble_eq_true rfl) hRf, Nat.le_trans (Nat.le_of_ble_eq_true rfl) hRl⟩) rfl hl.1 rfl (by decide) dX9_isRecord_420 ⟨Nat.zero_le _, Nat.zero_le _⟩) (fun r3 σ₁ H locs hf hP hL => ?_)
    obtain ⟨e₁, hf⟩ := hf
    rw [e₁] at hP
    refine lv_if_ne (tgt := 434) hx hb dX9_isRecord_423 (by decide) (fun c4 => ?_) (fun c4 => ?_)
    · have hf := hf.1 c4
      exact sX9_isRecord_L434 Y hf _ _ _ _ _ hP hL ⟨rfl, rfl⟩ (lv_sub hl [] rfl)
    · have hf := hf.2 c4
      refine p_aload_n hx hb dX9_isRecord_426 rfl (lv_at hl 0 rfl) ?_
      refine lv_iload_n hx hb dX9_isRecord_427 rfl (lv_at hl 1 rfl) ?_
      refine p_calli hL (p_runV X cf8_ hP ht2 (metX9_no l G _ _ _ _ X.2.2 hf) (cwV 1 hts (lw_V q1619 q1621 qs73 q106 q1622) rfl rfl rfl (by decide +kernel) ⟨Nat.le_trans (Nat.le_of_ble_eq_true rfl) hRf, Nat.le_trans (Nat.le_of_ble_eq_true rfl) hRl⟩) rfl hl.1 rfl (by decide) dX9_isRecord_428 ⟨Nat.zero_le _, Nat.zero_le _⟩) (fun r5 σ6 H locs hf hP hL => ?_)
      refine lv_if_eq (tgt := 438) hx hb dX9_isRecord_431 (by decide) (fun c7 => ?_) (fun c7 => ?_)
      · have hf := hf.1 c7
        refine lv_iconst (v := 0) hx hb dX9_isRecord_438 (by decide) ?_
        exact p_zret X hlk hP hL (Nat.le_refl _) (Nat.le_refl _) hr nr_0 dX9_isRecord_439 hf
      · have hf := hf.2 c7
        exact sX9_isRecord_L434 Y hf _ _ _ _ _ hP hL ⟨rfl, rfl⟩ (lv_sub hl [] rfl)
  · have hf := hf.2 c1
    refine lv_iload hx hb dX9_isRecord_387 (lv_at hl 2 rfl) ?_
    refine lv_if_eq (tgt := 400) hx hb dX9_isRecord_389 (by decide) (fun c8 => ?_) (fun c8 => ?_)
    · have hf := hf.1 c8
      exact sX9_isRecord_L400 Y hf _ _ _ _ _ hP hL ⟨rfl, rfl⟩ (lv_sub hl [] rfl)
    · have hf := hf.2 c8
      refine p_aload_n hx hb dX9_isRecord_392 rfl (lv_at hl 0 rfl) ?_
      refine lv_iload_n hx hb dX9_isRecord_393 rfl (lv_at hl 1 rfl) ?_
      obtain ⟨ht9, hf⟩ := hf
      refine p_calli hL (p_runV X cf8_ hP ht9 (metX9_no l G _ _ _ _ X.2.2 hf) (cwV 1 hts (lw_V q1619 q1621 qs73 q106 q1622) rfl rfl rfl (by decide +kernel) ⟨Nat.le_trans (Nat.le_of_ble_eq_true rfl) hRf, Nat.le_trans (Nat.le_of_ble_eq_true rfl) hRl⟩) rfl hl.1 rfl (by decide) dX9_isRecord_394 ⟨Nat.zero_le _, Nat.zero_le _⟩) (fun r10 σ11 H locs hf hP hL => ?_)
      refine lv_if_eq (tgt := 404) hx hb dX9_isRecord_397 (by decide) (fun c12 => ?_) (fun c12 => ?_)
      · have hf := hf.1 c12
        refine lv_iconst (v := 0) hx hb dX9_isRecord_404 (by decide) ?_
        exact p_zret X hlk hP hL (Nat.le_refl _) (Nat.le_refl _) hr nr_0 dX9_isRecord_405 hf
      · have hf := hf.2 c12
        exact sX9_isRecord_L400 Y hf _ _ _ _ _ hP hL ⟨rfl, rfl⟩ (lv_sub hl [] rfl)
set_option maxHeartbeats 4000000 in
theorem sX9_isRecord_L376 {G : GG_} {p : Program} {l : Launch} {e : Env} {R : Room} {s : State} {m : MethodId} {args : Array Value} {below : List Frame} {meth : Method} {c : Code} (Y : MX_ G p R s m args meth c cX9_isRecord 11 RX9 (some Jvm.ClassFile.FieldType.boolean) 4 87 0 0 "isRecord") {post : Int32 → Hp → Prop} {x0 : Nat} {x1 : Int32} {σ : Hp} (hf : wX9_isRecord_L376 post x0 x1 σ) : WG_ G p l e R s m args below meth c (MQ below (QI_ G post) args s 0 0 (FR_ G)) BN_ 11 376 [(0, rv_ x0), (1, .int x1)] [] σ := by
  have ⟨X, hlk, hr, hRf, hRl, hRc, hnm⟩ := Y
  have ⟨⟨hx, hb, _, hown, hts⟩, _, _⟩ := X
  intro H locs cells slots ls hP hL hB hl
  obtain ⟨rfl, rfl⟩ := hB
  unfold wX9_isRecord_L376 at hf
  refine p_aload_n hx hb dX9_isRecord_376 rfl (lv_at hl 0 rfl) ?_
  refine lv_iload_n hx hb dX9_isRecord_377 rfl (lv_at hl 1 rfl) ?_
  obtain ⟨ht13, hf⟩ := hf
  refine p_calli hL (p_runV X cf8_ hP ht13 (metX9_no l G _ _ _ _ X.2.2 hf) (cwV 1 hts (lw_V q1619 q1621 qs73 q106 q1622) rfl rfl rfl (by decide +kernel) ⟨Nat.le_trans (Nat.le_of_ble_eq_true rfl) hRf, Nat.le_trans (Nat.le_of_ble_eq_true rfl) hRl⟩) rfl hl.1 rfl (by decide) dX9_isRecord_378 ⟨Nat.zero_le _, Nat.zero_le _⟩) (fun r14 σ15 H locs hf hP hL => ?_)
  obtain ⟨hn16, hf⟩ := hf
  exact p_zret X hlk hP hL (Nat.le_refl _) (Nat.le_refl _) hr hn16 dX9_isRecord_381 hf
set_option maxHeartbeats 4000000 in
theorem sX9_isRecord_L323 {G : GG_} {p : Program} {l : Launch} {e : Env} {R : Room} {s : State} {m : MethodId} {args : Array Value} {below : List Frame} {meth : Method} {c : Code} (Y : MX_ G p R s m args meth c cX9_isRecord 11 RX9 (some Jvm.ClassFile.FieldType.boolean) 4 87 0 0 "isRecord") {post : Int32 → Hp → Prop} {x0 : Nat} {x1 : Int32} {x6 : Int32} {x8 : Int32} {σ : Hp} (hf : wX9_isRecord_L323 post x0 x1 x6 x8 σ) : WG_ G p l e R s m args below meth c (MQ below (QI_ G post) args s 0 0 (FR_ G)) BN_ 11 323 [(0, rv_ x0), (1, .int x1), (6, .int x6), (8, .int x8)] [] σ := by
  have ⟨X, hlk, hr, hRf, hRl, hRc, hnm⟩ := Y
  have ⟨⟨hx, hb, _, hown, hts⟩, _, _⟩ := X
  intro H locs cells slots ls hP hL hB hl
  obtain ⟨rfl, rfl⟩ := hB
  unfold wX9_isRecord_L323 at hf
  refine p_aload_n hx hb dX9_isRecord_323 rfl (lv_at hl 0 rfl) ?_
  refine lv_iload_n hx hb dX9_isRecord_324 rfl (lv_at hl 1 rfl) ?_
  refine lv_iconst (v := 2) hx hb dX9_isRecord_325 (by decide) ?_
  refine lv_iadd hx hb dX9_isRecord_326 ?_
  refine lv_iconst (v := 4) hx hb dX9_isRecord_327 (by decide) ?_
  obtain ⟨ht17, hf⟩ := hf
  refine p_calli hL (p_runV X cf8_ hP ht17 (metX9_lowAt l G _ _ _ _ _ X.2.2 hf) (cwV 2 hts (lw_V q1607 q1609 qs70 q106 q1610) rfl rfl rfl (by decide +kernel) ⟨Nat.le_trans (Nat.le_of_ble_eq_true rfl) hRf, Nat.le_trans (Nat.le_of_ble_eq_true rfl) hRl⟩) rfl hl.1 rfl (by decide) dX9_isRecord_328 ⟨Nat.zero_le _, Nat.zero_le _⟩) (fun r18 σ₁ H locs hf hP hL => ?_)
  obtain ⟨e₁, hf⟩ := hf
  rw [e₁] at hP
  refine p_istore (i := 9) hx hb dX9_isRecord_331 hl (by decide) ⟨⟨ne_ rfl, Or.inl (ne_ rfl)⟩, ⟨⟨ne_ rfl, Or.inl (ne_ rfl)⟩, ⟨⟨ne_ rfl, Or.inl (ne_ rfl)⟩, ⟨⟨ne_ rfl, Or.inr rfl⟩, trivial⟩⟩⟩⟩ (fun ls hl => ?_)
  refine p_aload_n hx hb dX9_isRecord_333 rfl (lv_at hl 1 rfl) ?_
  refine lv_iload_n hx hb dX9_isRecord_334 rfl (lv_at hl 2 rfl) ?_
  refine lv_bipush (v := 10) hx hb dX9_isRecord_335 (by decide) ?_
  refine lv_iadd hx hb dX9_isRecord_337 ?_
  refine lv_iconst (v := 4) hx hb dX9_isRecord_338 (by decide) ?_
  refine p_calli hL (p_runV X cf8_ hP ht17 (metX9_lowAt l G _ _ _ _ _ X.2.2 hf) (cwV 2 hts (lw_V q1607 q1609 qs70 q106 q1610) rfl rfl rfl (by decide +kernel) ⟨Nat.le_trans (Nat.le_of_ble_eq_true rfl) hRf, Nat.le_trans (Nat.le_of_ble_eq_true rfl) hRl⟩) rfl hl.1 rfl (by decide) dX9_isRecord_339 ⟨Nat.zero_le _, Nat.zero_le _⟩) (fun r19 σ₁ H locs hf hP hL => ?_)
  obtain ⟨e₁, hf⟩ := hf
  rw [e₁] at hP
  refine p_istore (i := 10) hx hb dX9_isRecord_342 hl (by decide) ⟨⟨ne_ rfl, Or.inr rfl⟩, ⟨⟨ne_ rfl, Or.inl (ne_ rfl)⟩, ⟨⟨ne_ rfl, Or.inl (ne_ rfl)⟩, ⟨⟨ne_ rfl, Or.inl (ne_ rfl)⟩, ⟨⟨ne_ rfl, Or.inl (ne_ rfl)⟩, trivial⟩⟩⟩⟩⟩ (fun ls hl => ?_)
  refine lv_iload hx hb dX9_isRecord_344 (lv_at hl 4 rfl) ?_
  refine lv_if_eq (tgt := 376) hx hb dX9_isRecord_346 (by decide) (fun c20 => ?_) (fun c20 => ?_)
  · have hf := hf.1 c20
    exact sX9_isRecord_L376 Y hf _ _ _ _ _ hP hL ⟨rfl, rfl⟩ (lv_sub hl [2, 3] rfl)
  · have hf := hf.2 c20
    refine lv_iload hx hb dX9_isRecord_349 (lv_at hl 5 rfl) ?_
    refine lv_if_eq (tgt := 371) hx hb dX9_isRecord_351 (by decide) (fun c21 => ?_) (fun c21 => ?_)
    · have hf := hf.1 c21
      refine lv_iload hx hb dX9_isRecord_371 (lv_at hl 0 rfl) ?_
      refine lv_if_ge (tgt := 382) hx hb dX9_isRecord_373 (by decide) (fun c22 => ?_) (fun c22 => ?_)
      · have hf := hf.1 c22
        exact sX9_isRecord_L382 Y hf _ _ _ _ _ hP hL ⟨rfl, rfl⟩ (lv_sub hl [2, 3, 1, 0] rfl)
      · have hf := hf.2 c22
        exact sX9_isRecord_L376 Y hf _ _ _ _ _ hP hL ⟨rfl, rfl⟩ (lv_sub hl [2, 3] rfl)
    · have hf := hf.2 c21
      refine lv_iload hx hb dX9_isRecord_354 (lv_at hl 0 rfl) ?_
      refine lv_if_le (tgt := 376) hx hb dX9_isRecord_356 (by decide) (fun c23 => ?_) (fun c23 => ?_)
      · have hf := hf.1 c23
        exact sX9_isRecord_L376 Y hf _ _ _ _ _ hP hL ⟨rfl, rfl⟩ (lv_sub hl [2, 3] rfl)
      · have hf := hf.2 c23
        refine lv_iload hx hb dX9_isRecord_359 (lv_at hl 0 rfl) ?_
        refine lv_sipush (v := 2048) hx hb dX9_isRecord_361 (by decide) ?_
        refine lv_irem hx hb dX9_isRecord_364 (by decide) ?_
        refine lv_if_eq (tgt := 382) hx hb dX9_isRecord_365 (by decide) (fun c24 => ?_) (fun c24 => ?_)
        · have hf := hf.1 c24
          exact sX9_isRecord_L382 Y hf _ _ _ _ _ hP hL ⟨rfl, rfl⟩ (lv_sub hl [2, 3, 1, 0] rfl)
        · have hf := hf.2 c24
          refine lv_goto (tgt := 376) hx hb dX9_isRecord_368 (by decide) ?_
          exact sX9_isRecord_L376 Y hf _ _ _ _ _ hP hL ⟨rfl, rfl⟩ (lv_sub hl [2, 3] rfl)
set_option maxHeartbeats 4000000 in
theorem sX9_isRecord_L321 {G : GG_} {p : Program} {l : Launch} {e : Env} {R : Room} {s : State} {m : MethodId} {args : Array Value} {below : List Frame} {meth : Method} {c : Code} (Y : MX_ G p R s m args meth c cX9_isRecord 11 RX9 (some Jvm.ClassFile.FieldType.boolean) 4 87 0 0 "isRecord") {post : Int32 → Hp → Prop} {x0 : Nat} {x1 : Int32} {x8 : Int32} {s0 : Int32} {σ : Hp} (hf : wX9_isRecord_L321 post x0 x1 x8 s0 σ) : WG_ G p l e R s m args below meth c (MQ below (QI_ G post) args s 0 0 (FR_ G)) BN_ 11 321 [(0, rv_ x0), (1, .int x1), (8, .int x8)] [.int s0] σ := by
  have ⟨X, hlk, hr, hRf, hRl, hRc, hnm⟩ := Y
  have ⟨⟨hx, hb, _, hown, hts⟩, _, _⟩ := X
  intro H locs cells slots ls hP hL hB hl
  obtain ⟨rfl, rfl⟩ := hB
  unfold wX9_isRecord_L321 at hf
  refine p_istore (i := 6) hx hb dX9_isRecord_321 hl (by decide) ⟨⟨ne_ rfl, Or.inl (ne_ rfl)⟩, ⟨⟨ne_ rfl, Or.inl (ne_ rfl)⟩, ⟨⟨ne_ rfl, Or.inl (ne_ rfl)⟩, trivial⟩⟩⟩ (fun ls hl => ?_)
  exact sX9_isRecord_L323 Y hf _ _ _ _ _ hP hL ⟨rfl, rfl⟩ (lv_sub hl [1, 2, 0, 3] rfl)
set_option maxHeartbeats 4000000 in
theorem sX9_isRecord_L320 {G : GG_} {p : Program} {l : Launch} {e : Env} {R : Room} {s : State} {m : MethodId} {args : Array Value} {below : List Frame} {meth : Method} {c : Code} (Y : MX_ G p R s m args meth c cX9_isRecord 11 RX9 (some Jvm.ClassFile.FieldType.boolean) 4 87 0 0 "isRecord") {post : Int32 → Hp → Prop} {x0 : Nat} {x1 : Int32} {x8 : Int32} {σ : Hp} (hf : wX9_isRecord_L320 post x0 x1 x8 σ) : WG_ G p l e R s m args below meth c (MQ below (QI_ G post) args s 0 0 (FR_ G)) BN_ 11 320 [(0, rv_ x0), (1, .int x1), (8, .int x8)] [] σ := by
  have ⟨X, hlk, hr, hRf, hRl, hRc, hnm⟩ := Y
  have ⟨⟨hx, hb, _, hown, hts⟩, _, _⟩ := X
  intro H locs cells slots ls hP hL hB hl
  obtain ⟨rfl, rfl⟩ := hB
  unfold wX9_isRecord_L320 at hf
  refine lv_iconst (v := 0) hx hb dX9_isRecord_320 (by decide) ?_
  exact sX9_isRecord_L321 Y hf _ _ _ _ _ hP hL ⟨rfl, rfl⟩ (lv_sub hl [0, 1, 2] rfl)
set_option maxHeartbeats 4000000 in
theorem sX9_isRecord_L228 {G : GG_} {p : Program} {l : Launch} {e : Env} {R : Room} {s : State} {m : MethodId} {args : Array Value} {below : List Frame} {meth : Method} {c : Code} (Y : MX_ G p R s m args meth c cX9_isRecord 11 RX9 (some Jvm.ClassFile.FieldType.boolean) 4 87 0 0 "isRecord") {post : Int32 → Hp → Prop} {x0 : Nat} {x1 : Int32} {x8 : Int32} {s0 : Int32} {σ : Hp} (hf : wX9_isRecord_L228 post x0 x1 x8 s0 σ) : WG_ G p l e R s m args below meth c (MQ below (QI_ G post) args s 0 0 (FR_ G)) BN_ 11 228 [(0, rv_ x0), (1, .int x1), (8, .int x8)] [.int s0] σ := by
  have ⟨X, hlk, hr, hRf, hRl, hRc, hnm⟩ := Y
  have ⟨⟨hx, hb, _, hown, hts⟩, _, _⟩ := X
  intro H locs cells slots ls hP hL hB hl
  obtain ⟨rfl, rfl⟩ := hB
  unfold wX9_isRecord_L228 at hf
  refine p_istore (i := 6) hx hb dX9_isRecord_228 hl (by decide) ⟨⟨ne_ rfl, Or.inl (ne_ rfl)⟩, ⟨⟨ne_ rfl, Or.inl (ne_ rfl)⟩, ⟨⟨ne_ rfl, Or.inl (ne_ rfl)⟩, trivial⟩⟩⟩ (fun ls hl => ?_)
  refine lv_goto (tgt := 323) hx hb dX9_isRecord_230 (by decide) ?_
  exact sX9_isRecord_L323 Y hf _ _ _ _ _ hP hL ⟨rfl, rfl⟩ (lv_sub hl [1, 2, 0, 3] rfl)
set_option maxHeartbeats 4000000 in
theorem sX9_isRecord_L227 {G : GG_} {p : Program} {l : Launch} {e : Env} {R : Room} {s : State} {m : MethodId} {args : Array Value} {below : List Frame} {meth : Method} {c : Code} (Y : MX_ G p R s m args meth c cX9_isRecord 11 RX9 (some Jvm.ClassFile.FieldType.boolean) 4 87 0 0 "isRecord") {post : Int32 → Hp → Prop} {x0 : Nat} {x1 : Int32} {x8 : Int32} {σ : Hp} (hf : wX9_isRecord_L227 post x0 x1 x8 σ) : WG_ G p l e R s m args below meth c (MQ below (QI_ G post) args s 0 0 (FR_ G)) BN_ 11 227 [(0, rv_ x0), (1, .int x1), (8, .int x8)] [] σ := by
  have ⟨X, hlk, hr, hRf, hRl, hRc, hnm⟩ := Y
  have ⟨⟨hx, hb, _, hown, hts⟩, _, _⟩ := X
  intro H locs cells slots ls hP hL hB hl
  obtain ⟨rfl, rfl⟩ := hB
  unfold wX9_isRecord_L227 at hf
  refine lv_iconst (v := 0) hx hb dX9_isRecord_227 (by decide) ?_
  exact sX9_isRecord_L228 Y hf _ _ _ _ _ hP hL ⟨rfl, rfl⟩ (lv_sub hl [0, 1, 2] rfl)
set_option maxHeartbeats 4000000 in
theorem sX9_isRecord_L193 {G : GG_} {p : Program} {l : Launch} {e : Env} {R : Room} {s : State} {m : MethodId} {args : Array Value} {below : List Frame} {meth : Method} {c : Code} (Y : MX_ G p R s m args meth c cX9_isRecord 11 RX9 (some Jvm.ClassFile.FieldType.boolean) 4 87 0 0 "isRecord") {post : Int32 → Hp → Prop} {x0 : Nat} {x1 : Int32} {x2 : Int32} {x5 : Int32} {s0 : Int32} {σ : Hp} (hf : wX9_isRecord_L193 post x0 x1 x2 x5 s0 σ) : WG_ G p l e R s m args below meth c (MQ below (QI_ G post) args s 0 0 (FR_ G)) BN_ 11 193 [(0, rv_ x0), (1, .int x1), (2, .int x2), (5, .int x5)] [.int s0] σ := by
  have ⟨X, hlk, hr, hRf, hRl, hRc, hnm⟩ := Y
  have ⟨⟨hx, hb, _, hown, hts⟩, _, _⟩ := X
  intro H locs cells slots ls hP hL hB hl
  obtain ⟨rfl, rfl⟩ := hB
  unfold wX9_isRecord_L193 at hf
  refine p_istore (i := 8) hx hb dX9_isRecord_193 hl (by decide) ⟨⟨ne_ rfl, Or.inl (ne_ rfl)⟩, ⟨⟨ne_ rfl, Or.inl (ne_ rfl)⟩, ⟨⟨ne_ rfl, Or.inl (ne_ rfl)⟩, ⟨⟨ne_ rfl, Or.inl (ne_ rfl)⟩, trivial⟩⟩⟩⟩ (fun ls hl => ?_)
  refine lv_iload_n hx hb dX9_isRecord_195 rfl (lv_at hl 3 rfl) ?_
  refine lv_iconst (v := 2) hx hb dX9_isRecord_196 (by decide) ?_
  refine lv_icmp_ge (tgt := 233) hx hb dX9_isRecord_197 (by decide) (fun c25 => ?_) (fun c25 => ?_)
  · have hf := hf.1 c25
    refine lv_iload hx hb dX9_isRecord_233 (lv_at hl 0 rfl) ?_
    refine lv_if_eq (tgt := 253) hx hb dX9_isRecord_235 (by decide) (fun c26 => ?_) (fun c26 => ?_)
    · have hf := hf.1 c26
      refine p_aload_n hx hb dX9_isRecord_253 rfl (lv_at hl 1 rfl) ?_
      refine lv_iload_n hx hb dX9_isRecord_254 rfl (lv_at hl 2 rfl) ?_
      refine lv_bipush (v := 33) hx hb dX9_isRecord_255 (by decide) ?_
      refine lv_iadd hx hb dX9_isRecord_257 ?_
      refine lv_iload hx hb dX9_isRecord_258 (lv_at hl 4 rfl) ?_
      refine lv_iconst (v := 3) hx hb dX9_isRecord_260 (by decide) ?_
      refine lv_isub hx hb dX9_isRecord_261 ?_
      obtain ⟨ht27, hf⟩ := hf
      refine p_calli hL (p_runV X cf8_ hP ht27 (metX9_isName l G _ _ _ _ _ X.2.2 hf) (cwV 2 hts (lw_V q1635 q1637 qs77 q106 q1638) rfl rfl rfl (by decide +kernel) ⟨Nat.le_trans (Nat.le_of_ble_eq_true rfl) hRf, Nat.le_trans (Nat.le_of_ble_eq_true rfl) hRl⟩) rfl hl.1 rfl (by decide) dX9_isRecord_262 ⟨Nat.zero_le _, Nat.zero_le _⟩) (fun r28 σ₁ H locs hf hP hL => ?_)
      obtain ⟨e₁, hf⟩ := hf
      rw [e₁] at hP
      refine lv_if_eq (tgt := 320) hx hb dX9_isRecord_265 (by decide) (fun c29 => ?_) (fun c29 => ?_)
      · have hf := hf.1 c29
        exact sX9_isRecord_L320 Y hf _ _ _ _ _ hP hL ⟨rfl, rfl⟩ (lv_sub hl [1, 2, 0] rfl)
      · have hf := hf.2 c29
        refine p_aload_n hx hb dX9_isRecord_268 rfl (lv_at hl 1 rfl) ?_
        refine lv_iload_n hx hb dX9_isRecord_269 rfl (lv_at hl 2 rfl) ?_
        refine lv_bipush (v := 30) hx hb dX9_isRecord_270 (by decide) ?_
        refine lv_iadd hx hb dX9_isRecord_272 ?_
        refine lv_iload hx hb dX9_isRecord_273 (lv_at hl 4 rfl) ?_
        refine lv_iadd hx hb dX9_isRecord_275 ?_
        refine p_calli hL (p_runV X cf8_ hP ht27 (metX9_get l G _ _ _ _ X.2.2 hf) (cwV 1 hts (lw_V q1508 q1510 qs52 q106 q1511) rfl rfl rfl (by decide +kernel) ⟨Nat.le_trans (Nat.le_of_ble_eq_true rfl) hRf, Nat.le_trans (Nat.le_of_ble_eq_true rfl) hRl⟩) rfl hl.1 rfl (by decide) dX9_isRecord_276 ⟨Nat.zero_le _, Nat.zero_le _⟩) (fun r30 σ₁ H locs hf hP hL => ?_)
        obtain ⟨e₁, hf⟩ := hf
        rw [e₁] at hP
        refine lv_bipush (v := 46) hx hb dX9_isRecord_279 (by decide) ?_
        refine lv_icmp_ne (tgt := 320) hx hb dX9_isRecord_281 (by decide) (fun c31 => ?_) (fun c31 => ?_)
        · have hf := hf.1 c31
          exact sX9_isRecord_L320 Y hf _ _ _ _ _ hP hL ⟨rfl, rfl⟩ (lv_sub hl [1, 2, 0] rfl)
        · have hf := hf.2 c31
          refine p_aload_n hx hb dX9_isRecord_284 rfl (lv_at hl 1 rfl) ?_
          refine lv_iload_n hx hb dX9_isRecord_285 rfl (lv_at hl 2 rfl) ?_
          refine lv_bipush (v := 31) hx hb dX9_isRecord_286 (by decide) ?_
          refine lv_iadd hx hb dX9_isRecord_288 ?_
          refine lv_iload hx hb dX9_isRecord_289 (lv_at hl 4 rfl) ?_
          refine lv_iadd hx hb dX9_isRecord_291 ?_
          refine p_calli hL (p_runV X cf8_ hP ht27 (metX9_get l G _ _ _ _ X.2.2 hf) (cwV 1 hts (lw_V q1508 q1510 qs52 q106 q1511) rfl rfl rfl (by decide +kernel) ⟨Nat.le_trans (Nat.le_of_ble_eq_true rfl) hRf, Nat.le_trans (Nat.le_of_ble_eq_true rfl) hRl⟩) rfl hl.1 rfl (by decide) dX9_isRecord_292 ⟨Nat.zero_le _, Nat.zero_le _⟩) (fun r32 σ₁ H locs hf hP hL => ?_)
          obtain ⟨e₁, hf⟩ := hf
          rw [e₁] at hP
          refine lv_bipush (v := 59) hx hb dX9_isRecord_295 (by decide) ?_
          refine lv_icmp_ne (tgt := 320) hx hb dX9_isRecord_297 (by decide) (fun c33 => ?_) (fun c33 => ?_)
          · have hf := hf.1 c33
            exact sX9_isRecord_L320 Y hf _ _ _ _ _ hP hL ⟨rfl, rfl⟩ (lv_sub hl [1, 2, 0] rfl)
          · have hf := hf.2 c33
            refine p_aload_n hx hb dX9_isRecord_300 rfl (lv_at hl 1 rfl) ?_
            refine lv_iload_n hx hb dX9_isRecord_301 rfl (lv_at hl 2 rfl) ?_
            refine lv_bipush (v := 32) hx hb dX9_isRecord_302 (by decide) ?_
            refine lv_iadd hx hb dX9_isRecord_304 ?_
            refine lv_iload hx hb dX9_isRecord_305 (lv_at hl 4 rfl) ?_
            refine lv_iadd hx hb dX9_isRecord_307 ?_
            refine p_calli hL (p_runV X cf8_ hP ht27 (metX9_get l G _ _ _ _ X.2.2 hf) (cwV 1 hts (lw_V q1508 q1510 qs52 q106 q1511) rfl rfl rfl (by decide +kernel) ⟨Nat.le_trans (Nat.le_of_ble_eq_true rfl) hRf, Nat.le_trans (Nat.le_of_ble_eq_true rfl) hRl⟩) rfl hl.1 rfl (by decide) dX9_isRecord_308 ⟨Nat.zero_le _, Nat.zero_le _⟩) (fun r34 σ₁ H locs hf hP hL => ?_)
            obtain ⟨e₁, hf⟩ := hf
            rw [e₁] at hP
            refine lv_bipush (v := 49) hx hb dX9_isRecord_311 (by decide) ?_
            refine lv_icmp_ne (tgt := 320) hx hb dX9_isRecord_313 (by decide) (fun c35 => ?_) (fun c35 => ?_)
            · have hf := hf.1 c35
              exact sX9_isRecord_L320 Y hf _ _ _ _ _ hP hL ⟨rfl, rfl⟩ (lv_sub hl [1, 2, 0] rfl)
            · have hf := hf.2 c35
              refine lv_iconst (v := 1) hx hb dX9_isRecord_316 (by decide) ?_
              refine lv_goto (tgt := 321) hx hb dX9_isRecord_317 (by decide) ?_
              exact sX9_isRecord_L321 Y hf _ _ _ _ _ hP hL ⟨rfl, rfl⟩ (lv_sub hl [1, 2, 0] rfl)
    · have hf := hf.2 c26
      refine p_aload_n hx hb dX9_isRecord_238 rfl (lv_at hl 1 rfl) ?_
      refine lv_iload_n hx hb dX9_isRecord_239 rfl (lv_at hl 2 rfl) ?_
      refine lv_bipush (v := 33) hx hb dX9_isRecord_240 (by decide) ?_
      refine lv_iadd hx hb dX9_isRecord_242 ?_
      refine lv_iload hx hb dX9_isRecord_243 (lv_at hl 4 rfl) ?_
      obtain ⟨ht36, hf⟩ := hf
      refine p_calli hL (p_runV X cf8_ hP ht36 (metX9_isName l G _ _ _ _ _ X.2.2 hf) (cwV 2 hts (lw_V q1635 q1637 qs77 q106 q1638) rfl rfl rfl (by decide +kernel) ⟨Nat.le_trans (Nat.le_of_ble_eq_true rfl) hRf, Nat.le_trans (Nat.le_of_ble_eq_true rfl) hRl⟩) rfl hl.1 rfl (by decide) dX9_isRecord_245 ⟨Nat.zero_le _, Nat.zero_le _⟩) (fun r37 σ₁ H locs hf hP hL => ?_)
      obtain ⟨e₁, hf⟩ := hf
      rw [e₁] at hP
      have hl := lv_sub hl [0, 1, 2] rfl
      refine p_istore (i := 6) hx hb dX9_isRecord_248 hl (by decide) ⟨⟨ne_ rfl, Or.inl (ne_ rfl)⟩, ⟨⟨ne_ rfl, Or.inl (ne_ rfl)⟩, ⟨⟨ne_ rfl, Or.inl (ne_ rfl)⟩, trivial⟩⟩⟩ (fun ls hl => ?_)
      refine lv_goto (tgt := 323) hx hb dX9_isRecord_250 (by decide) ?_
      exact sX9_isRecord_L323 Y hf _ _ _ _ _ hP hL ⟨rfl, rfl⟩ (lv_sub hl [2, 3, 0, 1] rfl)
  · have hf := hf.2 c25
    refine lv_iload hx hb dX9_isRecord_200 (lv_at hl 0 rfl) ?_
    refine lv_if_eq (tgt := 227) hx hb dX9_isRecord_202 (by decide) (fun c38 => ?_) (fun c38 => ?_)
    · have hf := hf.1 c38
      exact sX9_isRecord_L227 Y hf _ _ _ _ _ hP hL ⟨rfl, rfl⟩ (lv_sub hl [1, 2, 0] rfl)
    · have hf := hf.2 c38
      refine lv_iload hx hb dX9_isRecord_205 (lv_at hl 4 rfl) ?_
      refine lv_iconst (v := 1) hx hb dX9_isRecord_207 (by decide) ?_
      refine lv_icmp_ne (tgt := 227) hx hb dX9_isRecord_208 (by decide) (fun c39 => ?_) (fun c39 => ?_)
      · have hf := hf.1 c39
        exact sX9_isRecord_L227 Y hf _ _ _ _ _ hP hL ⟨rfl, rfl⟩ (lv_sub hl [1, 2, 0] rfl)
      · have hf := hf.2 c39
        refine p_aload_n hx hb dX9_isRecord_211 rfl (lv_at hl 1 rfl) ?_
        refine lv_iload_n hx hb dX9_isRecord_212 rfl (lv_at hl 2 rfl) ?_
        refine lv_bipush (v := 33) hx hb dX9_isRecord_213 (by decide) ?_
        refine lv_iadd hx hb dX9_isRecord_215 ?_
        obtain ⟨ht40, hf⟩ := hf
        refine p_calli hL (p_runV X cf8_ hP ht40 (metX9_get l G _ _ _ _ X.2.2 hf) (cwV 1 hts (lw_V q1508 q1510 qs52 q106 q1511) rfl rfl rfl (by decide +kernel) ⟨Nat.le_trans (Nat.le_of_ble_eq_true rfl) hRf, Nat.le_trans (Nat.le_of_ble_eq_true rfl) hRl⟩) rfl hl.1 rfl (by decide) dX9_isRecord_216 ⟨Nat.zero_le _, Nat.zero_le _⟩) (fun r41 σ₁ H locs hf hP hL => ?_)
        obtain ⟨e₁, hf⟩ := hf
        rw [e₁] at hP
        refine lv_iload_n hx hb dX9_isRecord_219 rfl (lv_at hl 3 rfl) ?_
        refine lv_icmp_ne (tgt := 227) hx hb dX9_isRecord_220 (by decide) (fun c42 => ?_) (fun c42 => ?_)
        · have hf := hf.1 c42
          exact sX9_isRecord_L227 Y hf _ _ _ _ _ hP hL ⟨rfl, rfl⟩ (lv_sub hl [1, 2, 0] rfl)
        · have hf := hf.2 c42
          refine lv_iconst (v := 1) hx hb dX9_isRecord_223 (by decide) ?_
          refine lv_goto (tgt := 228) hx hb dX9_isRecord_224 (by decide) ?_
          exact sX9_isRecord_L228 Y hf _ _ _ _ _ hP hL ⟨rfl, rfl⟩ (lv_sub hl [1, 2, 0] rfl)
set_option maxHeartbeats 4000000 in
theorem sX9_isRecord_L182 {G : GG_} {p : Program} {l : Launch} {e : Env} {R : Room} {s : State} {m : MethodId} {args : Array Value} {below : List Frame} {meth : Method} {c : Code} (Y : MX_ G p R s m args meth c cX9_isRecord 11 RX9 (some Jvm.ClassFile.FieldType.boolean) 4 87 0 0 "isRecord") {post : Int32 → Hp → Prop} {x0 : Nat} {x1 : Int32} {x2 : Int32} {x5 : Int32} {x7 : Int32} {σ : Hp} (hf : wX9_isRecord_L182 post x0 x1 x2 x5 x7 σ) : WG_ G p l e R s m args below meth c (MQ below (QI_ G post) args s 0 0 (FR_ G)) BN_ 11 182 [(0, rv_ x0), (1, .int x1), (2, .int x2), (5, .int x5), (7, .int x7)] [] σ := by
  have ⟨X, hlk, hr, hRf, hRl, hRc, hnm⟩ := Y
  have ⟨⟨hx, hb, _, hown, hts⟩, _, _⟩ := X
  intro H locs cells slots ls hP hL hB hl
  obtain ⟨rfl, rfl⟩ := hB
  unfold wX9_isRecord_L182 at hf
  refine lv_iload hx hb dX9_isRecord_182 (lv_at hl 4 rfl) ?_
  refine lv_iconst (v := 2) hx hb dX9_isRecord_184 (by decide) ?_
  refine lv_icmp_ne (tgt := 192) hx hb dX9_isRecord_185 (by decide) (fun c43 => ?_) (fun c43 => ?_)
  · have hf := hf.1 c43
    refine lv_iconst (v := 0) hx hb dX9_isRecord_192 (by decide) ?_
    exact sX9_isRecord_L193 Y hf _ _ _ _ _ hP hL ⟨rfl, rfl⟩ (lv_sub hl [0, 1, 2, 3] rfl)
  · have hf := hf.2 c43
    refine lv_iconst (v := 1) hx hb dX9_isRecord_188 (by decide) ?_
    refine lv_goto (tgt := 193) hx hb dX9_isRecord_189 (by decide) ?_
    exact sX9_isRecord_L193 Y hf _ _ _ _ _ hP hL ⟨rfl, rfl⟩ (lv_sub hl [0, 1, 2, 3] rfl)
set_option maxHeartbeats 4000000 in
theorem sX9_isRecord_L176 {G : GG_} {p : Program} {l : Launch} {e : Env} {R : Room} {s : State} {m : MethodId} {args : Array Value} {below : List Frame} {meth : Method} {c : Code} (Y : MX_ G p R s m args meth c cX9_isRecord 11 RX9 (some Jvm.ClassFile.FieldType.boolean) 4 87 0 0 "isRecord") {post : Int32 → Hp → Prop} {x0 : Nat} {x1 : Int32} {σ : Hp} (hf : wX9_isRecord_L176 post x0 x1 σ) : WG_ G p l e R s m args below meth c (MQ below (QI_ G post) args s 0 0 (FR_ G)) BN_ 11 176 [(0, rv_ x0), (1, .int x1)] [] σ := by
  have ⟨X, hlk, hr, hRf, hRl, hRc, hnm⟩ := Y
  have ⟨⟨hx, hb, _, hown, hts⟩, _, _⟩ := X
  intro H locs cells slots ls hP hL hB hl
  obtain ⟨rfl, rfl⟩ := hB
  unfold wX9_isRecord_L176 at hf
  refine p_aload_n hx hb dX9_isRecord_176 rfl (lv_at hl 0 rfl) ?_
  refine lv_iload_n hx hb dX9_isRecord_177 rfl (lv_at hl 1 rfl) ?_
  obtain ⟨ht44, hf⟩ := hf
  refine p_calli hL (p_runV X cf8_ hP ht44 (metX9_no l G _ _ _ _ X.2.2 hf) (cwV 1 hts (lw_V q1619 q1621 qs73 q106 q1622) rfl rfl rfl (by decide +kernel) ⟨Nat.le_trans (Nat.le_of_ble_eq_true rfl) hRf, Nat.le_trans (Nat.le_of_ble_eq_true rfl) hRl⟩) rfl hl.1 rfl (by decide) dX9_isRecord_178 ⟨Nat.zero_le _, Nat.zero_le _⟩) (fun r45 σ46 H locs hf hP hL => ?_)
  obtain ⟨hn47, hf⟩ := hf
  exact p_zret X hlk hP hL (Nat.le_refl _) (Nat.le_refl _) hr hn47 dX9_isRecord_181 hf
set_option maxHeartbeats 4000000 in
theorem sX9_isRecord_L148 {G : GG_} {p : Program} {l : Launch} {e : Env} {R : Room} {s : State} {m : MethodId} {args : Array Value} {below : List Frame} {meth : Method} {c : Code} (Y : MX_ G p R s m args meth c cX9_isRecord 11 RX9 (some Jvm.ClassFile.FieldType.boolean) 4 87 0 0 "isRecord") {post : Int32 → Hp → Prop} {x0 : Nat} {x1 : Int32} {x2 : Int32} {x5 : Int32} {s0 : Int32} {σ : Hp} (hf : wX9_isRecord_L148 post x0 x1 x2 x5 s0 σ) : WG_ G p l e R s m args below meth c (MQ below (QI_ G post) args s 0 0 (FR_ G)) BN_ 11 148 [(0, rv_ x0), (1, .int x1), (2, .int x2), (5, .int x5)] [.int s0] σ := by
  have ⟨X, hlk, hr, hRf, hRl, hRc, hnm⟩ := Y
  have ⟨⟨hx, hb, _, hown, hts⟩, _, _⟩ := X
  intro H locs cells slots ls hP hL hB hl
  obtain ⟨rfl, rfl⟩ := hB
  unfold wX9_isRecord_L148 at hf
  refine p_istore (i := 6) hx hb dX9_isRecord_148 hl (by decide) ⟨⟨ne_ rfl, Or.inl (ne_ rfl)⟩, ⟨⟨ne_ rfl, Or.inl (ne_ rfl)⟩, ⟨⟨ne_ rfl, Or.inl (ne_ rfl)⟩, ⟨⟨ne_ rfl, Or.inr rfl⟩, trivial⟩⟩⟩⟩ (fun ls hl => ?_)
  refine p_aload_n hx hb dX9_isRecord_150 rfl (lv_at hl 1 rfl) ?_
  refine lv_iload_n hx hb dX9_isRecord_151 rfl (lv_at hl 2 rfl) ?_
  refine lv_bipush (v := 25) hx hb dX9_isRecord_152 (by decide) ?_
  refine lv_iadd hx hb dX9_isRecord_154 ?_
  obtain ⟨ht48, hf⟩ := hf
  refine p_calli hL (p_runV X cf8_ hP ht48 (metX9_get l G _ _ _ _ X.2.2 hf) (cwV 1 hts (lw_V q1508 q1510 qs52 q106 q1511) rfl rfl rfl (by decide +kernel) ⟨Nat.le_trans (Nat.le_of_ble_eq_true rfl) hRf, Nat.le_trans (Nat.le_of_ble_eq_true rfl) hRl⟩) rfl hl.1 rfl (by decide) dX9_isRecord_155 ⟨Nat.zero_le _, Nat.zero_le _⟩) (fun r49 σ₁ H locs hf hP hL => ?_)
  obtain ⟨e₁, hf⟩ := hf
  rw [e₁] at hP
  refine p_istore (i := 7) hx hb dX9_isRecord_158 hl (by decide) ⟨⟨ne_ rfl, Or.inr rfl⟩, ⟨⟨ne_ rfl, Or.inl (ne_ rfl)⟩, ⟨⟨ne_ rfl, Or.inl (ne_ rfl)⟩, ⟨⟨ne_ rfl, Or.inl (ne_ rfl)⟩, ⟨⟨ne_ rfl, Or.inl (ne_ rfl)⟩, trivial⟩⟩⟩⟩⟩ (fun ls hl => ?_)
  refine lv_iload hx hb dX9_isRecord_160 (lv_at hl 1 rfl) ?_
  refine lv_if_eq (tgt := 176) hx hb dX9_isRecord_162 (by decide) (fun c50 => ?_) (fun c50 => ?_)
  · have hf := hf.1 c50
    exact sX9_isRecord_L176 Y hf _ _ _ _ _ hP hL ⟨rfl, rfl⟩ (lv_sub hl [2, 3] rfl)
  · have hf := hf.2 c50
    refine lv_iload hx hb dX9_isRecord_165 (lv_at hl 0 rfl) ?_
    refine lv_if_eq (tgt := 182) hx hb dX9_isRecord_167 (by decide) (fun c51 => ?_) (fun c51 => ?_)
    · have hf := hf.1 c51
      exact sX9_isRecord_L182 Y hf _ _ _ _ _ hP hL ⟨rfl, rfl⟩ (lv_sub hl [2, 3, 4, 5, 0] rfl)
    · have hf := hf.2 c51
      refine lv_iload hx hb dX9_isRecord_170 (lv_at hl 0 rfl) ?_
      refine lv_iconst (v := 2) hx hb dX9_isRecord_172 (by decide) ?_
      refine lv_icmp_eq (tgt := 182) hx hb dX9_isRecord_173 (by decide) (fun c52 => ?_) (fun c52 => ?_)
      · have hf := hf.1 c52
        exact sX9_isRecord_L182 Y hf _ _ _ _ _ hP hL ⟨rfl, rfl⟩ (lv_sub hl [2, 3, 4, 5, 0] rfl)
      · have hf := hf.2 c52
        exact sX9_isRecord_L176 Y hf _ _ _ _ _ hP hL ⟨rfl, rfl⟩ (lv_sub hl [2, 3] rfl)
set_option maxHeartbeats 4000000 in
theorem sX9_isRecord_L147 {G : GG_} {p : Program} {l : Launch} {e : Env} {R : Room} {s : State} {m : MethodId} {args : Array Value} {below : List Frame} {meth : Method} {c : Code} (Y : MX_ G p R s m args meth c cX9_isRecord 11 RX9 (some Jvm.ClassFile.FieldType.boolean) 4 87 0 0 "isRecord") {post : Int32 → Hp → Prop} {x0 : Nat} {x1 : Int32} {x2 : Int32} {x5 : Int32} {σ : Hp} (hf : wX9_isRecord_L147 post x0 x1 x2 x5 σ) : WG_ G p l e R s m args below meth c (MQ below (QI_ G post) args s 0 0 (FR_ G)) BN_ 11 147 [(0, rv_ x0), (1, .int x1), (2, .int x2), (5, .int x5)] [] σ := by
  have ⟨X, hlk, hr, hRf, hRl, hRc, hnm⟩ := Y
  have ⟨⟨hx, hb, _, hown, hts⟩, _, _⟩ := X
  intro H locs cells slots ls hP hL hB hl
  obtain ⟨rfl, rfl⟩ := hB
  unfold wX9_isRecord_L147 at hf
  refine lv_iconst (v := 0) hx hb dX9_isRecord_147 (by decide) ?_
  exact sX9_isRecord_L148 Y hf _ _ _ _ _ hP hL ⟨rfl, rfl⟩ (lv_sub hl [0, 1, 2, 3] rfl)
set_option maxHeartbeats 4000000 in
theorem sX9_isRecord_L81 {G : GG_} {p : Program} {l : Launch} {e : Env} {R : Room} {s : State} {m : MethodId} {args : Array Value} {below : List Frame} {meth : Method} {c : Code} (Y : MX_ G p R s m args meth c cX9_isRecord 11 RX9 (some Jvm.ClassFile.FieldType.boolean) 4 87 0 0 "isRecord") {post : Int32 → Hp → Prop} {x0 : Nat} {x1 : Int32} {x2 : Int32} {x5 : Int32} {σ : Hp} (hf : wX9_isRecord_L81 post x0 x1 x2 x5 σ) : WG_ G p l e R s m args below meth c (MQ below (QI_ G post) args s 0 0 (FR_ G)) BN_ 11 81 [(0, rv_ x0), (1, .int x1), (2, .int x2), (5, .int x5)] [] σ := by
  have ⟨X, hlk, hr, hRf, hRl, hRc, hnm⟩ := Y
  have ⟨⟨hx, hb, _, hown, hts⟩, _, _⟩ := X
  intro H locs cells slots ls hP hL hB hl
  obtain ⟨rfl, rfl⟩ := hB
  unfold wX9_isRecord_L81 at hf
  refine p_aload_n hx hb dX9_isRecord_81 rfl (lv_at hl 0 rfl) ?_
  refine lv_iload_n hx hb dX9_isRecord_82 rfl (lv_at hl 1 rfl) ?_
  refine lv_iconst (v := 2) hx hb dX9_isRecord_83 (by decide) ?_
  refine lv_iadd hx hb dX9_isRecord_84 ?_
  refine lv_iconst (v := 4) hx hb dX9_isRecord_85 (by decide) ?_
  obtain ⟨ht53, hf⟩ := hf
  refine p_calli hL (p_runV X cf8_ hP ht53 (metX9_lowAt l G _ _ _ _ _ X.2.2 hf) (cwV 2 hts (lw_V q1607 q1609 qs70 q106 q1610) rfl rfl rfl (by decide +kernel) ⟨Nat.le_trans (Nat.le_of_ble_eq_true rfl) hRf, Nat.le_trans (Nat.le_of_ble_eq_true rfl) hRl⟩) rfl hl.1 rfl (by decide) dX9_isRecord_86 ⟨Nat.zero_le _, Nat.zero_le _⟩) (fun r54 σ₁ H locs hf hP hL => ?_)
  obtain ⟨e₁, hf⟩ := hf
  rw [e₁] at hP
  refine p_aload_n hx hb dX9_isRecord_89 rfl (lv_at hl 0 rfl) ?_
  refine lv_iload_n hx hb dX9_isRecord_90 rfl (lv_at hl 1 rfl) ?_
  refine lv_bipush (v := 6) hx hb dX9_isRecord_91 (by decide) ?_
  refine lv_iadd hx hb dX9_isRecord_93 ?_
  refine lv_iconst (v := 4) hx hb dX9_isRecord_94 (by decide) ?_
  refine p_calli hL (p_runV X cf8_ hP ht53 (metX9_highAt l G _ _ _ _ _ X.2.2 hf) (cwV 2 hts (lw_V q1627 q1629 qs75 q106 q1630) rfl rfl rfl (by decide +kernel) ⟨Nat.le_trans (Nat.le_of_ble_eq_true rfl) hRf, Nat.le_trans (Nat.le_of_ble_eq_true rfl) hRl⟩) rfl hl.1 rfl (by rw [(ca_i ca_n)]; decide) dX9_isRecord_95 ⟨Nat.zero_le _, Nat.zero_le _⟩) (fun r55 σ₁ H locs hf hP hL => ?_)
  obtain ⟨e₁, hf⟩ := hf
  rw [e₁] at hP
  refine lv_icmp_ne (tgt := 147) hx hb dX9_isRecord_98 (by decide) (fun c56 => ?_) (fun c56 => ?_)
  · have hf := hf.1 c56
    exact sX9_isRecord_L147 Y hf _ _ _ _ _ hP hL ⟨rfl, rfl⟩ (lv_sub hl [0, 1, 2, 3] rfl)
  · have hf := hf.2 c56
    refine p_aload_n hx hb dX9_isRecord_101 rfl (lv_at hl 0 rfl) ?_
    refine lv_iload_n hx hb dX9_isRecord_102 rfl (lv_at hl 1 rfl) ?_
    refine lv_bipush (v := 10) hx hb dX9_isRecord_103 (by decide) ?_
    refine lv_iadd hx hb dX9_isRecord_105 ?_
    refine lv_iconst (v := 4) hx hb dX9_isRecord_106 (by decide) ?_
    refine p_calli hL (p_runV X cf8_ hP ht53 (metX9_lowAt l G _ _ _ _ _ X.2.2 hf) (cwV 2 hts (lw_V q1607 q1609 qs70 q106 q1610) rfl rfl rfl (by decide +kernel) ⟨Nat.le_trans (Nat.le_of_ble_eq_true rfl) hRf, Nat.le_trans (Nat.le_of_ble_eq_true rfl) hRl⟩) rfl hl.1 rfl (by decide) dX9_isRecord_107 ⟨Nat.zero_le _, Nat.zero_le _⟩) (fun r57 σ₁ H locs hf hP hL => ?_)
    obtain ⟨e₁, hf⟩ := hf
    rw [e₁] at hP
    refine p_aload_n hx hb dX9_isRecord_110 rfl (lv_at hl 0 rfl) ?_
    refine lv_iload_n hx hb dX9_isRecord_111 rfl (lv_at hl 1 rfl) ?_
    refine lv_bipush (v := 14) hx hb dX9_isRecord_112 (by decide) ?_
    refine lv_iadd hx hb dX9_isRecord_114 ?_
    refine lv_iconst (v := 4) hx hb dX9_isRecord_115 (by decide) ?_
    refine p_calli hL (p_runV X cf8_ hP ht53 (metX9_highAt l G _ _ _ _ _ X.2.2 hf) (cwV 2 hts (lw_V q1627 q1629 qs75 q106 q1630) rfl rfl rfl (by decide +kernel) ⟨Nat.le_trans (Nat.le_of_ble_eq_true rfl) hRf, Nat.le_trans (Nat.le_of_ble_eq_true rfl) hRl⟩) rfl hl.1 rfl (by rw [(ca_i ca_n)]; decide) dX9_isRecord_116 ⟨Nat.zero_le _, Nat.zero_le _⟩) (fun r58 σ₁ H locs hf hP hL => ?_)
    obtain ⟨e₁, hf⟩ := hf
    rw [e₁] at hP
    refine lv_icmp_ne (tgt := 147) hx hb dX9_isRecord_119 (by decide) (fun c59 => ?_) (fun c59 => ?_)
    · have hf := hf.1 c59
      exact sX9_isRecord_L147 Y hf _ _ _ _ _ hP hL ⟨rfl, rfl⟩ (lv_sub hl [0, 1, 2, 3] rfl)
    · have hf := hf.2 c59
      refine p_aload_n hx hb dX9_isRecord_122 rfl (lv_at hl 0 rfl) ?_
      refine lv_iload_n hx hb dX9_isRecord_123 rfl (lv_at hl 1 rfl) ?_
      refine lv_bipush (v := 28) hx hb dX9_isRecord_124 (by decide) ?_
      refine lv_iadd hx hb dX9_isRecord_126 ?_
      refine lv_iconst (v := 2) hx hb dX9_isRecord_127 (by decide) ?_
      refine p_calli hL (p_runV X cf8_ hP ht53 (metX9_lowAt l G _ _ _ _ _ X.2.2 hf) (cwV 2 hts (lw_V q1607 q1609 qs70 q106 q1610) rfl rfl rfl (by decide +kernel) ⟨Nat.le_trans (Nat.le_of_ble_eq_true rfl) hRf, Nat.le_trans (Nat.le_of_ble_eq_true rfl) hRl⟩) rfl hl.1 rfl (by decide) dX9_isRecord_128 ⟨Nat.zero_le _, Nat.zero_le _⟩) (fun r60 σ₁ H locs hf hP hL => ?_)
      obtain ⟨e₁, hf⟩ := hf
      rw [e₁] at hP
      refine p_aload_n hx hb dX9_isRecord_131 rfl (lv_at hl 0 rfl) ?_
      refine lv_iload_n hx hb dX9_isRecord_132 rfl (lv_at hl 1 rfl) ?_
      refine lv_bipush (v := 30) hx hb dX9_isRecord_133 (by decide) ?_
      refine lv_iadd hx hb dX9_isRecord_135 ?_
      refine lv_iconst (v := 2) hx hb dX9_isRecord_136 (by decide) ?_
      refine p_calli hL (p_runV X cf8_ hP ht53 (metX9_highAt l G _ _ _ _ _ X.2.2 hf) (cwV 2 hts (lw_V q1627 q1629 qs75 q106 q1630) rfl rfl rfl (by decide +kernel) ⟨Nat.le_trans (Nat.le_of_ble_eq_true rfl) hRf, Nat.le_trans (Nat.le_of_ble_eq_true rfl) hRl⟩) rfl hl.1 rfl (by rw [(ca_i ca_n)]; decide) dX9_isRecord_137 ⟨Nat.zero_le _, Nat.zero_le _⟩) (fun r61 σ₁ H locs hf hP hL => ?_)
      obtain ⟨e₁, hf⟩ := hf
      rw [e₁] at hP
      refine lv_icmp_ne (tgt := 147) hx hb dX9_isRecord_140 (by decide) (fun c62 => ?_) (fun c62 => ?_)
      · have hf := hf.1 c62
        exact sX9_isRecord_L147 Y hf _ _ _ _ _ hP hL ⟨rfl, rfl⟩ (lv_sub hl [0, 1, 2, 3] rfl)
      · have hf := hf.2 c62
        refine lv_iconst (v := 1) hx hb dX9_isRecord_143 (by decide) ?_
        refine lv_goto (tgt := 148) hx hb dX9_isRecord_144 (by decide) ?_
        exact sX9_isRecord_L148 Y hf _ _ _ _ _ hP hL ⟨rfl, rfl⟩ (lv_sub hl [0, 1, 2, 3] rfl)
set_option maxHeartbeats 4000000 in
theorem sX9_isRecord_L30 {G : GG_} {p : Program} {l : Launch} {e : Env} {R : Room} {s : State} {m : MethodId} {args : Array Value} {below : List Frame} {meth : Method} {c : Code} (Y : MX_ G p R s m args meth c cX9_isRecord 11 RX9 (some Jvm.ClassFile.FieldType.boolean) 4 87 0 0 "isRecord") {post : Int32 → Hp → Prop} {x0 : Nat} {x1 : Int32} {σ : Hp} (hf : wX9_isRecord_L30 post x0 x1 σ) : WG_ G p l e R s m args below meth c (MQ below (QI_ G post) args s 0 0 (FR_ G)) BN_ 11 30 [(0, rv_ x0), (1, .int x1)] [] σ := by
  have ⟨X, hlk, hr, hRf, hRl, hRc, hnm⟩ := Y
  have ⟨⟨hx, hb, _, hown, hts⟩, _, _⟩ := X
  intro H locs cells slots ls hP hL hB hl
  obtain ⟨rfl, rfl⟩ := hB
  unfold wX9_isRecord_L30 at hf
  refine p_aload_n hx hb dX9_isRecord_30 rfl (lv_at hl 0 rfl) ?_
  refine lv_iload_n hx hb dX9_isRecord_31 rfl (lv_at hl 1 rfl) ?_
  obtain ⟨ht63, hf⟩ := hf
  refine p_calli hL (p_runV X cf8_ hP ht63 (metX9_no l G _ _ _ _ X.2.2 hf) (cwV 1 hts (lw_V q1619 q1621 qs73 q106 q1622) rfl rfl rfl (by decide +kernel) ⟨Nat.le_trans (Nat.le_of_ble_eq_true rfl) hRf, Nat.le_trans (Nat.le_of_ble_eq_true rfl) hRl⟩) rfl hl.1 rfl (by decide) dX9_isRecord_32 ⟨Nat.zero_le _, Nat.zero_le _⟩) (fun r64 σ65 H locs hf hP hL => ?_)
  obtain ⟨hn66, hf⟩ := hf
  exact p_zret X hlk hP hL (Nat.le_refl _) (Nat.le_refl _) hr hn66 dX9_isRecord_35 hf
set_option maxHeartbeats 4000000 in
theorem sX9_isRecord {G : GG_} {p : Program} {l : Launch} {e : Env} {R : Room} {s : State} {m : MethodId} {args : Array Value} {below : List Frame} {meth : Method} {c : Code} (Y : MX_ G p R s m args meth c cX9_isRecord 11 RX9 (some Jvm.ClassFile.FieldType.boolean) 4 87 0 0 "isRecord") {post : Int32 → Hp → Prop} {x0 : Nat} {x1 : Int32} {x2 : Int32} {σ : Hp} (hf : wX9_isRecord x0 x1 x2 σ post) : WG_ G p l e R s m args below meth c (MQ below (QI_ G post) args s 0 0 (FR_ G)) BN_ 11 0 [(0, rv_ x0), (1, .int x1), (2, .int x2)] [] σ := by
  have ⟨X, hlk, hr, hRf, hRl, hRc, hnm⟩ := Y
  have ⟨⟨hx, hb, _, hown, hts⟩, _, _⟩ := X
  intro H locs cells slots ls hP hL hB hl
  obtain ⟨rfl, rfl⟩ := hB
  unfold wX9_isRecord at hf
  refine lv_sipush (v := 2048) hx hb dX9_isRecord_0 (by decide) ?_
  refine lv_iload_n hx hb dX9_isRecord_3 rfl (lv_at hl 1 rfl) ?_
  refine lv_sipush (v := 2048) hx hb dX9_isRecord_4 (by decide) ?_
  refine lv_irem hx hb dX9_isRecord_7 (by decide) ?_
  refine lv_isub hx hb dX9_isRecord_8 ?_
  refine lv_topi (fun y67 hy67 => ?_)
  have hf := hf y67 hy67
  refine p_istore_n (i := 3) hx hb dX9_isRecord_9 rfl hl (by decide) ⟨⟨ne_ rfl, Or.inl (ne_ rfl)⟩, ⟨⟨ne_ rfl, Or.inl (ne_ rfl)⟩, ⟨⟨ne_ rfl, Or.inr rfl⟩, trivial⟩⟩⟩ (fun ls hl => ?_)
  refine p_aload_n hx hb dX9_isRecord_10 rfl (lv_at hl 1 rfl) ?_
  refine lv_iload_n hx hb dX9_isRecord_11 rfl (lv_at hl 2 rfl) ?_
  obtain ⟨ht68, hf⟩ := hf
  refine p_calli hL (p_runV X cf8_ hP ht68 (metX9_get l G _ _ _ _ X.2.2 hf) (cwV 1 hts (lw_V q1508 q1510 qs52 q106 q1511) rfl rfl rfl (by decide +kernel) ⟨Nat.le_trans (Nat.le_of_ble_eq_true rfl) hRf, Nat.le_trans (Nat.le_of_ble_eq_true rfl) hRl⟩) rfl hl.1 rfl (by decide) dX9_isRecord_12 ⟨Nat.zero_le _, Nat.zero_le _⟩) (fun r69 σ₁ H locs hf hP hL => ?_)
  obtain ⟨e₁, hf⟩ := hf
  rw [e₁] at hP
  refine p_istore (i := 4) hx hb dX9_isRecord_15 hl (by decide) ⟨⟨ne_ rfl, Or.inr rfl⟩, ⟨⟨ne_ rfl, Or.inl (ne_ rfl)⟩, ⟨⟨ne_ rfl, Or.inl (ne_ rfl)⟩, ⟨⟨ne_ rfl, Or.inl (ne_ rfl)⟩, trivial⟩⟩⟩⟩ (fun ls hl => ?_)
  refine lv_iload hx hb dX9_isRecord_17 (lv_at hl 0 rfl) ?_
  refine lv_bipush (v := 34) hx hb dX9_isRecord_19 (by decide) ?_
  refine lv_icmp_lt (tgt := 30) hx hb dX9_isRecord_21 (by decide) (fun c70 => ?_) (fun c70 => ?_)
  · have hf := hf.1 c70
    exact sX9_isRecord_L30 Y hf _ _ _ _ _ hP hL ⟨rfl, rfl⟩ (lv_sub hl [2, 3] rfl)
  · have hf := hf.2 c70
    refine lv_iload hx hb dX9_isRecord_24 (lv_at hl 0 rfl) ?_
    refine lv_iload_n hx hb dX9_isRecord_26 rfl (lv_at hl 1 rfl) ?_
    refine lv_icmp_le (tgt := 36) hx hb dX9_isRecord_27 (by decide) (fun c71 => ?_) (fun c71 => ?_)
    · have hf := hf.1 c71
      refine p_aload_n hx hb dX9_isRecord_36 rfl (lv_at hl 2 rfl) ?_
      refine lv_iload_n hx hb dX9_isRecord_37 rfl (lv_at hl 3 rfl) ?_
      refine lv_bipush (v := 32) hx hb dX9_isRecord_38 (by decide) ?_
      refine lv_iadd hx hb dX9_isRecord_40 ?_
      refine p_calli hL (p_runV X cf8_ hP ht68 (metX9_get l G _ _ _ _ X.2.2 hf) (cwV 1 hts (lw_V q1508 q1510 qs52 q106 q1511) rfl rfl rfl (by decide +kernel) ⟨Nat.le_trans (Nat.le_of_ble_eq_true rfl) hRf, Nat.le_trans (Nat.le_of_ble_eq_true rfl) hRl⟩) rfl hl.1 rfl (by decide) dX9_isRecord_41 ⟨Nat.zero_le _, Nat.zero_le _⟩) (fun r72 σ₁ H locs hf hP hL => ?_)
      obtain ⟨e₁, hf⟩ := hf
      rw [e₁] at hP
      have hl := lv_sub hl [0, 2, 3, 4] rfl
      refine p_istore (i := 5) hx hb dX9_isRecord_44 hl (by decide) ⟨⟨ne_ rfl, Or.inr rfl⟩, ⟨⟨ne_ rfl, Or.inl (ne_ rfl)⟩, ⟨⟨ne_ rfl, Or.inl (ne_ rfl)⟩, ⟨⟨ne_ rfl, Or.inl (ne_ rfl)⟩, trivial⟩⟩⟩⟩ (fun ls hl => ?_)
      refine lv_iload hx hb dX9_isRecord_46 (lv_at hl 1 rfl) ?_
      refine lv_bipush (v := 33) hx hb dX9_isRecord_48 (by decide) ?_
      refine lv_iload hx hb dX9_isRecord_50 (lv_at hl 0 rfl) ?_
      refine lv_iadd hx hb dX9_isRecord_52 ?_
      refine p_calli hL (p_runS X hP (metX9_even l G _ _ _ X.2.2 hf) (va_cwS 1 hts (lw_S q1555 q1556 q106 q1557) rfl rfl rfl (by decide +kernel) ⟨Nat.le_trans (Nat.le_of_ble_eq_true rfl) hRf, Nat.le_trans (Nat.le_of_ble_eq_true rfl) hRl⟩) rfl hl.1 rfl (by rw [(ca_i ca_n)]; decide) dX9_isRecord_53 ⟨Nat.zero_le _, Nat.zero_le _⟩) (fun r73 σ₁ H locs hf hP hL => ?_)
      obtain ⟨e₁, hf⟩ := hf
      rw [e₁] at hP
      refine lv_icmp_ne (tgt := 147) hx hb dX9_isRecord_56 (by decide) (fun c74 => ?_) (fun c74 => ?_)
      · have hf := hf.1 c74
        exact sX9_isRecord_L147 Y hf _ _ _ _ _ hP hL ⟨rfl, rfl⟩ (lv_sub hl [2, 3, 4, 0] rfl)
      · have hf := hf.2 c74
        refine lv_iload hx hb dX9_isRecord_59 (lv_at hl 0 rfl) ?_
        refine lv_iconst (v := 2) hx hb dX9_isRecord_61 (by decide) ?_
        refine lv_irem hx hb dX9_isRecord_62 (by decide) ?_
        refine lv_iconst (v := 1) hx hb dX9_isRecord_63 (by decide) ?_
        refine lv_icmp_eq (tgt := 81) hx hb dX9_isRecord_64 (by decide) (fun c75 => ?_) (fun c75 => ?_)
        · have hf := hf.1 c75
          exact sX9_isRecord_L81 Y hf _ _ _ _ _ hP hL ⟨rfl, rfl⟩ (lv_sub hl [2, 3, 4, 0] rfl)
        · have hf := hf.2 c75
          refine p_aload_n hx hb dX9_isRecord_67 rfl (lv_at hl 2 rfl) ?_
          refine lv_iload_n hx hb dX9_isRecord_68 rfl (lv_at hl 3 rfl) ?_
          refine lv_bipush (v := 33) hx hb dX9_isRecord_69 (by decide) ?_
          refine lv_iadd hx hb dX9_isRecord_71 ?_
          refine lv_iload hx hb dX9_isRecord_72 (lv_at hl 0 rfl) ?_
          refine lv_iadd hx hb dX9_isRecord_74 ?_
          refine p_calli hL (p_runV X cf8_ hP ht68 (metX9_get l G _ _ _ _ X.2.2 hf) (cwV 1 hts (lw_V q1508 q1510 qs52 q106 q1511) rfl rfl rfl (by decide +kernel) ⟨Nat.le_trans (Nat.le_of_ble_eq_true rfl) hRf, Nat.le_trans (Nat.le_of_ble_eq_true rfl) hRl⟩) rfl hl.1 rfl (by decide) dX9_isRecord_75 ⟨Nat.zero_le _, Nat.zero_le _⟩) (fun r76 σ₁ H locs hf hP hL => ?_)
          obtain ⟨e₁, hf⟩ := hf
          rw [e₁] at hP
          refine lv_if_ne (tgt := 147) hx hb dX9_isRecord_78 (by decide) (fun c77 => ?_) (fun c77 => ?_)
          · have hf := hf.1 c77
            exact sX9_isRecord_L147 Y hf _ _ _ _ _ hP hL ⟨rfl, rfl⟩ (lv_sub hl [2, 3, 4, 0] rfl)
          · have hf := hf.2 c77
            exact sX9_isRecord_L81 Y hf _ _ _ _ _ hP hL ⟨rfl, rfl⟩ (lv_sub hl [2, 3, 4, 0] rfl)
    · have hf := hf.2 c71
      exact sX9_isRecord_L30 Y hf _ _ _ _ _ hP hL ⟨rfl, rfl⟩ (lv_sub hl [2, 3] rfl)
set_option maxHeartbeats 4000000 in
theorem metX9_isRecord (l : Launch) (G : GG_) (x0 : Nat) (x1 : Int32) (x2 : Int32) (σ : Hp) (post : Int32 → Hp → Prop) (hG : GOK_ G) (hf : wX9_isRecord x0 x1 x2 σ post) : Met l yX9_isRecord (ws_ yX9_isRecord cX9_isRecord 11 (some Jvm.ClassFile.FieldType.boolean)) { frames := 4, cells := 0, slots := 0, locals := 87 } (PC_ G [rv_ x0, .int x1, .int x2] σ) (QI_ G post) 0 0 (FR_ G) := by
  refine Met.ofW (cc := cX9_isRecord) (maxL := 11) (ret := (some Jvm.ClassFile.FieldType.boolean)) (by decide) rfl ?_
  intro p e s m args below meth c s₁ B hml hv
  obtain ⟨rfl, hP, hW⟩ := hv
  have hts := atoms_spec (ws := ws_ yX9_isRecord cX9_isRecord 11 (some Jvm.ClassFile.FieldType.boolean)) B.pre
  have hts : ∀ w ∈ lw_all, w.before _ s = true := fun w h => hts w (List.mem_cons_of_mem _ h)
  rw [lg_entry_eq]
  have hl := en_entry [rv_ x0, .int x1, .int x2] [1, 1, 1] (n := 11) (ca_r (ca_i (ca_i ca_n))) (by decide)
  exact sX9_isRecord ⟨⟨⟨B.exec, B.bytes, hml, findClass_of_methodNamed B.named, hts⟩, hW, hG⟩, B.notSynchronized, B.returns, Nat.le_refl _, Nat.le_refl _, ⟨rfl, rfl⟩, (name_of_methodNamed B.named B.method).1⟩ hf _ _ _ _ _ hP (LO_nil G) ⟨rfl, rfl⟩ hl
abbrev cX9_begin : ByteArray := prog_11_method_56_code
def yX9_begin : MethodName := ⟨RX9, "begin", "(IIIZ)V"⟩
theorem dX9_begin_0 : decode cX9_begin 0 = .ok (.aload_n 0, 1) := by decide +kernel
theorem dX9_begin_1 : decode cX9_begin 1 = .ok (.getfield 66, 3) := by decide +kernel
theorem dX9_begin_4 : decode cX9_begin 4 = .ok (.iload_n 1, 1) := by decide +kernel
theorem dX9_begin_5 : decode cX9_begin 5 = .ok (.iload_n 2, 1) := by decide +kernel
theorem dX9_begin_6 : decode cX9_begin 6 = .ok (.iastore, 1) := by decide +kernel
theorem dX9_begin_7 : decode cX9_begin 7 = .ok (.aload_n 0, 1) := by decide +kernel
theorem dX9_begin_8 : decode cX9_begin 8 = .ok (.getfield 69, 3) := by decide +kernel
theorem dX9_begin_11 : decode cX9_begin 11 = .ok (.iload_n 1, 1) := by decide +kernel
theorem dX9_begin_12 : decode cX9_begin 12 = .ok (.aload_n 0, 1) := by decide +kernel
theorem dX9_begin_13 : decode cX9_begin 13 = .ok (.iload_n 3, 1) := by decide +kernel
theorem dX9_begin_14 : decode cX9_begin 14 = .ok (.bipush 25, 2) := by decide +kernel
theorem dX9_begin_16 : decode cX9_begin 16 = .ok (.iadd, 1) := by decide +kernel
theorem dX9_begin_17 : decode cX9_begin 17 = .ok (.invokevirtual 225, 3) := by decide +kernel
theorem dX9_begin_20 : decode cX9_begin 20 = .ok (.iconst 2, 1) := by decide +kernel
theorem dX9_begin_21 : decode cX9_begin 21 = .ok (.if_icmp .ne 7, 3) := by decide +kernel
theorem dX9_begin_24 : decode cX9_begin 24 = .ok (.iconst 1, 1) := by decide +kernel
theorem dX9_begin_25 : decode cX9_begin 25 = .ok (.goto 4, 3) := by decide +kernel
theorem dX9_begin_28 : decode cX9_begin 28 = .ok (.iconst 0, 1) := by decide +kernel
theorem dX9_begin_29 : decode cX9_begin 29 = .ok (.bastore, 1) := by decide +kernel
theorem dX9_begin_30 : decode cX9_begin 30 = .ok (.aload_n 0, 1) := by decide +kernel
theorem dX9_begin_31 : decode cX9_begin 31 = .ok (.getfield 72, 3) := by decide +kernel
theorem dX9_begin_34 : decode cX9_begin 34 = .ok (.iload_n 1, 1) := by decide +kernel
theorem dX9_begin_35 : decode cX9_begin 35 = .ok (.aload_n 0, 1) := by decide +kernel
theorem dX9_begin_36 : decode cX9_begin 36 = .ok (.iload_n 3, 1) := by decide +kernel
theorem dX9_begin_37 : decode cX9_begin 37 = .ok (.bipush 10, 2) := by decide +kernel
theorem dX9_begin_39 : decode cX9_begin 39 = .ok (.iadd, 1) := by decide +kernel
theorem dX9_begin_40 : decode cX9_begin 40 = .ok (.iconst 4, 1) := by decide +kernel
theorem dX9_begin_41 : decode cX9_begin 41 = .ok (.invokevirtual 266, 3) := by decide +kernel
theorem dX9_begin_44 : decode cX9_begin 44 = .ok (.iastore, 1) := by decide +kernel
theorem dX9_begin_45 : decode cX9_begin 45 = .ok (.aload_n 0, 1) := by decide +kernel
theorem dX9_begin_46 : decode cX9_begin 46 = .ok (.getfield 75, 3) := by decide +kernel
theorem dX9_begin_49 : decode cX9_begin 49 = .ok (.iload_n 1, 1) := by decide +kernel
theorem dX9_begin_50 : decode cX9_begin 50 = .ok (.aload_n 0, 1) := by decide +kernel
theorem dX9_begin_51 : decode cX9_begin 51 = .ok (.iload_n 3, 1) := by decide +kernel
theorem dX9_begin_52 : decode cX9_begin 52 = .ok (.iconst 2, 1) := by decide +kernel
theorem dX9_begin_53 : decode cX9_begin 53 = .ok (.iadd, 1) := by decide +kernel
theorem dX9_begin_54 : decode cX9_begin 54 = .ok (.iconst 4, 1) := by decide +kernel
theorem dX9_begin_55 : decode cX9_begin 55 = .ok (.invokevirtual 266, 3) := by decide +kernel
theorem dX9_begin_58 : decode cX9_begin 58 = .ok (.iastore, 1) := by decide +kernel
theorem dX9_begin_59 : decode cX9_begin 59 = .ok (.aload_n 0, 1) := by decide +kernel
theorem dX9_begin_60 : decode cX9_begin 60 = .ok (.getfield 81, 3) := by decide +kernel
theorem dX9_begin_63 : decode cX9_begin 63 = .ok (.iload_n 1, 1) := by decide +kernel
theorem dX9_begin_64 : decode cX9_begin 64 = .ok (.iload_n 2, 1) := by decide +kernel
theorem dX9_begin_65 : decode cX9_begin 65 = .ok (.ifCond .ge 7, 3) := by decide +kernel
theorem dX9_begin_68 : decode cX9_begin 68 = .ok (.iconst 0, 1) := by decide +kernel
theorem dX9_begin_69 : decode cX9_begin 69 = .ok (.goto 11, 3) := by decide +kernel
theorem dX9_begin_72 : decode cX9_begin 72 = .ok (.aload_n 0, 1) := by decide +kernel
theorem dX9_begin_73 : decode cX9_begin 73 = .ok (.getfield 81, 3) := by decide +kernel
theorem dX9_begin_76 : decode cX9_begin 76 = .ok (.iload_n 2, 1) := by decide +kernel
theorem dX9_begin_77 : decode cX9_begin 77 = .ok (.iaload, 1) := by decide +kernel
theorem dX9_begin_78 : decode cX9_begin 78 = .ok (.iconst 1, 1) := by decide +kernel
theorem dX9_begin_79 : decode cX9_begin 79 = .ok (.iadd, 1) := by decide +kernel
theorem dX9_begin_80 : decode cX9_begin 80 = .ok (.iastore, 1) := by decide +kernel
theorem dX9_begin_81 : decode cX9_begin 81 = .ok (.aload_n 0, 1) := by decide +kernel
theorem dX9_begin_82 : decode cX9_begin 82 = .ok (.getfield 78, 3) := by decide +kernel
theorem dX9_begin_85 : decode cX9_begin 85 = .ok (.iload_n 1, 1) := by decide +kernel
theorem dX9_begin_86 : decode cX9_begin 86 = .ok (.lconst 0, 1) := by decide +kernel
theorem dX9_begin_87 : decode cX9_begin 87 = .ok (.lastore, 1) := by decide +kernel
theorem dX9_begin_88 : decode cX9_begin 88 = .ok (.iload 4, 2) := by decide +kernel
theorem dX9_begin_90 : decode cX9_begin 90 = .ok (.ifCond .eq 7, 3) := by decide +kernel
theorem dX9_begin_93 : decode cX9_begin 93 = .ok (.iconst 0, 1) := by decide +kernel
theorem dX9_begin_94 : decode cX9_begin 94 = .ok (.goto 33, 3) := by decide +kernel
theorem dX9_begin_97 : decode cX9_begin 97 = .ok (.aload_n 0, 1) := by decide +kernel
theorem dX9_begin_98 : decode cX9_begin 98 = .ok (.getfield 69, 3) := by decide +kernel
theorem dX9_begin_101 : decode cX9_begin 101 = .ok (.iload_n 1, 1) := by decide +kernel
theorem dX9_begin_102 : decode cX9_begin 102 = .ok (.baload, 1) := by decide +kernel
theorem dX9_begin_103 : decode cX9_begin 103 = .ok (.ifCond .eq 14, 3) := by decide +kernel
theorem dX9_begin_106 : decode cX9_begin 106 = .ok (.aload_n 0, 1) := by decide +kernel
theorem dX9_begin_107 : decode cX9_begin 107 = .ok (.iload_n 3, 1) := by decide +kernel
theorem dX9_begin_108 : decode cX9_begin 108 = .ok (.bipush 32, 2) := by decide +kernel
theorem dX9_begin_110 : decode cX9_begin 110 = .ok (.iadd, 1) := by decide +kernel
theorem dX9_begin_111 : decode cX9_begin 111 = .ok (.invokevirtual 225, 3) := by decide +kernel
theorem dX9_begin_114 : decode cX9_begin 114 = .ok (.goto 13, 3) := by decide +kernel
theorem dX9_begin_117 : decode cX9_begin 117 = .ok (.aload_n 0, 1) := by decide +kernel
theorem dX9_begin_118 : decode cX9_begin 118 = .ok (.iload_n 3, 1) := by decide +kernel
theorem dX9_begin_119 : decode cX9_begin 119 = .ok (.bipush 32, 2) := by decide +kernel
theorem dX9_begin_121 : decode cX9_begin 121 = .ok (.iadd, 1) := by decide +kernel
theorem dX9_begin_122 : decode cX9_begin 122 = .ok (.invokevirtual 225, 3) := by decide +kernel
theorem dX9_begin_125 : decode cX9_begin 125 = .ok (.iconst 3, 1) := by decide +kernel
theorem dX9_begin_126 : decode cX9_begin 126 = .ok (.isub, 1) := by decide +kernel
theorem dX9_begin_127 : decode cX9_begin 127 = .ok (.istore 5, 2) := by decide +kernel
theorem dX9_begin_129 : decode cX9_begin 129 = .ok (.iconst 0, 1) := by decide +kernel
theorem dX9_begin_130 : decode cX9_begin 130 = .ok (.istore 6, 2) := by decide +kernel
theorem dX9_begin_132 : decode cX9_begin 132 = .ok (.iload 6, 2) := by decide +kernel
theorem dX9_begin_134 : decode cX9_begin 134 = .ok (.iload 5, 2) := by decide +kernel
theorem dX9_begin_136 : decode cX9_begin 136 = .ok (.if_icmp .ge 37, 3) := by decide +kernel
theorem dX9_begin_139 : decode cX9_begin 139 = .ok (.aload_n 0, 1) := by decide +kernel
theorem dX9_begin_140 : decode cX9_begin 140 = .ok (.getfield 78, 3) := by decide +kernel
theorem dX9_begin_143 : decode cX9_begin 143 = .ok (.iload_n 1, 1) := by decide +kernel
theorem dX9_begin_144 : decode cX9_begin 144 = .ok (.aload_n 0, 1) := by decide +kernel
theorem dX9_begin_145 : decode cX9_begin 145 = .ok (.getfield 78, 3) := by decide +kernel
theorem dX9_begin_148 : decode cX9_begin 148 = .ok (.iload_n 1, 1) := by decide +kernel
theorem dX9_begin_149 : decode cX9_begin 149 = .ok (.laload, 1) := by decide +kernel
theorem dX9_begin_150 : decode cX9_begin 150 = .ok (.bipush 8, 2) := by decide +kernel
theorem dX9_begin_152 : decode cX9_begin 152 = .ok (.lshl, 1) := by decide +kernel
theorem dX9_begin_153 : decode cX9_begin 153 = .ok (.aload_n 0, 1) := by decide +kernel
theorem dX9_begin_154 : decode cX9_begin 154 = .ok (.iload_n 3, 1) := by decide +kernel
theorem dX9_begin_155 : decode cX9_begin 155 = .ok (.bipush 33, 2) := by decide +kernel
theorem dX9_begin_157 : decode cX9_begin 157 = .ok (.iadd, 1) := by decide +kernel
theorem dX9_begin_158 : decode cX9_begin 158 = .ok (.iload 6, 2) := by decide +kernel
theorem dX9_begin_160 : decode cX9_begin 160 = .ok (.iadd, 1) := by decide +kernel
theorem dX9_begin_161 : decode cX9_begin 161 = .ok (.invokevirtual 225, 3) := by decide +kernel
theorem dX9_begin_164 : decode cX9_begin 164 = .ok (.i2l, 1) := by decide +kernel
theorem dX9_begin_165 : decode cX9_begin 165 = .ok (.lor, 1) := by decide +kernel
theorem dX9_begin_166 : decode cX9_begin 166 = .ok (.lastore, 1) := by decide +kernel
theorem dX9_begin_167 : decode cX9_begin 167 = .ok (.iinc 6 1, 3) := by decide +kernel
theorem dX9_begin_170 : decode cX9_begin 170 = .ok (.goto (-38), 3) := by decide +kernel
theorem dX9_begin_173 : decode cX9_begin 173 = .ok (.return_, 1) := by decide +kernel
/-- WriteOnceDiscModel.begin(IIIZ)V -/
def wX9_begin_B132 (post : Hp → Prop) (rc132 : Int32 → Hp → Prop) (x0 : Nat) (x1 : Int32) (x3 : Int32) (x5 : Int32) (x6 : Int32) (σ : Hp) : Prop :=
((x5 ≤ x6 →
  post σ) ∧
 (¬ x5 ≤ x6 →
  (tg_ σ x0 = 9 ∧ (tg_ σ (fR_ σ 8 33 x0) = 103 ∧ (vp_in x1 (ln_ σ (fR_ σ 8 33 x0)) ∧ (wX9_get x0 ((x3 + (33 : Int32)) + x6) σ (fun r5 => (vp_in x1 (ln_ σ (fR_ σ 8 33 x0)) ∧ (∀ σ7, σ7 = wL_ σ (fR_ σ 8 33 x0) (x1).toNatClampNeg (((aL_ σ (fR_ σ 8 33 x0) (x1).toNatClampNeg) <<< (((8 : Int32)).toInt64 &&& 63)) ||| (r5).toInt64) → (∀ y8 : Int32, y8 = x6 + 1 → rc132 y8 σ7))))))))))
def wX9_begin_L132 (post : Hp → Prop) (x0 : Nat) (x1 : Int32) (x3 : Int32) (x5 : Int32) (x6 : Int32) (σ : Hp) : Prop :=
 ∃ (I : Int32 → Hp → Prop) (μ : Int32 → Hp → Nat), I x6 σ ∧ ∀ (x6 : Int32) (σ : Hp), I x6 σ → wX9_begin_B132 post (fun x6' σ' => I x6' σ' ∧ μ x6' σ' < μ x6 σ) x0 x1 x3 x5 x6 σ
def wX9_begin_L127 (post : Hp → Prop) (x0 : Nat) (x1 : Int32) (x3 : Int32) (s0 : Int32) (σ : Hp) : Prop :=
wX9_begin_L132 post x0 x1 x3 s0 (0 : Int32) σ
def wX9_begin_L80 (post : Hp → Prop) (x0 : Nat) (x1 : Int32) (x3 : Int32) (x4 : Int32) (s0 : Int32) (s1 : Int32) (s2 : Nat) (σ : Hp) : Prop :=
(tg_ σ s2 = 102 ∧ (lo_ σ < s2 ∧ (vp_in s1 (ln_ σ s2) ∧ (∀ σ12, σ12 = wI_ σ s2 (s1).toNatClampNeg s0 → (tg_ σ12 x0 = 9 ∧ (tg_ σ12 (fR_ σ12 8 33 x0) = 103 ∧ (vp_in x1 (ln_ σ12 (fR_ σ12 8 33 x0)) ∧ (∀ σ16, σ16 = wL_ σ12 (fR_ σ12 8 33 x0) (x1).toNatClampNeg (0 : Int64) → ((x4 = 0 →
  (tg_ σ16 (fR_ σ16 8 30 x0) = 101 ∧ (vp_in x1 (ln_ σ16 (fR_ σ16 8 30 x0)) ∧ (((aI_ σ16 (fR_ σ16 8 30 x0) (x1).toNatClampNeg) = 0 →
   (wX9_get x0 (x3 + (32 : Int32)) σ16 (fun r21 => wX9_begin_L127 post x0 x1 x3 (r21 - (3 : Int32)) σ16))) ∧
  (¬ (aI_ σ16 (fR_ σ16 8 30 x0) (x1).toNatClampNeg) = 0 →
   (wX9_get x0 (x3 + (32 : Int32)) σ16 (fun r22 => wX9_begin_L127 post x0 x1 x3 r22 σ16))))))) ∧
 (¬ x4 = 0 →
  wX9_begin_L127 post x0 x1 x3 (0 : Int32) σ16))))))))))
def wX9_begin_L29 (post : Hp → Prop) (x0 : Nat) (x1 : Int32) (x2 : Int32) (x3 : Int32) (x4 : Int32) (s0 : Int32) (s1 : Int32) (s2 : Nat) (σ : Hp) : Prop :=
(tg_ σ s2 = 101 ∧ (vp_in s1 (ln_ σ s2) ∧ (∀ σ25, σ25 = wI_ σ s2 (s1).toNatClampNeg (vp_nar .boolean s0) → (tg_ σ25 x0 = 9 ∧ (wX9_lowAt x0 (x3 + (10 : Int32)) (4 : Int32) σ25 (fun r27 => (tg_ σ25 (fR_ σ25 8 31 x0) = 102 ∧ (lo_ σ25 < (fR_ σ25 8 31 x0) ∧ (vp_in x1 (ln_ σ25 (fR_ σ25 8 31 x0)) ∧ (∀ σ31, σ31 = wI_ σ25 (fR_ σ25 8 31 x0) (x1).toNatClampNeg r27 → (wX9_lowAt x0 (x3 + (2 : Int32)) (4 : Int32) σ31 (fun r32 => (tg_ σ31 (fR_ σ31 8 32 x0) = 102 ∧ (lo_ σ31 < (fR_ σ31 8 32 x0) ∧ (vp_in x1 (ln_ σ31 (fR_ σ31 8 32 x0)) ∧ (∀ σ36, σ36 = wI_ σ31 (fR_ σ31 8 32 x0) (x1).toNatClampNeg r32 → ((0 ≤ x2 →
  (tg_ σ36 (fR_ σ36 8 34 x0) = 102 ∧ (vp_in x2 (ln_ σ36 (fR_ σ36 8 34 x0)) ∧ wX9_begin_L80 post x0 x1 x3 x4 ((aI_ σ36 (fR_ σ36 8 34 x0) (x2).toNatClampNeg) + (1 : Int32)) x1 (fR_ σ36 8 34 x0) σ36))) ∧
 (¬ 0 ≤ x2 →
  wX9_begin_L80 post x0 x1 x3 x4 (0 : Int32) x1 (fR_ σ36 8 34 x0) σ36))))))))))))))))))
def wX9_begin (x0 : Nat) (x1 : Int32) (x2 : Int32) (x3 : Int32) (x4 : Int32) (σ : Hp) (post : Hp → Prop) : Prop :=
(tg_ σ x0 = 9 ∧ (tg_ σ (fR_ σ 8 29 x0) = 102 ∧ (lo_ σ < (fR_ σ 8 29 x0) ∧ (vp_in x1 (ln_ σ (fR_ σ 8 29 x0)) ∧ (∀ σ44, σ44 = wI_ σ (fR_ σ 8 29 x0) (x1).toNatClampNeg x2 → (wX9_get x0 (x3 + (25 : Int32)) σ44 (fun r45 => ((¬ r45 = (2 : Int32) →
  wX9_begin_L29 post x0 x1 x2 x3 x4 (0 : Int32) x1 (fR_ σ44 8 30 x0) σ44) ∧
 (r45 = (2 : Int32) →
  wX9_begin_L29 post x0 x1 x2 x3 x4 (1 : Int32) x1 (fR_ σ44 8 30 x0) σ44)))))))))
set_option maxHeartbeats 4000000 in
theorem sX9_begin_B132 {G : GG_} {p : Program} {l : Launch} {e : Env} {R : Room} {s : State} {m : MethodId} {args : Array Value} {below : List Frame} {meth : Method} {c : Code} (Y : MX_ G p R s m args meth c cX9_begin 7 RX9 none 3 65 0 0 "begin") {post : Hp → Prop} {rc132 : Int32 → Hp → Prop} {x0 : Nat} {x1 : Int32} {x3 : Int32} {x5 : Int32} {x6 : Int32} {σ : Hp} (hrc132 : ∀ (x6 : Int32) (σ : Hp), rc132 x6 σ → WG_ G p l e R s m args below meth c (MQ below (QV_ G post) args s 0 0 (FR_ G)) BN_ 7 132 [(0, rv_ x0), (1, .int x1), (3, .int x3), (5, .int x5), (6, .int x6)] [] σ) (hf : wX9_begin_B132 post rc132 x0 x1 x3 x5 x6 σ) : WG_ G p l e R s m args below meth c (MQ below (QV_ G post) args s 0 0 (FR_ G)) BN_ 7 132 [(0, rv_ x0), (1, .int x1), (3, .int x3), (5, .int x5), (6, .int x6)] [] σ := by
  have ⟨X, hlk, hr, hRf, hRl, hRc, hnm⟩ := Y
  have ⟨⟨hx, hb, _, hown, hts⟩, _, _⟩ := X
  intro H locs cells slots ls hP hL hB hl
  obtain ⟨rfl, rfl⟩ := hB
  unfold wX9_begin_B132 at hf
  refine lv_iload hx hb dX9_begin_132 (lv_at hl 4 rfl) ?_
  refine lv_iload hx hb dX9_begin_134 (lv_at hl 3 rfl) ?_
  refine lv_icmp_ge (tgt := 173) hx hb dX9_begin_136 (by decide) (fun c1 => ?_) (fun c1 => ?_)
  · have hf := hf.1 c1
    exact p_vret X hlk hP hL (Nat.le_refl _) (Nat.le_refl _) hr dX9_begin_173 hf
  · have hf := hf.2 c1
    refine p_aload_n hx hb dX9_begin_139 rfl (lv_at hl 0 rfl) ?_
    obtain ⟨ht2, hf⟩ := hf
    refine p_gR X cf8_ (k := 33) (by decide) rfl hP ht2 q1327 (fun _ h => h) dX9_begin_140 ?_
    refine lv_iload_n hx hb dX9_begin_143 rfl (lv_at hl 1 rfl) ?_
    refine p_aload_n hx hb dX9_begin_144 rfl (lv_at hl 0 rfl) ?_
    refine p_gR X cf8_ (k := 33) (by decide) rfl hP ht2 q1327 (fun _ h => h) dX9_begin_145 ?_
    refine lv_iload_n hx hb dX9_begin_148 rfl (lv_at hl 1 rfl) ?_
    obtain ⟨ht3, hf⟩ := hf
    obtain ⟨hi4, hf⟩ := hf
    refine p_lald X hP ht3 hi4 dX9_begin_149 ?_
    refine lv_bipush (v := 8) hx hb dX9_begin_150 (by decide) ?_
    refine lv_lshl hx hb dX9_begin_152 rfl ?_
    refine p_aload_n hx hb dX9_begin_153 rfl (lv_at hl 0 rfl) ?_
    refine lv_iload_n hx hb dX9_begin_154 rfl (lv_at hl 2 rfl) ?_
    refine lv_bipush (v := 33) hx hb dX9_begin_155 (by decide) ?_
    refine lv_iadd hx hb dX9_begin_157 ?_
    refine lv_iload hx hb dX9_begin_158 (lv_at hl 4 rfl) ?_
    refine lv_iadd hx hb dX9_begin_160 ?_
    refine p_calli hL (p_runV X cf8_ hP ht2 (metX9_get l G _ _ _ _ X.2.2 hf) (cwV 1 hts (lw_V q1508 q1510 qs52 q106 q1511) rfl rfl rfl (by decide +kernel) ⟨Nat.le_trans (Nat.le_of_ble_eq_true rfl) hRf, Nat.le_trans (Nat.le_of_ble_eq_true rfl) hRl⟩) rfl hl.1 rfl (by rw [(ca_l (ca_i (ca_r ca_n)))]; decide) dX9_begin_161 ⟨Nat.zero_le _, Nat.zero_le _⟩) (fun r5 σ₁ H locs hf hP hL => ?_)
    obtain ⟨e₁, hf⟩ := hf
    rw [e₁] at hP
    refine lv_i2l hx hb dX9_begin_164 rfl ?_
    refine lv_lor hx hb dX9_begin_165 ?_
    obtain ⟨hi6, hf⟩ := hf
    refine p_last X hP hL ht3 (p_ow hP ht3 rfl) hi6 dX9_begin_166 (fun H locs hP hL => ?_)
    refine p_nmP hP (fun σ7 hσ7 hP => ?_)
    have hf := hf σ7 hσ7
    have ht2 : tg_ σ7 x0 = 9 := by rw [hσ7]; exact ht2
    have hl := lv_sub hl [4, 0, 1, 2, 3] rfl
    refine p_iincc (i := 6) (k := 1) hx hb (by decide) dX9_begin_167 hl (by decide) ⟨⟨ne_ rfl, Or.inl (ne_ rfl)⟩, ⟨⟨ne_ rfl, Or.inl (ne_ rfl)⟩, ⟨⟨ne_ rfl, Or.inl (ne_ rfl)⟩, ⟨⟨ne_ rfl, Or.inr rfl⟩, trivial⟩⟩⟩⟩ (fun y8 hy8 ls hl => ?_)
    have hf := hf y8 hy8
    refine lv_goto (tgt := 132) hx hb dX9_begin_170 (by decide) ?_
    exact hrc132 _ _ hf _ _ _ _ _ hP hL ⟨rfl, rfl⟩ (lv_sub hl [1, 2, 3, 4, 0] rfl)
set_option maxHeartbeats 4000000 in
theorem sX9_begin_L132 {G : GG_} {p : Program} {l : Launch} {e : Env} {R : Room} {s : State} {m : MethodId} {args : Array Value} {below : List Frame} {meth : Method} {c : Code} (Y : MX_ G p R s m args meth c cX9_begin 7 RX9 none 3 65 0 0 "begin") {post : Hp → Prop} {x0 : Nat} {x1 : Int32} {x3 : Int32} {x5 : Int32} {x6 : Int32} {σ : Hp} (hf : wX9_begin_L132 post x0 x1 x3 x5 x6 σ) : WG_ G p l e R s m args below meth c (MQ below (QV_ G post) args s 0 0 (FR_ G)) BN_ 7 132 [(0, rv_ x0), (1, .int x1), (3, .int x3), (5, .int x5), (6, .int x6)] [] σ := by
  unfold wX9_begin_L132 at hf
  obtain ⟨I, μ, h0, hI⟩ := hf
  have key : ∀ (n : Nat) (x6 : Int32) (σ : Hp), I x6 σ → μ x6 σ < n → WG_ G p l e R s m args below meth c (MQ below (QV_ G post) args s 0 0 (FR_ G)) BN_ 7 132 [(0, rv_ x0), (1, .int x1), (3, .int x3), (5, .int x5), (6, .int x6)] [] σ := by
    intro n
    induction n with
    | zero => intro x6 σ _ h; exact absurd h (Nat.not_lt_zero _)
    | succ n ih => intro x6 σ hi hn; exact sX9_begin_B132 Y (fun x6' σ' h => ih x6' σ' h.1 (Nat.lt_of_lt_of_le h.2 (Nat.le_of_lt_succ hn))) (hI x6 σ hi)
  exact key _ _ _ h0 (Nat.lt_succ_self _)
set_option maxHeartbeats 4000000 in
theorem sX9_begin_L127 {G : GG_} {p : Program} {l : Launch} {e : Env} {R : Room} {s : State} {m : MethodId} {args : Array Value} {below : List Frame} {meth : Method} {c : Code} (Y : MX_ G p R s m args meth c cX9_begin 7 RX9 none 3 65 0 0 "begin") {post : Hp → Prop} {x0 : Nat} {x1 : Int32} {x3 : Int32} {s0 : Int32} {σ : Hp} (hf : wX9_begin_L127 post x0 x1 x3 s0 σ) : WG_ G p l e R s m args below meth c (MQ below (QV_ G post) args s 0 0 (FR_ G)) BN_ 7 127 [(0, rv_ x0), (1, .int x1), (3, .int x3)] [.int s0] σ := by
  have ⟨X, hlk, hr, hRf, hRl, hRc, hnm⟩ := Y
  have ⟨⟨hx, hb, _, hown, hts⟩, _, _⟩ := X
  intro H locs cells slots ls hP hL hB hl
  obtain ⟨rfl, rfl⟩ := hB
  unfold wX9_begin_L127 at hf
  refine p_istore (i := 5) hx hb dX9_begin_127 hl (by decide) ⟨⟨ne_ rfl, Or.inl (ne_ rfl)⟩, ⟨⟨ne_ rfl, Or.inl (ne_ rfl)⟩, ⟨⟨ne_ rfl, Or.inl (ne_ rfl)⟩, trivial⟩⟩⟩ (fun ls hl => ?_)
  refine lv_iconst (v := 0) hx hb dX9_begin_129 (by decide) ?_
  refine p_istore (i := 6) hx hb dX9_begin_130 hl (by decide) ⟨⟨ne_ rfl, Or.inr rfl⟩, ⟨⟨ne_ rfl, Or.inl (ne_ rfl)⟩, ⟨⟨ne_ rfl, Or.inl (ne_ rfl)⟩, ⟨⟨ne_ rfl, Or.inl (ne_ rfl)⟩, trivial⟩⟩⟩⟩ (fun ls hl => ?_)
  exact sX9_begin_L132 Y hf _ _ _ _ _ hP hL ⟨rfl, rfl⟩ (lv_sub hl [2, 3, 4, 1, 0] rfl)
set_option maxHeartbeats 4000000 in
theorem sX9_begin_L80 {G : GG_} {p : Program} {l : Launch} {e : Env} {R : Room} {s : State} {m : MethodId} {args : Array Value} {below : List Frame} {meth : Method} {c : Code} (Y : MX_ G p R s m args meth c cX9_begin 7 RX9 none 3 65 0 0 "begin") {post : Hp → Prop} {x0 : Nat} {x1 : Int32} {x3 : Int32} {x4 : Int32} {s0 : Int32} {s1 : Int32} {s2 : Nat} {σ : Hp} (hf : wX9_begin_L80 post x0 x1 x3 x4 s0 s1 s2 σ) : WG_ G p l e R s m args below meth c (MQ below (QV_ G post) args s 0 0 (FR_ G)) BN_ 7 80 [(0, rv_ x0), (1, .int x1), (3, .int x3), (4, .int x4)] [.int s0, .int s1, rv_ s2] σ := by
  have ⟨X, hlk, hr, hRf, hRl, hRc, hnm⟩ := Y
  have ⟨⟨hx, hb, _, hown, hts⟩, _, _⟩ := X
  intro H locs cells slots ls hP hL hB hl
  obtain ⟨rfl, rfl⟩ := hB
  unfold wX9_begin_L80 at hf
  obtain ⟨ht9, hf⟩ := hf
  obtain ⟨hlo10, hf⟩ := hf
  obtain ⟨hi11, hf⟩ := hf
  refine p_iast X hP hL ht9 hlo10 hi11 dX9_begin_80 (fun H locs hP hL => ?_)
  refine p_nmP hP (fun σ12 hσ12 hP => ?_)
  have hf := hf σ12 hσ12
  have ht9 : tg_ σ12 s2 = 102 := by rw [hσ12]; exact ht9
  refine p_aload_n hx hb dX9_begin_81 rfl (lv_at hl 0 rfl) ?_
  obtain ⟨ht13, hf⟩ := hf
  refine p_gR X cf8_ (k := 33) (by decide) rfl hP ht13 q1327 (fun _ h => h) dX9_begin_82 ?_
  refine lv_iload_n hx hb dX9_begin_85 rfl (lv_at hl 1 rfl) ?_
  refine lv_lconst (v := 0) hx hb dX9_begin_86 (by decide) ?_
  obtain ⟨ht14, hf⟩ := hf
  obtain ⟨hi15, hf⟩ := hf
  refine p_last X hP hL ht14 (p_ow hP ht14 rfl) hi15 dX9_begin_87 (fun H locs hP hL => ?_)
  refine p_nmP hP (fun σ16 hσ16 hP => ?_)
  have hf := hf σ16 hσ16
  have ht9 : tg_ σ16 s2 = 102 := by rw [hσ16]; exact ht9
  have ht13 : tg_ σ16 x0 = 9 := by rw [hσ16]; exact ht13
  refine lv_iload hx hb dX9_begin_88 (lv_at hl 3 rfl) ?_
  refine lv_if_eq (tgt := 97) hx hb dX9_begin_90 (by decide) (fun c17 => ?_) (fun c17 => ?_)
  · have hf := hf.1 c17
    refine p_aload_n hx hb dX9_begin_97 rfl (lv_at hl 0 rfl) ?_
    refine p_gR X cf8_ (k := 30) (by decide) rfl hP ht13 q1324 (fun _ h => h) dX9_begin_98 ?_
    refine lv_iload_n hx hb dX9_begin_101 rfl (lv_at hl 1 rfl) ?_
    obtain ⟨ht18, hf⟩ := hf
    obtain ⟨hi19, hf⟩ := hf
    refine p_zald X hP ht18 hi19 dX9_begin_102 ?_
    refine lv_if_eq (tgt := 117) hx hb dX9_begin_103 (by decide) (fun c20 => ?_) (fun c20 => ?_)
    · have hf := hf.1 c20
      refine p_aload_n hx hb dX9_begin_117 rfl (lv_at hl 0 rfl) ?_
      refine lv_iload_n hx hb dX9_begin_118 rfl (lv_at hl 2 rfl) ?_
      refine lv_bipush (v := 32) hx hb dX9_begin_119 (by decide) ?_
      refine lv_iadd hx hb dX9_begin_121 ?_
      refine p_calli hL (p_runV X cf8_ hP ht13 (metX9_get l G _ _ _ _ X.2.2 hf) (cwV 1 hts (lw_V q1508 q1510 qs52 q106 q1511) rfl rfl rfl (by decide +kernel) ⟨Nat.le_trans (Nat.le_of_ble_eq_true rfl) hRf, Nat.le_trans (Nat.le_of_ble_eq_true rfl) hRl⟩) rfl hl.1 rfl (by decide) dX9_begin_122 ⟨Nat.zero_le _, Nat.zero_le _⟩) (fun r21 σ₁ H locs hf hP hL => ?_)
      obtain ⟨e₁, hf⟩ := hf
      rw [e₁] at hP
      refine lv_iconst (v := 3) hx hb dX9_begin_125 (by decide) ?_
      refine lv_isub hx hb dX9_begin_126 ?_
      exact sX9_begin_L127 Y hf _ _ _ _ _ hP hL ⟨rfl, rfl⟩ (lv_sub hl [0, 1, 2] rfl)
    · have hf := hf.2 c20
      refine p_aload_n hx hb dX9_begin_106 rfl (lv_at hl 0 rfl) ?_
      refine lv_iload_n hx hb dX9_begin_107 rfl (lv_at hl 2 rfl) ?_
      refine lv_bipush (v := 32) hx hb dX9_begin_108 (by decide) ?_
      refine lv_iadd hx hb dX9_begin_110 ?_
      refine p_calli hL (p_runV X cf8_ hP ht13 (metX9_get l G _ _ _ _ X.2.2 hf) (cwV 1 hts (lw_V q1508 q1510 qs52 q106 q1511) rfl rfl rfl (by decide +kernel) ⟨Nat.le_trans (Nat.le_of_ble_eq_true rfl) hRf, Nat.le_trans (Nat.le_of_ble_eq_true rfl) hRl⟩) rfl hl.1 rfl (by decide) dX9_begin_111 ⟨Nat.zero_le _, Nat.zero_le _⟩) (fun r22 σ₁ H locs hf hP hL => ?_)
      obtain ⟨e₁, hf⟩ := hf
      rw [e₁] at hP
      refine lv_goto (tgt := 127) hx hb dX9_begin_114 (by decide) ?_
      exact sX9_begin_L127 Y hf _ _ _ _ _ hP hL ⟨rfl, rfl⟩ (lv_sub hl [0, 1, 2] rfl)
  · have hf := hf.2 c17
    refine lv_iconst (v := 0) hx hb dX9_begin_93 (by decide) ?_
    refine lv_goto (tgt := 127) hx hb dX9_begin_94 (by decide) ?_
    exact sX9_begin_L127 Y hf _ _ _ _ _ hP hL ⟨rfl, rfl⟩ (lv_sub hl [0, 1, 2] rfl)
set_option maxHeartbeats 4000000 in
theorem sX9_begin_L29 {G : GG_} {p : Program} {l : Launch} {e : Env} {R : Room} {s : State} {m : MethodId} {args : Array Value} {below : List Frame} {meth : Method} {c : Code} (Y : MX_ G p R s m args meth c cX9_begin 7 RX9 none 3 65 0 0 "begin") {post : Hp → Prop} {x0 : Nat} {x1 : Int32} {x2 : Int32} {x3 : Int32} {x4 : Int32} {s0 : Int32} {s1 : Int32} {s2 : Nat} {σ : Hp} (hf : wX9_begin_L29 post x0 x1 x2 x3 x4 s0 s1 s2 σ) : WG_ G p l e R s m args below meth c (MQ below (QV_ G post) args s 0 0 (FR_ G)) BN_ 7 29 [(0, rv_ x0), (1, .int x1), (2, .int x2), (3, .int x3), (4, .int x4)] [.int s0, .int s1, rv_ s2] σ := by
  have ⟨X, hlk, hr, hRf, hRl, hRc, hnm⟩ := Y
  have ⟨⟨hx, hb, _, hown, hts⟩, _, _⟩ := X
  intro H locs cells slots ls hP hL hB hl
  obtain ⟨rfl, rfl⟩ := hB
  unfold wX9_begin_L29 at hf
  obtain ⟨ht23, hf⟩ := hf
  obtain ⟨hi24, hf⟩ := hf
  refine p_zast X hP hL ht23 (p_ow hP ht23 rfl) hi24 dX9_begin_29 (fun H locs hP hL => ?_)
  refine p_nmP hP (fun σ25 hσ25 hP => ?_)
  have hf := hf σ25 hσ25
  have ht23 : tg_ σ25 s2 = 101 := by rw [hσ25]; exact ht23
  refine p_aload_n hx hb dX9_begin_30 rfl (lv_at hl 0 rfl) ?_
  obtain ⟨ht26, hf⟩ := hf
  refine p_gR X cf8_ (k := 31) (by decide) rfl hP ht26 q1325 (fun _ h => h) dX9_begin_31 ?_
  refine lv_iload_n hx hb dX9_begin_34 rfl (lv_at hl 1 rfl) ?_
  refine p_aload_n hx hb dX9_begin_35 rfl (lv_at hl 0 rfl) ?_
  refine lv_iload_n hx hb dX9_begin_36 rfl (lv_at hl 3 rfl) ?_
  refine lv_bipush (v := 10) hx hb dX9_begin_37 (by decide) ?_
  refine lv_iadd hx hb dX9_begin_39 ?_
  refine lv_iconst (v := 4) hx hb dX9_begin_40 (by decide) ?_
  refine p_calli hL (p_runV X cf8_ hP ht26 (metX9_lowAt l G _ _ _ _ _ X.2.2 hf) (cwV 2 hts (lw_V q1607 q1609 qs70 q106 q1610) rfl rfl rfl (by decide +kernel) ⟨Nat.le_trans (Nat.le_of_ble_eq_true rfl) hRf, Nat.le_trans (Nat.le_of_ble_eq_true rfl) hRl⟩) rfl hl.1 rfl (by rw [(ca_i (ca_r ca_n))]; decide) dX9_begin_41 ⟨Nat.zero_le _, Nat.zero_le _⟩) (fun r27 σ₁ H locs hf hP hL => ?_)
  obtain ⟨e₁, hf⟩ := hf
  rw [e₁] at hP
  obtain ⟨ht28, hf⟩ := hf
  obtain ⟨hlo29, hf⟩ := hf
  obtain ⟨hi30, hf⟩ := hf
  refine p_iast X hP hL ht28 hlo29 hi30 dX9_begin_44 (fun H locs hP hL => ?_)
  refine p_nmP hP (fun σ31 hσ31 hP => ?_)
  have hf := hf σ31 hσ31
  have ht23 : tg_ σ31 s2 = 101 := by rw [hσ31]; exact ht23
  have ht26 : tg_ σ31 x0 = 9 := by rw [hσ31]; exact ht26
  refine p_aload_n hx hb dX9_begin_45 rfl (lv_at hl 0 rfl) ?_
  refine p_gR X cf8_ (k := 32) (by decide) rfl hP ht26 q1326 (fun _ h => h) dX9_begin_46 ?_
  refine lv_iload_n hx hb dX9_begin_49 rfl (lv_at hl 1 rfl) ?_
  refine p_aload_n hx hb dX9_begin_50 rfl (lv_at hl 0 rfl) ?_
  refine lv_iload_n hx hb dX9_begin_51 rfl (lv_at hl 3 rfl) ?_
  refine lv_iconst (v := 2) hx hb dX9_begin_52 (by decide) ?_
  refine lv_iadd hx hb dX9_begin_53 ?_
  refine lv_iconst (v := 4) hx hb dX9_begin_54 (by decide) ?_
  refine p_calli hL (p_runV X cf8_ hP ht26 (metX9_lowAt l G _ _ _ _ _ X.2.2 hf) (cwV 2 hts (lw_V q1607 q1609 qs70 q106 q1610) rfl rfl rfl (by decide +kernel) ⟨Nat.le_trans (Nat.le_of_ble_eq_true rfl) hRf, Nat.le_trans (Nat.le_of_ble_eq_true rfl) hRl⟩) rfl hl.1 rfl (by rw [(ca_i (ca_r ca_n))]; decide) dX9_begin_55 ⟨Nat.zero_le _, Nat.zero_le _⟩) (fun r32 σ₁ H locs hf hP hL => ?_)
  obtain ⟨e₁, hf⟩ := hf
  rw [e₁] at hP
  obtain ⟨ht33, hf⟩ := hf
  obtain ⟨hlo34, hf⟩ := hf
  obtain ⟨hi35, hf⟩ := hf
  refine p_iast X hP hL ht33 hlo34 hi35 dX9_begin_58 (fun H locs hP hL => ?_)
  refine p_nmP hP (fun σ36 hσ36 hP => ?_)
  have hf := hf σ36 hσ36
  have ht23 : tg_ σ36 s2 = 101 := by rw [hσ36]; exact ht23
  have ht26 : tg_ σ36 x0 = 9 := by rw [hσ36]; exact ht26
  refine p_aload_n hx hb dX9_begin_59 rfl (lv_at hl 0 rfl) ?_
  refine p_gR X cf8_ (k := 34) (by decide) rfl hP ht26 q1328 (fun _ h => h) dX9_begin_60 ?_
  refine lv_iload_n hx hb dX9_begin_63 rfl (lv_at hl 1 rfl) ?_
  refine lv_iload_n hx hb dX9_begin_64 rfl (lv_at hl 2 rfl) ?_
  refine lv_if_ge (tgt := 72) hx hb dX9_begin_65 (by decide) (fun c37 => ?_) (fun c37 => ?_)
  · have hf := hf.1 c37
    refine p_aload_n hx hb dX9_begin_72 rfl (lv_at hl 0 rfl) ?_
    refine p_gR X cf8_ (k := 34) (by decide) rfl hP ht26 q1328 (fun _ h => h) dX9_begin_73 ?_
    refine lv_iload_n hx hb dX9_begin_76 rfl (lv_at hl 2 rfl) ?_
    obtain ⟨ht38, hf⟩ := hf
    obtain ⟨hi39, hf⟩ := hf
    refine p_iald X hP ht38 hi39 dX9_begin_77 ?_
    refine lv_iconst (v := 1) hx hb dX9_begin_78 (by decide) ?_
    refine lv_iadd hx hb dX9_begin_79 ?_
    exact sX9_begin_L80 Y hf _ _ _ _ _ hP hL ⟨rfl, rfl⟩ (lv_sub hl [0, 1, 3, 4] rfl)
  · have hf := hf.2 c37
    refine lv_iconst (v := 0) hx hb dX9_begin_68 (by decide) ?_
    refine lv_goto (tgt := 80) hx hb dX9_begin_69 (by decide) ?_
    exact sX9_begin_L80 Y hf _ _ _ _ _ hP hL ⟨rfl, rfl⟩ (lv_sub hl [0, 1, 3, 4] rfl)
set_option maxHeartbeats 4000000 in
theorem sX9_begin {G : GG_} {p : Program} {l : Launch} {e : Env} {R : Room} {s : State} {m : MethodId} {args : Array Value} {below : List Frame} {meth : Method} {c : Code} (Y : MX_ G p R s m args meth c cX9_begin 7 RX9 none 3 65 0 0 "begin") {post : Hp → Prop} {x0 : Nat} {x1 : Int32} {x2 : Int32} {x3 : Int32} {x4 : Int32} {σ : Hp} (hf : wX9_begin x0 x1 x2 x3 x4 σ post) : WG_ G p l e R s m args below meth c (MQ below (QV_ G post) args s 0 0 (FR_ G)) BN_ 7 0 [(0, rv_ x0), (1, .int x1), (2, .int x2), (3, .int x3), (4, .int x4)] [] σ := by
  have ⟨X, hlk, hr, hRf, hRl, hRc, hnm⟩ := Y
  have ⟨⟨hx, hb, _, hown, hts⟩, _, _⟩ := X
  intro H locs cells slots ls hP hL hB hl
  obtain ⟨rfl, rfl⟩ := hB
  unfold wX9_begin at hf
  refine p_aload_n hx hb dX9_begin_0 rfl (lv_at hl 0 rfl) ?_
  obtain ⟨ht40, hf⟩ := hf
  refine p_gR X cf8_ (k := 29) (by decide) rfl hP ht40 q1323 (fun _ h => h) dX9_begin_1 ?_
  refine lv_iload_n hx hb dX9_begin_4 rfl (lv_at hl 1 rfl) ?_
  refine lv_iload_n hx hb dX9_begin_5 rfl (lv_at hl 2 rfl) ?_
  obtain ⟨ht41, hf⟩ := hf
  obtain ⟨hlo42, hf⟩ := hf
  obtain ⟨hi43, hf⟩ := hf
  refine p_iast X hP hL ht41 hlo42 hi43 dX9_begin_6 (fun H locs hP hL => ?_)
  refine p_nmP hP (fun σ44 hσ44 hP => ?_)
  have hf := hf σ44 hσ44
  have ht40 : tg_ σ44 x0 = 9 := by rw [hσ44]; exact ht40
  refine p_aload_n hx hb dX9_begin_7 rfl (lv_at hl 0 rfl) ?_
  refine p_gR X cf8_ (k := 30) (by decide) rfl hP ht40 q1324 (fun _ h => h) dX9_begin_8 ?_
  refine lv_iload_n hx hb dX9_begin_11 rfl (lv_at hl 1 rfl) ?_
  refine p_aload_n hx hb dX9_begin_12 rfl (lv_at hl 0 rfl) ?_
  refine lv_iload_n hx hb dX9_begin_13 rfl (lv_at hl 3 rfl) ?_
  refine lv_bipush (v := 25) hx hb dX9_begin_14 (by decide) ?_
  refine lv_iadd hx hb dX9_begin_16 ?_
  refine p_calli hL (p_runV X cf8_ hP ht40 (metX9_get l G _ _ _ _ X.2.2 hf) (cwV 1 hts (lw_V q1508 q1510 qs52 q106 q1511) rfl rfl rfl (by decide +kernel) ⟨Nat.le_trans (Nat.le_of_ble_eq_true rfl) hRf, Nat.le_trans (Nat.le_of_ble_eq_true rfl) hRl⟩) rfl hl.1 rfl (by rw [(ca_i (ca_r ca_n))]; decide) dX9_begin_17 ⟨Nat.zero_le _, Nat.zero_le _⟩) (fun r45 σ₁ H locs hf hP hL => ?_)
  obtain ⟨e₁, hf⟩ := hf
  rw [e₁] at hP
  refine lv_iconst (v := 2) hx hb dX9_begin_20 (by decide) ?_
  refine lv_icmp_ne (tgt := 28) hx hb dX9_begin_21 (by decide) (fun c46 => ?_) (fun c46 => ?_)
  · have hf := hf.1 c46
    refine lv_iconst (v := 0) hx hb dX9_begin_28 (by decide) ?_
    exact sX9_begin_L29 Y hf _ _ _ _ _ hP hL ⟨rfl, rfl⟩ (lv_sub hl [0, 1, 2, 3, 4] rfl)
  · have hf := hf.2 c46
    refine lv_iconst (v := 1) hx hb dX9_begin_24 (by decide) ?_
    refine lv_goto (tgt := 29) hx hb dX9_begin_25 (by decide) ?_
    exact sX9_begin_L29 Y hf _ _ _ _ _ hP hL ⟨rfl, rfl⟩ (lv_sub hl [0, 1, 2, 3, 4] rfl)
set_option maxHeartbeats 4000000 in
theorem metX9_begin (l : Launch) (G : GG_) (x0 : Nat) (x1 : Int32) (x2 : Int32) (x3 : Int32) (x4 : Int32) (σ : Hp) (post : Hp → Prop) (hG : GOK_ G) (hf : wX9_begin x0 x1 x2 x3 x4 σ post) : Met l yX9_begin (ws_ yX9_begin cX9_begin 7 none) { frames := 3, cells := 0, slots := 0, locals := 65 } (PC_ G [rv_ x0, .int x1, .int x2, .int x3, .int x4] σ) (QV_ G post) 0 0 (FR_ G) := by
  refine Met.ofW (cc := cX9_begin) (maxL := 7) (ret := none) (by decide) rfl ?_
  intro p e s m args below meth c s₁ B hml hv
  obtain ⟨rfl, hP, hW⟩ := hv
  have hts := atoms_spec (ws := ws_ yX9_begin cX9_begin 7 none) B.pre
  have hts : ∀ w ∈ lw_all, w.before _ s = true := fun w h => hts w (List.mem_cons_of_mem _ h)
  rw [lg_entry_eq]
  have hl := en_entry [rv_ x0, .int x1, .int x2, .int x3, .int x4] [1, 1, 1, 1, 1] (n := 7) (ca_r (ca_i (ca_i (ca_i (ca_i ca_n))))) (by decide)
  exact sX9_begin ⟨⟨⟨B.exec, B.bytes, hml, findClass_of_methodNamed B.named, hts⟩, hW, hG⟩, B.notSynchronized, B.returns, Nat.le_refl _, Nat.le_refl _, ⟨rfl, rfl⟩, (name_of_methodNamed B.named B.method).1⟩ hf _ _ _ _ _ hP (LO_nil G) ⟨rfl, rfl⟩ hl
