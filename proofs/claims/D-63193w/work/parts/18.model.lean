set_option maxRecDepth 100000
abbrev cX9_isRead : ByteArray := prog_11_method_58_code
def yX9_isRead : MethodName := ⟨RX9, "isRead", "(I)Z"⟩
theorem dX9_isRead_0 : decode cX9_isRead 0 = .ok (.iload_n 1, 1) := by decide +kernel
theorem dX9_isRead_1 : decode cX9_isRead 1 = .ok (.bipush 16, 2) := by decide +kernel
theorem dX9_isRead_3 : decode cX9_isRead 3 = .ok (.iadd, 1) := by decide +kernel
theorem dX9_isRead_4 : decode cX9_isRead 4 = .ok (.istore_n 2, 1) := by decide +kernel
theorem dX9_isRead_5 : decode cX9_isRead 5 = .ok (.iload_n 2, 1) := by decide +kernel
theorem dX9_isRead_6 : decode cX9_isRead 6 = .ok (.iload_n 1, 1) := by decide +kernel
theorem dX9_isRead_7 : decode cX9_isRead 7 = .ok (.bipush 20, 2) := by decide +kernel
theorem dX9_isRead_9 : decode cX9_isRead 9 = .ok (.iadd, 1) := by decide +kernel
theorem dX9_isRead_10 : decode cX9_isRead 10 = .ok (.if_icmp .ge 27, 3) := by decide +kernel
theorem dX9_isRead_13 : decode cX9_isRead 13 = .ok (.aload_n 0, 1) := by decide +kernel
theorem dX9_isRead_14 : decode cX9_isRead 14 = .ok (.iload_n 2, 1) := by decide +kernel
theorem dX9_isRead_15 : decode cX9_isRead 15 = .ok (.invokevirtual 260, 3) := by decide +kernel
theorem dX9_isRead_18 : decode cX9_isRead 18 = .ok (.ifCond .ne 13, 3) := by decide +kernel
theorem dX9_isRead_21 : decode cX9_isRead 21 = .ok (.aload_n 0, 1) := by decide +kernel
theorem dX9_isRead_22 : decode cX9_isRead 22 = .ok (.sipush 2048, 3) := by decide +kernel
theorem dX9_isRead_25 : decode cX9_isRead 25 = .ok (.iload_n 2, 1) := by decide +kernel
theorem dX9_isRead_26 : decode cX9_isRead 26 = .ok (.imul, 1) := by decide +kernel
theorem dX9_isRead_27 : decode cX9_isRead 27 = .ok (.invokevirtual 263, 3) := by decide +kernel
theorem dX9_isRead_30 : decode cX9_isRead 30 = .ok (.ireturn, 1) := by decide +kernel
theorem dX9_isRead_31 : decode cX9_isRead 31 = .ok (.iinc 2 1, 3) := by decide +kernel
theorem dX9_isRead_34 : decode cX9_isRead 34 = .ok (.goto (-29), 3) := by decide +kernel
theorem dX9_isRead_37 : decode cX9_isRead 37 = .ok (.aload_n 0, 1) := by decide +kernel
theorem dX9_isRead_38 : decode cX9_isRead 38 = .ok (.iload_n 1, 1) := by decide +kernel
theorem dX9_isRead_39 : decode cX9_isRead 39 = .ok (.bipush 16, 2) := by decide +kernel
theorem dX9_isRead_41 : decode cX9_isRead 41 = .ok (.iadd, 1) := by decide +kernel
theorem dX9_isRead_42 : decode cX9_isRead 42 = .ok (.iconst 1, 1) := by decide +kernel
theorem dX9_isRead_43 : decode cX9_isRead 43 = .ok (.invokevirtual 289, 3) := by decide +kernel
theorem dX9_isRead_46 : decode cX9_isRead 46 = .ok (.ifCond .ne 16, 3) := by decide +kernel
theorem dX9_isRead_49 : decode cX9_isRead 49 = .ok (.aload_n 0, 1) := by decide +kernel
theorem dX9_isRead_50 : decode cX9_isRead 50 = .ok (.sipush 2048, 3) := by decide +kernel
theorem dX9_isRead_53 : decode cX9_isRead 53 = .ok (.iload_n 1, 1) := by decide +kernel
theorem dX9_isRead_54 : decode cX9_isRead 54 = .ok (.bipush 16, 2) := by decide +kernel
theorem dX9_isRead_56 : decode cX9_isRead 56 = .ok (.iadd, 1) := by decide +kernel
theorem dX9_isRead_57 : decode cX9_isRead 57 = .ok (.imul, 1) := by decide +kernel
theorem dX9_isRead_58 : decode cX9_isRead 58 = .ok (.invokevirtual 263, 3) := by decide +kernel
theorem dX9_isRead_61 : decode cX9_isRead 61 = .ok (.ireturn, 1) := by decide +kernel
theorem dX9_isRead_62 : decode cX9_isRead 62 = .ok (.aload_n 0, 1) := by decide +kernel
theorem dX9_isRead_63 : decode cX9_isRead 63 = .ok (.iload_n 1, 1) := by decide +kernel
theorem dX9_isRead_64 : decode cX9_isRead 64 = .ok (.bipush 17, 2) := by decide +kernel
theorem dX9_isRead_66 : decode cX9_isRead 66 = .ok (.iadd, 1) := by decide +kernel
theorem dX9_isRead_67 : decode cX9_isRead 67 = .ok (.sipush 255, 3) := by decide +kernel
theorem dX9_isRead_70 : decode cX9_isRead 70 = .ok (.invokevirtual 289, 3) := by decide +kernel
theorem dX9_isRead_73 : decode cX9_isRead 73 = .ok (.ifCond .ne 16, 3) := by decide +kernel
theorem dX9_isRead_76 : decode cX9_isRead 76 = .ok (.aload_n 0, 1) := by decide +kernel
theorem dX9_isRead_77 : decode cX9_isRead 77 = .ok (.sipush 2048, 3) := by decide +kernel
theorem dX9_isRead_80 : decode cX9_isRead 80 = .ok (.iload_n 1, 1) := by decide +kernel
theorem dX9_isRead_81 : decode cX9_isRead 81 = .ok (.bipush 17, 2) := by decide +kernel
theorem dX9_isRead_83 : decode cX9_isRead 83 = .ok (.iadd, 1) := by decide +kernel
theorem dX9_isRead_84 : decode cX9_isRead 84 = .ok (.imul, 1) := by decide +kernel
theorem dX9_isRead_85 : decode cX9_isRead 85 = .ok (.invokevirtual 263, 3) := by decide +kernel
theorem dX9_isRead_88 : decode cX9_isRead 88 = .ok (.ireturn, 1) := by decide +kernel
theorem dX9_isRead_89 : decode cX9_isRead 89 = .ok (.sipush 2048, 3) := by decide +kernel
theorem dX9_isRead_92 : decode cX9_isRead 92 = .ok (.iload_n 1, 1) := by decide +kernel
theorem dX9_isRead_93 : decode cX9_isRead 93 = .ok (.bipush 16, 2) := by decide +kernel
theorem dX9_isRead_95 : decode cX9_isRead 95 = .ok (.iadd, 1) := by decide +kernel
theorem dX9_isRead_96 : decode cX9_isRead 96 = .ok (.imul, 1) := by decide +kernel
theorem dX9_isRead_97 : decode cX9_isRead 97 = .ok (.istore_n 2, 1) := by decide +kernel
theorem dX9_isRead_98 : decode cX9_isRead 98 = .ok (.aload_n 0, 1) := by decide +kernel
theorem dX9_isRead_99 : decode cX9_isRead 99 = .ok (.iload_n 2, 1) := by decide +kernel
theorem dX9_isRead_100 : decode cX9_isRead 100 = .ok (.sipush 128, 3) := by decide +kernel
theorem dX9_isRead_103 : decode cX9_isRead 103 = .ok (.iadd, 1) := by decide +kernel
theorem dX9_isRead_104 : decode cX9_isRead 104 = .ok (.iconst 2, 1) := by decide +kernel
theorem dX9_isRead_105 : decode cX9_isRead 105 = .ok (.invokevirtual 266, 3) := by decide +kernel
theorem dX9_isRead_108 : decode cX9_isRead 108 = .ok (.sipush 2048, 3) := by decide +kernel
theorem dX9_isRead_111 : decode cX9_isRead 111 = .ok (.if_icmp .ne 19, 3) := by decide +kernel
theorem dX9_isRead_114 : decode cX9_isRead 114 = .ok (.aload_n 0, 1) := by decide +kernel
theorem dX9_isRead_115 : decode cX9_isRead 115 = .ok (.iload_n 2, 1) := by decide +kernel
theorem dX9_isRead_116 : decode cX9_isRead 116 = .ok (.sipush 130, 3) := by decide +kernel
theorem dX9_isRead_119 : decode cX9_isRead 119 = .ok (.iadd, 1) := by decide +kernel
theorem dX9_isRead_120 : decode cX9_isRead 120 = .ok (.iconst 2, 1) := by decide +kernel
theorem dX9_isRead_121 : decode cX9_isRead 121 = .ok (.invokevirtual 269, 3) := by decide +kernel
theorem dX9_isRead_124 : decode cX9_isRead 124 = .ok (.sipush 2048, 3) := by decide +kernel
theorem dX9_isRead_127 : decode cX9_isRead 127 = .ok (.if_icmp .eq 13, 3) := by decide +kernel
theorem dX9_isRead_130 : decode cX9_isRead 130 = .ok (.aload_n 0, 1) := by decide +kernel
theorem dX9_isRead_131 : decode cX9_isRead 131 = .ok (.iload_n 2, 1) := by decide +kernel
theorem dX9_isRead_132 : decode cX9_isRead 132 = .ok (.sipush 128, 3) := by decide +kernel
theorem dX9_isRead_135 : decode cX9_isRead 135 = .ok (.iadd, 1) := by decide +kernel
theorem dX9_isRead_136 : decode cX9_isRead 136 = .ok (.invokevirtual 263, 3) := by decide +kernel
theorem dX9_isRead_139 : decode cX9_isRead 139 = .ok (.ireturn, 1) := by decide +kernel
theorem dX9_isRead_140 : decode cX9_isRead 140 = .ok (.aload_n 0, 1) := by decide +kernel
theorem dX9_isRead_141 : decode cX9_isRead 141 = .ok (.iload_n 2, 1) := by decide +kernel
theorem dX9_isRead_142 : decode cX9_isRead 142 = .ok (.sipush 132, 3) := by decide +kernel
theorem dX9_isRead_145 : decode cX9_isRead 145 = .ok (.iadd, 1) := by decide +kernel
theorem dX9_isRead_146 : decode cX9_isRead 146 = .ok (.iconst 4, 1) := by decide +kernel
theorem dX9_isRead_147 : decode cX9_isRead 147 = .ok (.invokevirtual 266, 3) := by decide +kernel
theorem dX9_isRead_150 : decode cX9_isRead 150 = .ok (.istore_n 3, 1) := by decide +kernel
theorem dX9_isRead_151 : decode cX9_isRead 151 = .ok (.iload_n 3, 1) := by decide +kernel
theorem dX9_isRead_152 : decode cX9_isRead 152 = .ok (.aload_n 0, 1) := by decide +kernel
theorem dX9_isRead_153 : decode cX9_isRead 153 = .ok (.iload_n 2, 1) := by decide +kernel
theorem dX9_isRead_154 : decode cX9_isRead 154 = .ok (.sipush 136, 3) := by decide +kernel
theorem dX9_isRead_157 : decode cX9_isRead 157 = .ok (.iadd, 1) := by decide +kernel
theorem dX9_isRead_158 : decode cX9_isRead 158 = .ok (.iconst 4, 1) := by decide +kernel
theorem dX9_isRead_159 : decode cX9_isRead 159 = .ok (.invokevirtual 269, 3) := by decide +kernel
theorem dX9_isRead_162 : decode cX9_isRead 162 = .ok (.if_icmp .ne 14, 3) := by decide +kernel
theorem dX9_isRead_165 : decode cX9_isRead 165 = .ok (.iload_n 3, 1) := by decide +kernel
theorem dX9_isRead_166 : decode cX9_isRead 166 = .ok (.ifCond .lt 10, 3) := by decide +kernel
theorem dX9_isRead_169 : decode cX9_isRead 169 = .ok (.iload_n 3, 1) := by decide +kernel
theorem dX9_isRead_170 : decode cX9_isRead 170 = .ok (.sipush 2048, 3) := by decide +kernel
theorem dX9_isRead_173 : decode cX9_isRead 173 = .ok (.if_icmp .le 13, 3) := by decide +kernel
theorem dX9_isRead_176 : decode cX9_isRead 176 = .ok (.aload_n 0, 1) := by decide +kernel
theorem dX9_isRead_177 : decode cX9_isRead 177 = .ok (.iload_n 2, 1) := by decide +kernel
theorem dX9_isRead_178 : decode cX9_isRead 178 = .ok (.sipush 132, 3) := by decide +kernel
theorem dX9_isRead_181 : decode cX9_isRead 181 = .ok (.iadd, 1) := by decide +kernel
theorem dX9_isRead_182 : decode cX9_isRead 182 = .ok (.invokevirtual 263, 3) := by decide +kernel
theorem dX9_isRead_185 : decode cX9_isRead 185 = .ok (.ireturn, 1) := by decide +kernel
theorem dX9_isRead_186 : decode cX9_isRead 186 = .ok (.aload_n 0, 1) := by decide +kernel
theorem dX9_isRead_187 : decode cX9_isRead 187 = .ok (.iload_n 2, 1) := by decide +kernel
theorem dX9_isRead_188 : decode cX9_isRead 188 = .ok (.sipush 140, 3) := by decide +kernel
theorem dX9_isRead_191 : decode cX9_isRead 191 = .ok (.iadd, 1) := by decide +kernel
theorem dX9_isRead_192 : decode cX9_isRead 192 = .ok (.iconst 4, 1) := by decide +kernel
theorem dX9_isRead_193 : decode cX9_isRead 193 = .ok (.invokevirtual 266, 3) := by decide +kernel
theorem dX9_isRead_196 : decode cX9_isRead 196 = .ok (.iload_n 1, 1) := by decide +kernel
theorem dX9_isRead_197 : decode cX9_isRead 197 = .ok (.bipush 18, 2) := by decide +kernel
theorem dX9_isRead_199 : decode cX9_isRead 199 = .ok (.iadd, 1) := by decide +kernel
theorem dX9_isRead_200 : decode cX9_isRead 200 = .ok (.if_icmp .eq 13, 3) := by decide +kernel
theorem dX9_isRead_203 : decode cX9_isRead 203 = .ok (.aload_n 0, 1) := by decide +kernel
theorem dX9_isRead_204 : decode cX9_isRead 204 = .ok (.iload_n 2, 1) := by decide +kernel
theorem dX9_isRead_205 : decode cX9_isRead 205 = .ok (.sipush 140, 3) := by decide +kernel
theorem dX9_isRead_208 : decode cX9_isRead 208 = .ok (.iadd, 1) := by decide +kernel
theorem dX9_isRead_209 : decode cX9_isRead 209 = .ok (.invokevirtual 263, 3) := by decide +kernel
theorem dX9_isRead_212 : decode cX9_isRead 212 = .ok (.ireturn, 1) := by decide +kernel
theorem dX9_isRead_213 : decode cX9_isRead 213 = .ok (.aload_n 0, 1) := by decide +kernel
theorem dX9_isRead_214 : decode cX9_isRead 214 = .ok (.iload_n 2, 1) := by decide +kernel
theorem dX9_isRead_215 : decode cX9_isRead 215 = .ok (.sipush 148, 3) := by decide +kernel
theorem dX9_isRead_218 : decode cX9_isRead 218 = .ok (.iadd, 1) := by decide +kernel
theorem dX9_isRead_219 : decode cX9_isRead 219 = .ok (.iconst 4, 1) := by decide +kernel
theorem dX9_isRead_220 : decode cX9_isRead 220 = .ok (.invokevirtual 269, 3) := by decide +kernel
theorem dX9_isRead_223 : decode cX9_isRead 223 = .ok (.iload_n 1, 1) := by decide +kernel
theorem dX9_isRead_224 : decode cX9_isRead 224 = .ok (.bipush 19, 2) := by decide +kernel
theorem dX9_isRead_226 : decode cX9_isRead 226 = .ok (.iadd, 1) := by decide +kernel
theorem dX9_isRead_227 : decode cX9_isRead 227 = .ok (.if_icmp .eq 13, 3) := by decide +kernel
theorem dX9_isRead_230 : decode cX9_isRead 230 = .ok (.aload_n 0, 1) := by decide +kernel
theorem dX9_isRead_231 : decode cX9_isRead 231 = .ok (.iload_n 2, 1) := by decide +kernel
theorem dX9_isRead_232 : decode cX9_isRead 232 = .ok (.sipush 148, 3) := by decide +kernel
theorem dX9_isRead_235 : decode cX9_isRead 235 = .ok (.iadd, 1) := by decide +kernel
theorem dX9_isRead_236 : decode cX9_isRead 236 = .ok (.invokevirtual 263, 3) := by decide +kernel
theorem dX9_isRead_239 : decode cX9_isRead 239 = .ok (.ireturn, 1) := by decide +kernel
theorem dX9_isRead_240 : decode cX9_isRead 240 = .ok (.aload_n 0, 1) := by decide +kernel
theorem dX9_isRead_241 : decode cX9_isRead 241 = .ok (.iload_n 2, 1) := by decide +kernel
theorem dX9_isRead_242 : decode cX9_isRead 242 = .ok (.sipush 156, 3) := by decide +kernel
theorem dX9_isRead_245 : decode cX9_isRead 245 = .ok (.iadd, 1) := by decide +kernel
theorem dX9_isRead_246 : decode cX9_isRead 246 = .ok (.iconst 0, 1) := by decide +kernel
theorem dX9_isRead_247 : decode cX9_isRead 247 = .ok (.invokevirtual 292, 3) := by decide +kernel
theorem dX9_isRead_250 : decode cX9_isRead 250 = .ok (.ifCond .ne 5, 3) := by decide +kernel
theorem dX9_isRead_253 : decode cX9_isRead 253 = .ok (.iconst 0, 1) := by decide +kernel
theorem dX9_isRead_254 : decode cX9_isRead 254 = .ok (.ireturn, 1) := by decide +kernel
theorem dX9_isRead_255 : decode cX9_isRead 255 = .ok (.aload_n 0, 1) := by decide +kernel
theorem dX9_isRead_256 : decode cX9_isRead 256 = .ok (.iconst 0, 1) := by decide +kernel
theorem dX9_isRead_257 : decode cX9_isRead 257 = .ok (.iconst (-1), 1) := by decide +kernel
theorem dX9_isRead_258 : decode cX9_isRead 258 = .ok (.iload_n 2, 1) := by decide +kernel
theorem dX9_isRead_259 : decode cX9_isRead 259 = .ok (.sipush 156, 3) := by decide +kernel
theorem dX9_isRead_262 : decode cX9_isRead 262 = .ok (.iadd, 1) := by decide +kernel
theorem dX9_isRead_263 : decode cX9_isRead 263 = .ok (.iconst 1, 1) := by decide +kernel
theorem dX9_isRead_264 : decode cX9_isRead 264 = .ok (.invokevirtual 295, 3) := by decide +kernel
theorem dX9_isRead_267 : decode cX9_isRead 267 = .ok (.aload_n 0, 1) := by decide +kernel
theorem dX9_isRead_268 : decode cX9_isRead 268 = .ok (.iconst 1, 1) := by decide +kernel
theorem dX9_isRead_269 : decode cX9_isRead 269 = .ok (.putfield 283, 3) := by decide +kernel
theorem dX9_isRead_272 : decode cX9_isRead 272 = .ok (.iconst 0, 1) := by decide +kernel
theorem dX9_isRead_273 : decode cX9_isRead 273 = .ok (.istore 4, 2) := by decide +kernel
theorem dX9_isRead_275 : decode cX9_isRead 275 = .ok (.iload 4, 2) := by decide +kernel
theorem dX9_isRead_277 : decode cX9_isRead 277 = .ok (.aload_n 0, 1) := by decide +kernel
theorem dX9_isRead_278 : decode cX9_isRead 278 = .ok (.getfield 283, 3) := by decide +kernel
theorem dX9_isRead_281 : decode cX9_isRead 281 = .ok (.if_icmp .ge 30, 3) := by decide +kernel
theorem dX9_isRead_284 : decode cX9_isRead 284 = .ok (.aload_n 0, 1) := by decide +kernel
theorem dX9_isRead_285 : decode cX9_isRead 285 = .ok (.getfield 69, 3) := by decide +kernel
theorem dX9_isRead_288 : decode cX9_isRead 288 = .ok (.iload 4, 2) := by decide +kernel
theorem dX9_isRead_290 : decode cX9_isRead 290 = .ok (.baload, 1) := by decide +kernel
theorem dX9_isRead_291 : decode cX9_isRead 291 = .ok (.ifCond .eq 14, 3) := by decide +kernel
theorem dX9_isRead_294 : decode cX9_isRead 294 = .ok (.aload_n 0, 1) := by decide +kernel
theorem dX9_isRead_295 : decode cX9_isRead 295 = .ok (.iload 4, 2) := by decide +kernel
theorem dX9_isRead_297 : decode cX9_isRead 297 = .ok (.invokevirtual 299, 3) := by decide +kernel
theorem dX9_isRead_300 : decode cX9_isRead 300 = .ok (.ifCond .ne 5, 3) := by decide +kernel
theorem dX9_isRead_303 : decode cX9_isRead 303 = .ok (.iconst 0, 1) := by decide +kernel
theorem dX9_isRead_304 : decode cX9_isRead 304 = .ok (.ireturn, 1) := by decide +kernel
theorem dX9_isRead_305 : decode cX9_isRead 305 = .ok (.iinc 4 1, 3) := by decide +kernel
theorem dX9_isRead_308 : decode cX9_isRead 308 = .ok (.goto (-33), 3) := by decide +kernel
theorem dX9_isRead_311 : decode cX9_isRead 311 = .ok (.aload_n 0, 1) := by decide +kernel
theorem dX9_isRead_312 : decode cX9_isRead 312 = .ok (.iload_n 1, 1) := by decide +kernel
theorem dX9_isRead_313 : decode cX9_isRead 313 = .ok (.bipush 18, 2) := by decide +kernel
theorem dX9_isRead_315 : decode cX9_isRead 315 = .ok (.iadd, 1) := by decide +kernel
theorem dX9_isRead_316 : decode cX9_isRead 316 = .ok (.invokevirtual 302, 3) := by decide +kernel
theorem dX9_isRead_319 : decode cX9_isRead 319 = .ok (.istore 4, 2) := by decide +kernel
theorem dX9_isRead_321 : decode cX9_isRead 321 = .ok (.iload 4, 2) := by decide +kernel
theorem dX9_isRead_323 : decode cX9_isRead 323 = .ok (.ifCond .ge 5, 3) := by decide +kernel
theorem dX9_isRead_326 : decode cX9_isRead 326 = .ok (.iconst 0, 1) := by decide +kernel
theorem dX9_isRead_327 : decode cX9_isRead 327 = .ok (.ireturn, 1) := by decide +kernel
theorem dX9_isRead_328 : decode cX9_isRead 328 = .ok (.iload 4, 2) := by decide +kernel
theorem dX9_isRead_330 : decode cX9_isRead 330 = .ok (.iload_n 3, 1) := by decide +kernel
theorem dX9_isRead_331 : decode cX9_isRead 331 = .ok (.if_icmp .eq 15, 3) := by decide +kernel
theorem dX9_isRead_334 : decode cX9_isRead 334 = .ok (.aload_n 0, 1) := by decide +kernel
theorem dX9_isRead_335 : decode cX9_isRead 335 = .ok (.iload_n 2, 1) := by decide +kernel
theorem dX9_isRead_336 : decode cX9_isRead 336 = .ok (.sipush 132, 3) := by decide +kernel
theorem dX9_isRead_339 : decode cX9_isRead 339 = .ok (.iadd, 1) := by decide +kernel
theorem dX9_isRead_340 : decode cX9_isRead 340 = .ok (.invokevirtual 263, 3) := by decide +kernel
theorem dX9_isRead_343 : decode cX9_isRead 343 = .ok (.ifCond .eq 7, 3) := by decide +kernel
theorem dX9_isRead_346 : decode cX9_isRead 346 = .ok (.iconst 1, 1) := by decide +kernel
theorem dX9_isRead_347 : decode cX9_isRead 347 = .ok (.goto 4, 3) := by decide +kernel
theorem dX9_isRead_350 : decode cX9_isRead 350 = .ok (.iconst 0, 1) := by decide +kernel
theorem dX9_isRead_351 : decode cX9_isRead 351 = .ok (.ireturn, 1) := by decide +kernel
/-- WriteOnceDiscModel.isRead(I)Z -/
def wX9_isRead_L346 (post : Int32 → Hp → Prop) (σ : Hp) : Prop :=
post (1 : Int32) σ
def wX9_isRead_L305 (post : Int32 → Hp → Prop) (rc275 : Int32 → Hp → Prop) (x0 : Nat) (x1 : Int32) (x2 : Int32) (x3 : Int32) (x4 : Int32) (σ : Hp) : Prop :=
(∀ y1 : Int32, y1 = x4 + 1 → rc275 y1 σ)
def wX9_isRead_B275 (post : Int32 → Hp → Prop) (rc275 : Int32 → Hp → Prop) (x0 : Nat) (x1 : Int32) (x2 : Int32) (x3 : Int32) (x4 : Int32) (σ : Hp) : Prop :=
(tg_ σ x0 = 9 ∧ (((fI_ σ 8 27 x0) ≤ x4 →
  (wX9_tableIs x0 (x1 + (18 : Int32)) σ (fun r4 σ5 => ((0 ≤ r4 →
   ((r4 = x3 →
    wX9_isRead_L346 post σ5) ∧
   (¬ r4 = x3 →
    (tg_ σ5 x0 = 9 ∧ (wX9_no x0 (x2 + (132 : Int32)) σ5 (fun r9 σ10 => ((r9 = 0 →
     post (0 : Int32) σ10) ∧
    (¬ r9 = 0 →
     wX9_isRead_L346 post σ10)))))))) ∧
  (¬ 0 ≤ r4 →
   post (0 : Int32) σ5))))) ∧
 (¬ (fI_ σ 8 27 x0) ≤ x4 →
  (tg_ σ (fR_ σ 8 30 x0) = 101 ∧ (vp_in x4 (ln_ σ (fR_ σ 8 30 x0)) ∧ (((aI_ σ (fR_ σ 8 30 x0) (x4).toNatClampNeg) = 0 →
   wX9_isRead_L305 post rc275 x0 x1 x2 x3 x4 σ) ∧
  (¬ (aI_ σ (fR_ σ 8 30 x0) (x4).toNatClampNeg) = 0 →
   (wX9_isGone x0 x4 σ (fun r15 σ16 => ((¬ r15 = 0 →
    wX9_isRead_L305 post rc275 x0 x1 x2 x3 x4 σ16) ∧
   (r15 = 0 →
    post (0 : Int32) σ16)))))))))))
def wX9_isRead_L275 (post : Int32 → Hp → Prop) (x0 : Nat) (x1 : Int32) (x2 : Int32) (x3 : Int32) (x4 : Int32) (σ : Hp) : Prop :=
 ∃ (I : Int32 → Hp → Prop) (μ : Int32 → Hp → Nat), I x4 σ ∧ ∀ (x4 : Int32) (σ : Hp), I x4 σ → wX9_isRead_B275 post (fun x4' σ' => I x4' σ' ∧ μ x4' σ' < μ x4 σ) x0 x1 x2 x3 x4 σ
def wX9_isRead_L176 (post : Int32 → Hp → Prop) (x0 : Nat) (x2 : Int32) (σ : Hp) : Prop :=
(tg_ σ x0 = 9 ∧ (wX9_no x0 (x2 + (132 : Int32)) σ (fun r19 σ20 => (nr_ .boolean r19 ∧ post r19 σ20))))
def wX9_isRead_L130 (post : Int32 → Hp → Prop) (x0 : Nat) (x2 : Int32) (σ : Hp) : Prop :=
(tg_ σ x0 = 9 ∧ (wX9_no x0 (x2 + (128 : Int32)) σ (fun r23 σ24 => (nr_ .boolean r23 ∧ post r23 σ24))))
def wX9_isRead_B5 (post : Int32 → Hp → Prop) (rc5 : Int32 → Prop) (x0 : Nat) (x1 : Int32) (x2 : Int32) (σ : Hp) : Prop :=
(((x1 + (20 : Int32)) ≤ x2 →
  (tg_ σ x0 = 9 ∧ (wX9_begins x0 (x1 + (16 : Int32)) (1 : Int32) σ (fun r28 => ((¬ r28 = 0 →
   (wX9_begins x0 (x1 + (17 : Int32)) (255 : Int32) σ (fun r30 => ((¬ r30 = 0 →
    (∀ y32 : Int32, y32 = ((2048 : Int32) * (x1 + (16 : Int32))) → (wX9_lowAt x0 (y32 + (128 : Int32)) (2 : Int32) σ (fun r33 => ((¬ r33 = (2048 : Int32) →
     wX9_isRead_L130 post x0 y32 σ) ∧
    (r33 = (2048 : Int32) →
     (wX9_highAt x0 (y32 + (130 : Int32)) (2 : Int32) σ (fun r35 => ((r35 = (2048 : Int32) →
      (wX9_lowAt x0 (y32 + (132 : Int32)) (4 : Int32) σ (fun r37 => (wX9_highAt x0 (y32 + (136 : Int32)) (4 : Int32) σ (fun r38 => ((¬ r37 = r38 →
       wX9_isRead_L176 post x0 y32 σ) ∧
      (r37 = r38 →
       ((r37 < 0 →
        wX9_isRead_L176 post x0 y32 σ) ∧
       (¬ r37 < 0 →
        ((r37 ≤ (2048 : Int32) →
         (wX9_lowAt x0 (y32 + (140 : Int32)) (4 : Int32) σ (fun r42 => ((r42 = (x1 + (18 : Int32)) →
          (wX9_highAt x0 (y32 + (148 : Int32)) (4 : Int32) σ (fun r44 => ((r44 = (x1 + (19 : Int32)) →
           (wX9_isRecord x0 (y32 + (156 : Int32)) (0 : Int32) σ (fun r46 σ47 => ((¬ r46 = 0 →
            (tg_ σ47 x0 = 9 ∧ (wX9_begin x0 (0 : Int32) (-1 : Int32) (y32 + (156 : Int32)) (1 : Int32) σ47 (fun σ50 => (tg_ σ50 x0 = 9 ∧ (∀ σ52, σ52 = sI_ σ50 8 27 x0 (1 : Int32) → wX9_isRead_L275 post x0 x1 y32 r37 (0 : Int32) σ52)))))) ∧
           (r46 = 0 →
            post (0 : Int32) σ47))))) ∧
          (¬ r44 = (x1 + (19 : Int32)) →
           (wX9_no x0 (y32 + (148 : Int32)) σ (fun r53 σ54 => (nr_ .boolean r53 ∧ post r53 σ54)))))))) ∧
         (¬ r42 = (x1 + (18 : Int32)) →
          (wX9_no x0 (y32 + (140 : Int32)) σ (fun r56 σ57 => (nr_ .boolean r56 ∧ post r56 σ57)))))))) ∧
        (¬ r37 ≤ (2048 : Int32) →
         wX9_isRead_L176 post x0 y32 σ))))))))))) ∧
     (¬ r35 = (2048 : Int32) →
      wX9_isRead_L130 post x0 y32 σ)))))))))) ∧
   (r30 = 0 →
    (wX9_no x0 ((2048 : Int32) * (x1 + (17 : Int32))) σ (fun r59 σ60 => (nr_ .boolean r59 ∧ post r59 σ60)))))))) ∧
  (r28 = 0 →
   (wX9_no x0 ((2048 : Int32) * (x1 + (16 : Int32))) σ (fun r62 σ63 => (nr_ .boolean r62 ∧ post r62 σ63))))))))) ∧
 (¬ (x1 + (20 : Int32)) ≤ x2 →
  (tg_ σ x0 = 9 ∧ (wX9_isWrittenSector x0 x2 σ (fun r66 => ((¬ r66 = 0 →
   (∀ y68 : Int32, y68 = x2 + 1 → rc5 y68)) ∧
  (r66 = 0 →
   (wX9_no x0 ((2048 : Int32) * x2) σ (fun r69 σ70 => (nr_ .boolean r69 ∧ post r69 σ70))))))))))
def wX9_isRead_L5 (post : Int32 → Hp → Prop) (x0 : Nat) (x1 : Int32) (x2 : Int32) (σ : Hp) : Prop :=
 ∃ (I : Int32 → Prop) (μ : Int32 → Nat), I x2 ∧ ∀ (x2 : Int32), I x2 → wX9_isRead_B5 post (fun x2' => I x2' ∧ μ x2' < μ x2) x0 x1 x2 σ
def wX9_isRead (x0 : Nat) (x1 : Int32) (σ : Hp) (post : Int32 → Hp → Prop) : Prop :=
(∀ y72 : Int32, y72 = (x1 + (16 : Int32)) → wX9_isRead_L5 post x0 x1 y72 σ)
set_option maxHeartbeats 4000000 in
theorem sX9_isRead_L346 {G : GG_} {p : Program} {l : Launch} {e : Env} {R : Room} {s : State} {m : MethodId} {args : Array Value} {below : List Frame} {meth : Method} {c : Code} (Y : MX_ G p R s m args meth c cX9_isRead 5 RX9 (some Jvm.ClassFile.FieldType.boolean) 7 167 0 0 "isRead") {post : Int32 → Hp → Prop} {σ : Hp} (hf : wX9_isRead_L346 post σ) : WG_ G p l e R s m args below meth c (MQ below (QI_ G post) args s 0 0 (FR_ G)) BN_ 5 346 [] [] σ := by
  have ⟨X, hlk, hr, hRf, hRl, hRc, hnm⟩ := Y
  have ⟨⟨hx, hb, _, hown, hts⟩, _, _⟩ := X
  intro H locs cells slots ls hP hL hB hl
  obtain ⟨rfl, rfl⟩ := hB
  unfold wX9_isRead_L346 at hf
  refine lv_iconst (v := 1) hx hb dX9_isRead_346 (by decide) ?_
  refine lv_goto (tgt := 351) hx hb dX9_isRead_347 (by decide) ?_
  exact p_zret X hlk hP hL (Nat.le_refl _) (Nat.le_refl _) hr nr_1 dX9_isRead_351 hf
set_option maxHeartbeats 4000000 in
theorem sX9_isRead_L305 {G : GG_} {p : Program} {l : Launch} {e : Env} {R : Room} {s : State} {m : MethodId} {args : Array Value} {below : List Frame} {meth : Method} {c : Code} (Y : MX_ G p R s m args meth c cX9_isRead 5 RX9 (some Jvm.ClassFile.FieldType.boolean) 7 167 0 0 "isRead") {post : Int32 → Hp → Prop} {rc275 : Int32 → Hp → Prop} {x0 : Nat} {x1 : Int32} {x2 : Int32} {x3 : Int32} {x4 : Int32} {σ : Hp} (hrc275 : ∀ (x4 : Int32) (σ : Hp), rc275 x4 σ → WG_ G p l e R s m args below meth c (MQ below (QI_ G post) args s 0 0 (FR_ G)) BN_ 5 275 [(0, rv_ x0), (1, .int x1), (2, .int x2), (3, .int x3), (4, .int x4)] [] σ) (hf : wX9_isRead_L305 post rc275 x0 x1 x2 x3 x4 σ) : WG_ G p l e R s m args below meth c (MQ below (QI_ G post) args s 0 0 (FR_ G)) BN_ 5 305 [(0, rv_ x0), (1, .int x1), (2, .int x2), (3, .int x3), (4, .int x4)] [] σ := by
  have ⟨X, hlk, hr, hRf, hRl, hRc, hnm⟩ := Y
  have ⟨⟨hx, hb, _, hown, hts⟩, _, _⟩ := X
  intro H locs cells slots ls hP hL hB hl
  obtain ⟨rfl, rfl⟩ := hB
  unfold wX9_isRead_L305 at hf
  have hl := lv_sub hl [4, 0, 1, 2, 3] rfl
  refine p_iincc (i := 4) (k := 1) hx hb (by decide) dX9_isRead_305 hl (by decide) ⟨⟨ne_ rfl, Or.inl (ne_ rfl)⟩, ⟨⟨ne_ rfl, Or.inl (ne_ rfl)⟩, ⟨⟨ne_ rfl, Or.inl (ne_ rfl)⟩, ⟨⟨ne_ rfl, Or.inr rfl⟩, trivial⟩⟩⟩⟩ (fun y1 hy1 ls hl => ?_)
  have hf := hf y1 hy1
  refine lv_goto (tgt := 275) hx hb dX9_isRead_308 (by decide) ?_
  exact hrc275 _ _ hf _ _ _ _ _ hP hL ⟨rfl, rfl⟩ (lv_sub hl [1, 2, 3, 4, 0] rfl)
set_option maxHeartbeats 4000000 in
theorem sX9_isRead_B275 {G : GG_} {p : Program} {l : Launch} {e : Env} {R : Room} {s : State} {m : MethodId} {args : Array Value} {below : List Frame} {meth : Method} {c : Code} (Y : MX_ G p R s m args meth c cX9_isRead 5 RX9 (some Jvm.ClassFile.FieldType.boolean) 7 167 0 0 "isRead") {post : Int32 → Hp → Prop} {rc275 : Int32 → Hp → Prop} {x0 : Nat} {x1 : Int32} {x2 : Int32} {x3 : Int32} {x4 : Int32} {σ : Hp} (hrc275 : ∀ (x4 : Int32) (σ : Hp), rc275 x4 σ → WG_ G p l e R s m args below meth c (MQ below (QI_ G post) args s 0 0 (FR_ G)) BN_ 5 275 [(0, rv_ x0), (1, .int x1), (2, .int x2), (3, .int x3), (4, .int x4)] [] σ) (hf : wX9_isRead_B275 post rc275 x0 x1 x2 x3 x4 σ) : WG_ G p l e R s m args below meth c (MQ below (QI_ G post) args s 0 0 (FR_ G)) BN_ 5 275 [(0, rv_ x0), (1, .int x1), (2, .int x2), (3, .int x3), (4, .int x4)] [] σ := by
  have ⟨X, hlk, hr, hRf, hRl, hRc, hnm⟩ := Y
  have ⟨⟨hx, hb, _, hown, hts⟩, _, _⟩ := X
  intro H locs cells slots ls hP hL hB hl
  obtain ⟨rfl, rfl⟩ := hB
  unfold wX9_isRead_B275 at hf
  refine lv_iload hx hb dX9_isRead_275 (lv_at hl 4 rfl) ?_
  refine p_aload_n hx hb dX9_isRead_277 rfl (lv_at hl 0 rfl) ?_
  obtain ⟨ht2, hf⟩ := hf
  refine p_gI X cf8_ (k := 27) (by decide) rfl hP ht2 q1321 (fun _ h => h) dX9_isRead_278 ?_
  refine lv_icmp_ge (tgt := 311) hx hb dX9_isRead_281 (by decide) (fun c3 => ?_) (fun c3 => ?_)
  · have hf := hf.1 c3
    refine p_aload_n hx hb dX9_isRead_311 rfl (lv_at hl 0 rfl) ?_
    refine lv_iload_n hx hb dX9_isRead_312 rfl (lv_at hl 1 rfl) ?_
    refine lv_bipush (v := 18) hx hb dX9_isRead_313 (by decide) ?_
    refine lv_iadd hx hb dX9_isRead_315 ?_
    refine p_calli hL (p_runV X cf8_ hP ht2 (metX9_tableIs l G _ _ _ _ X.2.2 hf) (cwV 1 hts (lw_V q1657 q1659 qs82 q106 q1660) rfl rfl rfl (by decide +kernel) ⟨Nat.le_trans (Nat.le_of_ble_eq_true rfl) hRf, Nat.le_trans (Nat.le_of_ble_eq_true rfl) hRl⟩) rfl hl.1 rfl (by decide) dX9_isRead_316 ⟨Nat.zero_le _, Nat.zero_le _⟩) (fun r4 σ5 H locs hf hP hL => ?_)
    have hl := lv_sub hl [0, 2, 3] rfl
    refine p_istore (i := 4) hx hb dX9_isRead_319 hl (by decide) ⟨⟨ne_ rfl, Or.inl (ne_ rfl)⟩, ⟨⟨ne_ rfl, Or.inl (ne_ rfl)⟩, ⟨⟨ne_ rfl, Or.inr rfl⟩, trivial⟩⟩⟩ (fun ls hl => ?_)
    refine lv_iload hx hb dX9_isRead_321 (lv_at hl 0 rfl) ?_
    refine lv_if_ge (tgt := 328) hx hb dX9_isRead_323 (by decide) (fun c6 => ?_) (fun c6 => ?_)
    · have hf := hf.1 c6
      refine lv_iload hx hb dX9_isRead_328 (lv_at hl 0 rfl) ?_
      refine lv_iload_n hx hb dX9_isRead_330 rfl (lv_at hl 3 rfl) ?_
      refine lv_icmp_eq (tgt := 346) hx hb dX9_isRead_331 (by decide) (fun c7 => ?_) (fun c7 => ?_)
      · have hf := hf.1 c7
        exact sX9_isRead_L346 Y hf _ _ _ _ _ hP hL ⟨rfl, rfl⟩ (lv_sub hl [] rfl)
      · have hf := hf.2 c7
        refine p_aload_n hx hb dX9_isRead_334 rfl (lv_at hl 1 rfl) ?_
        refine lv_iload_n hx hb dX9_isRead_335 rfl (lv_at hl 2 rfl) ?_
        refine lv_sipush (v := 132) hx hb dX9_isRead_336 (by decide) ?_
        refine lv_iadd hx hb dX9_isRead_339 ?_
        obtain ⟨ht8, hf⟩ := hf
        refine p_calli hL (p_runV X cf8_ hP ht8 (metX9_no l G _ _ _ _ X.2.2 hf) (cwV 1 hts (lw_V q1619 q1621 qs73 q106 q1622) rfl rfl rfl (by decide +kernel) ⟨Nat.le_trans (Nat.le_of_ble_eq_true rfl) hRf, Nat.le_trans (Nat.le_of_ble_eq_true rfl) hRl⟩) rfl hl.1 rfl (by decide) dX9_isRead_340 ⟨Nat.zero_le _, Nat.zero_le _⟩) (fun r9 σ10 H locs hf hP hL => ?_)
        refine lv_if_eq (tgt := 350) hx hb dX9_isRead_343 (by decide) (fun c11 => ?_) (fun c11 => ?_)
        · have hf := hf.1 c11
          refine lv_iconst (v := 0) hx hb dX9_isRead_350 (by decide) ?_
          exact p_zret X hlk hP hL (Nat.le_refl _) (Nat.le_refl _) hr nr_0 dX9_isRead_351 hf
        · have hf := hf.2 c11
          exact sX9_isRead_L346 Y hf _ _ _ _ _ hP hL ⟨rfl, rfl⟩ (lv_sub hl [] rfl)
    · have hf := hf.2 c6
      refine lv_iconst (v := 0) hx hb dX9_isRead_326 (by decide) ?_
      exact p_zret X hlk hP hL (Nat.le_refl _) (Nat.le_refl _) hr nr_0 dX9_isRead_327 hf
  · have hf := hf.2 c3
    refine p_aload_n hx hb dX9_isRead_284 rfl (lv_at hl 0 rfl) ?_
    refine p_gR X cf8_ (k := 30) (by decide) rfl hP ht2 q1324 (fun _ h => h) dX9_isRead_285 ?_
    refine lv_iload hx hb dX9_isRead_288 (lv_at hl 4 rfl) ?_
    obtain ⟨ht12, hf⟩ := hf
    obtain ⟨hi13, hf⟩ := hf
    refine p_zald X hP ht12 hi13 dX9_isRead_290 ?_
    refine lv_if_eq (tgt := 305) hx hb dX9_isRead_291 (by decide) (fun c14 => ?_) (fun c14 => ?_)
    · have hf := hf.1 c14
      exact sX9_isRead_L305 Y hrc275 hf _ _ _ _ _ hP hL ⟨rfl, rfl⟩ (lv_sub hl [0, 1, 2, 3, 4] rfl)
    · have hf := hf.2 c14
      refine p_aload_n hx hb dX9_isRead_294 rfl (lv_at hl 0 rfl) ?_
      refine lv_iload hx hb dX9_isRead_295 (lv_at hl 4 rfl) ?_
      refine p_calli hL (p_runV X cf8_ hP ht2 (metX9_isGone l G _ _ _ _ X.2.2 hf) (cwV 1 hts (lw_V q1649 q1651 qs80 q106 q1652) rfl rfl rfl (by decide +kernel) ⟨Nat.le_trans (Nat.le_of_ble_eq_true rfl) hRf, Nat.le_trans (Nat.le_of_ble_eq_true rfl) hRl⟩) rfl hl.1 rfl (by decide) dX9_isRead_297 ⟨Nat.zero_le _, Nat.zero_le _⟩) (fun r15 σ16 H locs hf hP hL => ?_)
      refine lv_if_ne (tgt := 305) hx hb dX9_isRead_300 (by decide) (fun c17 => ?_) (fun c17 => ?_)
      · have hf := hf.1 c17
        exact sX9_isRead_L305 Y hrc275 hf _ _ _ _ _ hP hL ⟨rfl, rfl⟩ (lv_sub hl [0, 1, 2, 3, 4] rfl)
      · have hf := hf.2 c17
        refine lv_iconst (v := 0) hx hb dX9_isRead_303 (by decide) ?_
        exact p_zret X hlk hP hL (Nat.le_refl _) (Nat.le_refl _) hr nr_0 dX9_isRead_304 hf
set_option maxHeartbeats 4000000 in
theorem sX9_isRead_L275 {G : GG_} {p : Program} {l : Launch} {e : Env} {R : Room} {s : State} {m : MethodId} {args : Array Value} {below : List Frame} {meth : Method} {c : Code} (Y : MX_ G p R s m args meth c cX9_isRead 5 RX9 (some Jvm.ClassFile.FieldType.boolean) 7 167 0 0 "isRead") {post : Int32 → Hp → Prop} {x0 : Nat} {x1 : Int32} {x2 : Int32} {x3 : Int32} {x4 : Int32} {σ : Hp} (hf : wX9_isRead_L275 post x0 x1 x2 x3 x4 σ) : WG_ G p l e R s m args below meth c (MQ below (QI_ G post) args s 0 0 (FR_ G)) BN_ 5 275 [(0, rv_ x0), (1, .int x1), (2, .int x2), (3, .int x3), (4, .int x4)] [] σ := by
  unfold wX9_isRead_L275 at hf
  obtain ⟨I, μ, h0, hI⟩ := hf
  have key : ∀ (n : Nat) (x4 : Int32) (σ : Hp), I x4 σ → μ x4 σ < n → WG_ G p l e R s m args below meth c (MQ below (QI_ G post) args s 0 0 (FR_ G)) BN_ 5 275 [(0, rv_ x0), (1, .int x1), (2, .int x2), (3, .int x3), (4, .int x4)] [] σ := by
    intro n
    induction n with
    | zero => intro x4 σ _ h; exact absurd h (Nat.not_lt_zero _)
    | succ n ih => intro x4 σ hi hn; exact sX9_isRead_B275 Y (fun x4' σ' h => ih x4' σ' h.1 (Nat.lt_of_lt_of_le h.2 (Nat.le_of_lt_succ hn))) (hI x4 σ hi)
  exact key _ _ _ h0 (Nat.lt_succ_self _)
set_option maxHeartbeats 4000000 in
theorem sX9_isRead_L176 {G : GG_} {p : Program} {l : Launch} {e : Env} {R : Room} {s : State} {m : MethodId} {args : Array Value} {below : List Frame} {meth : Method} {c : Code} (Y : MX_ G p R s m args meth c cX9_isRead 5 RX9 (some Jvm.ClassFile.FieldType.boolean) 7 167 0 0 "isRead") {post : Int32 → Hp → Prop} {x0 : Nat} {x2 : Int32} {σ : Hp} (hf : wX9_isRead_L176 post x0 x2 σ) : WG_ G p l e R s m args below meth c (MQ below (QI_ G post) args s 0 0 (FR_ G)) BN_ 5 176 [(0, rv_ x0), (2, .int x2)] [] σ := by
  have ⟨X, hlk, hr, hRf, hRl, hRc, hnm⟩ := Y
  have ⟨⟨hx, hb, _, hown, hts⟩, _, _⟩ := X
  intro H locs cells slots ls hP hL hB hl
  obtain ⟨rfl, rfl⟩ := hB
  unfold wX9_isRead_L176 at hf
  refine p_aload_n hx hb dX9_isRead_176 rfl (lv_at hl 0 rfl) ?_
  refine lv_iload_n hx hb dX9_isRead_177 rfl (lv_at hl 1 rfl) ?_
  refine lv_sipush (v := 132) hx hb dX9_isRead_178 (by decide) ?_
  refine lv_iadd hx hb dX9_isRead_181 ?_
  obtain ⟨ht18, hf⟩ := hf
  refine p_calli hL (p_runV X cf8_ hP ht18 (metX9_no l G _ _ _ _ X.2.2 hf) (cwV 1 hts (lw_V q1619 q1621 qs73 q106 q1622) rfl rfl rfl (by decide +kernel) ⟨Nat.le_trans (Nat.le_of_ble_eq_true rfl) hRf, Nat.le_trans (Nat.le_of_ble_eq_true rfl) hRl⟩) rfl hl.1 rfl (by decide) dX9_isRead_182 ⟨Nat.zero_le _, Nat.zero_le _⟩) (fun r19 σ20 H locs hf hP hL => ?_)
  obtain ⟨hn21, hf⟩ := hf
  exact p_zret X hlk hP hL (Nat.le_refl _) (Nat.le_refl _) hr hn21 dX9_isRead_185 hf
set_option maxHeartbeats 4000000 in
theorem sX9_isRead_L130 {G : GG_} {p : Program} {l : Launch} {e : Env} {R : Room} {s : State} {m : MethodId} {args : Array Value} {below : List Frame} {meth : Method} {c : Code} (Y : MX_ G p R s m args meth c cX9_isRead 5 RX9 (some Jvm.ClassFile.FieldType.boolean) 7 167 0 0 "isRead") {post : Int32 → Hp → Prop} {x0 : Nat} {x2 : Int32} {σ : Hp} (hf : wX9_isRead_L130 post x0 x2 σ) : WG_ G p l e R s m args below meth c (MQ below (QI_ G post) args s 0 0 (FR_ G)) BN_ 5 130 [(0, rv_ x0), (2, .int x2)] [] σ := by
  have ⟨X, hlk, hr, hRf, hRl, hRc, hnm⟩ := Y
  have ⟨⟨hx, hb, _, hown, hts⟩, _, _⟩ := X
  intro H locs cells slots ls hP hL hB hl
  obtain ⟨rfl, rfl⟩ := hB
  unfold wX9_isRead_L130 at hf
  refine p_aload_n hx hb dX9_isRead_130 rfl (lv_at hl 0 rfl) ?_
  refine lv_iload_n hx hb dX9_isRead_131 rfl (lv_at hl 1 rfl) ?_
  refine lv_sipush (v := 128) hx hb dX9_isRead_132 (by decide) ?_
  refine lv_iadd hx hb dX9_isRead_135 ?_
  obtain ⟨ht22, hf⟩ := hf
  refine p_calli hL (p_runV X cf8_ hP ht22 (metX9_no l G _ _ _ _ X.2.2 hf) (cwV 1 hts (lw_V q1619 q1621 qs73 q106 q1622) rfl rfl rfl (by decide +kernel) ⟨Nat.le_trans (Nat.le_of_ble_eq_true rfl) hRf, Nat.le_trans (Nat.le_of_ble_eq_true rfl) hRl⟩) rfl hl.1 rfl (by decide) dX9_isRead_136 ⟨Nat.zero_le _, Nat.zero_le _⟩) (fun r23 σ24 H locs hf hP hL => ?_)
  obtain ⟨hn25, hf⟩ := hf
  exact p_zret X hlk hP hL (Nat.le_refl _) (Nat.le_refl _) hr hn25 dX9_isRead_139 hf
set_option maxHeartbeats 4000000 in
theorem sX9_isRead_B5 {G : GG_} {p : Program} {l : Launch} {e : Env} {R : Room} {s : State} {m : MethodId} {args : Array Value} {below : List Frame} {meth : Method} {c : Code} (Y : MX_ G p R s m args meth c cX9_isRead 5 RX9 (some Jvm.ClassFile.FieldType.boolean) 7 167 0 0 "isRead") {post : Int32 → Hp → Prop} {rc5 : Int32 → Prop} {x0 : Nat} {x1 : Int32} {x2 : Int32} {σ : Hp} (hrc5 : ∀ (x2 : Int32), rc5 x2 → WG_ G p l e R s m args below meth c (MQ below (QI_ G post) args s 0 0 (FR_ G)) BN_ 5 5 [(0, rv_ x0), (1, .int x1), (2, .int x2)] [] σ) (hf : wX9_isRead_B5 post rc5 x0 x1 x2 σ) : WG_ G p l e R s m args below meth c (MQ below (QI_ G post) args s 0 0 (FR_ G)) BN_ 5 5 [(0, rv_ x0), (1, .int x1), (2, .int x2)] [] σ := by
  have ⟨X, hlk, hr, hRf, hRl, hRc, hnm⟩ := Y
  have ⟨⟨hx, hb, _, hown, hts⟩, _, _⟩ := X
  intro H locs cells slots ls hP hL hB hl
  obtain ⟨rfl, rfl⟩ := hB
  unfold wX9_isRead_B5 at hf
  refine lv_iload_n hx hb dX9_isRead_5 rfl (lv_at hl 2 rfl) ?_
  refine lv_iload_n hx hb dX9_isRead_6 rfl (lv_at hl 1 rfl) ?_
  refine lv_bipush (v := 20) hx hb dX9_isRead_7 (by decide) ?_
  refine lv_iadd hx hb dX9_isRead_9 ?_
  refine lv_icmp_ge (tgt := 37) hx hb dX9_isRead_10 (by decide) (fun c26 => ?_) (fun c26 => ?_)
  · have hf := hf.1 c26
    refine p_aload_n hx hb dX9_isRead_37 rfl (lv_at hl 0 rfl) ?_
    refine lv_iload_n hx hb dX9_isRead_38 rfl (lv_at hl 1 rfl) ?_
    refine lv_bipush (v := 16) hx hb dX9_isRead_39 (by decide) ?_
    refine lv_iadd hx hb dX9_isRead_41 ?_
    refine lv_iconst (v := 1) hx hb dX9_isRead_42 (by decide) ?_
    obtain ⟨ht27, hf⟩ := hf
    refine p_calli hL (p_runV X cf8_ hP ht27 (metX9_begins l G _ _ _ _ _ X.2.2 hf) (cwV 2 hts (lw_V q1623 q1625 qs74 q106 q1626) rfl rfl rfl (by decide +kernel) ⟨Nat.le_trans (Nat.le_of_ble_eq_true rfl) hRf, Nat.le_trans (Nat.le_of_ble_eq_true rfl) hRl⟩) rfl hl.1 rfl (by decide) dX9_isRead_43 ⟨Nat.zero_le _, Nat.zero_le _⟩) (fun r28 σ₁ H locs hf hP hL => ?_)
    obtain ⟨e₁, hf⟩ := hf
    rw [e₁] at hP
    refine lv_if_ne (tgt := 62) hx hb dX9_isRead_46 (by decide) (fun c29 => ?_) (fun c29 => ?_)
    · have hf := hf.1 c29
      refine p_aload_n hx hb dX9_isRead_62 rfl (lv_at hl 0 rfl) ?_
      refine lv_iload_n hx hb dX9_isRead_63 rfl (lv_at hl 1 rfl) ?_
      refine lv_bipush (v := 17) hx hb dX9_isRead_64 (by decide) ?_
      refine lv_iadd hx hb dX9_isRead_66 ?_
      refine lv_sipush (v := 255) hx hb dX9_isRead_67 (by decide) ?_
      refine p_calli hL (p_runV X cf8_ hP ht27 (metX9_begins l G _ _ _ _ _ X.2.2 hf) (cwV 2 hts (lw_V q1623 q1625 qs74 q106 q1626) rfl rfl rfl (by decide +kernel) ⟨Nat.le_trans (Nat.le_of_ble_eq_true rfl) hRf, Nat.le_trans (Nat.le_of_ble_eq_true rfl) hRl⟩) rfl hl.1 rfl (by decide) dX9_isRead_70 ⟨Nat.zero_le _, Nat.zero_le _⟩) (fun r30 σ₁ H locs hf hP hL => ?_)
      obtain ⟨e₁, hf⟩ := hf
      rw [e₁] at hP
      refine lv_if_ne (tgt := 89) hx hb dX9_isRead_73 (by decide) (fun c31 => ?_) (fun c31 => ?_)
      · have hf := hf.1 c31
        refine lv_sipush (v := 2048) hx hb dX9_isRead_89 (by decide) ?_
        refine lv_iload_n hx hb dX9_isRead_92 rfl (lv_at hl 1 rfl) ?_
        refine lv_bipush (v := 16) hx hb dX9_isRead_93 (by decide) ?_
        refine lv_iadd hx hb dX9_isRead_95 ?_
        refine lv_imul hx hb dX9_isRead_96 ?_
        have hl := lv_sub hl [0, 1] rfl
        refine lv_topi (fun y32 hy32 => ?_)
        have hf := hf y32 hy32
        refine p_istore_n (i := 2) hx hb dX9_isRead_97 rfl hl (by decide) ⟨⟨ne_ rfl, Or.inl (ne_ rfl)⟩, ⟨⟨ne_ rfl, Or.inr rfl⟩, trivial⟩⟩ (fun ls hl => ?_)
        refine p_aload_n hx hb dX9_isRead_98 rfl (lv_at hl 1 rfl) ?_
        refine lv_iload_n hx hb dX9_isRead_99 rfl (lv_at hl 0 rfl) ?_
        refine lv_sipush (v := 128) hx hb dX9_isRead_100 (by decide) ?_
        refine lv_iadd hx hb dX9_isRead_103 ?_
        refine lv_iconst (v := 2) hx hb dX9_isRead_104 (by decide) ?_
        refine p_calli hL (p_runV X cf8_ hP ht27 (metX9_lowAt l G _ _ _ _ _ X.2.2 hf) (cwV 2 hts (lw_V q1607 q1609 qs70 q106 q1610) rfl rfl rfl (by decide +kernel) ⟨Nat.le_trans (Nat.le_of_ble_eq_true rfl) hRf, Nat.le_trans (Nat.le_of_ble_eq_true rfl) hRl⟩) rfl hl.1 rfl (by decide) dX9_isRead_105 ⟨Nat.zero_le _, Nat.zero_le _⟩) (fun r33 σ₁ H locs hf hP hL => ?_)
        obtain ⟨e₁, hf⟩ := hf
        rw [e₁] at hP
        refine lv_sipush (v := 2048) hx hb dX9_isRead_108 (by decide) ?_
        refine lv_icmp_ne (tgt := 130) hx hb dX9_isRead_111 (by decide) (fun c34 => ?_) (fun c34 => ?_)
        · have hf := hf.1 c34
          exact sX9_isRead_L130 Y hf _ _ _ _ _ hP hL ⟨rfl, rfl⟩ (lv_sub hl [1, 0] rfl)
        · have hf := hf.2 c34
          refine p_aload_n hx hb dX9_isRead_114 rfl (lv_at hl 1 rfl) ?_
          refine lv_iload_n hx hb dX9_isRead_115 rfl (lv_at hl 0 rfl) ?_
          refine lv_sipush (v := 130) hx hb dX9_isRead_116 (by decide) ?_
          refine lv_iadd hx hb dX9_isRead_119 ?_
          refine lv_iconst (v := 2) hx hb dX9_isRead_120 (by decide) ?_
          refine p_calli hL (p_runV X cf8_ hP ht27 (metX9_highAt l G _ _ _ _ _ X.2.2 hf) (cwV 2 hts (lw_V q1627 q1629 qs75 q106 q1630) rfl rfl rfl (by decide +kernel) ⟨Nat.le_trans (Nat.le_of_ble_eq_true rfl) hRf, Nat.le_trans (Nat.le_of_ble_eq_true rfl) hRl⟩) rfl hl.1 rfl (by decide) dX9_isRead_121 ⟨Nat.zero_le _, Nat.zero_le _⟩) (fun r35 σ₁ H locs hf hP hL => ?_)
          obtain ⟨e₁, hf⟩ := hf
          rw [e₁] at hP
          refine lv_sipush (v := 2048) hx hb dX9_isRead_124 (by decide) ?_
          refine lv_icmp_eq (tgt := 140) hx hb dX9_isRead_127 (by decide) (fun c36 => ?_) (fun c36 => ?_)
          · have hf := hf.1 c36
            refine p_aload_n hx hb dX9_isRead_140 rfl (lv_at hl 1 rfl) ?_
            refine lv_iload_n hx hb dX9_isRead_141 rfl (lv_at hl 0 rfl) ?_
            refine lv_sipush (v := 132) hx hb dX9_isRead_142 (by decide) ?_
            refine lv_iadd hx hb dX9_isRead_145 ?_
            refine lv_iconst (v := 4) hx hb dX9_isRead_146 (by decide) ?_
            refine p_calli hL (p_runV X cf8_ hP ht27 (metX9_lowAt l G _ _ _ _ _ X.2.2 hf) (cwV 2 hts (lw_V q1607 q1609 qs70 q106 q1610) rfl rfl rfl (by decide +kernel) ⟨Nat.le_trans (Nat.le_of_ble_eq_true rfl) hRf, Nat.le_trans (Nat.le_of_ble_eq_true rfl) hRl⟩) rfl hl.1 rfl (by decide) dX9_isRead_147 ⟨Nat.zero_le _, Nat.zero_le _⟩) (fun r37 σ₁ H locs hf hP hL => ?_)
            obtain ⟨e₁, hf⟩ := hf
            rw [e₁] at hP
            refine p_istore_n (i := 3) hx hb dX9_isRead_150 rfl hl (by decide) ⟨⟨ne_ rfl, Or.inr rfl⟩, ⟨⟨ne_ rfl, Or.inl (ne_ rfl)⟩, ⟨⟨ne_ rfl, Or.inl (ne_ rfl)⟩, trivial⟩⟩⟩ (fun ls hl => ?_)
            refine lv_iload_n hx hb dX9_isRead_151 rfl (lv_at hl 0 rfl) ?_
            refine p_aload_n hx hb dX9_isRead_152 rfl (lv_at hl 2 rfl) ?_
            refine lv_iload_n hx hb dX9_isRead_153 rfl (lv_at hl 1 rfl) ?_
            refine lv_sipush (v := 136) hx hb dX9_isRead_154 (by decide) ?_
            refine lv_iadd hx hb dX9_isRead_157 ?_
            refine lv_iconst (v := 4) hx hb dX9_isRead_158 (by decide) ?_
            refine p_calli hL (p_runV X cf8_ hP ht27 (metX9_highAt l G _ _ _ _ _ X.2.2 hf) (cwV 2 hts (lw_V q1627 q1629 qs75 q106 q1630) rfl rfl rfl (by decide +kernel) ⟨Nat.le_trans (Nat.le_of_ble_eq_true rfl) hRf, Nat.le_trans (Nat.le_of_ble_eq_true rfl) hRl⟩) rfl hl.1 rfl (by rw [(ca_i ca_n)]; decide) dX9_isRead_159 ⟨Nat.zero_le _, Nat.zero_le _⟩) (fun r38 σ₁ H locs hf hP hL => ?_)
            obtain ⟨e₁, hf⟩ := hf
            rw [e₁] at hP
            refine lv_icmp_ne (tgt := 176) hx hb dX9_isRead_162 (by decide) (fun c39 => ?_) (fun c39 => ?_)
            · have hf := hf.1 c39
              exact sX9_isRead_L176 Y hf _ _ _ _ _ hP hL ⟨rfl, rfl⟩ (lv_sub hl [2, 1] rfl)
            · have hf := hf.2 c39
              refine lv_iload_n hx hb dX9_isRead_165 rfl (lv_at hl 0 rfl) ?_
              refine lv_if_lt (tgt := 176) hx hb dX9_isRead_166 (by decide) (fun c40 => ?_) (fun c40 => ?_)
              · have hf := hf.1 c40
                exact sX9_isRead_L176 Y hf _ _ _ _ _ hP hL ⟨rfl, rfl⟩ (lv_sub hl [2, 1] rfl)
              · have hf := hf.2 c40
                refine lv_iload_n hx hb dX9_isRead_169 rfl (lv_at hl 0 rfl) ?_
                refine lv_sipush (v := 2048) hx hb dX9_isRead_170 (by decide) ?_
                refine lv_icmp_le (tgt := 186) hx hb dX9_isRead_173 (by decide) (fun c41 => ?_) (fun c41 => ?_)
                · have hf := hf.1 c41
                  refine p_aload_n hx hb dX9_isRead_186 rfl (lv_at hl 2 rfl) ?_
                  refine lv_iload_n hx hb dX9_isRead_187 rfl (lv_at hl 1 rfl) ?_
                  refine lv_sipush (v := 140) hx hb dX9_isRead_188 (by decide) ?_
                  refine lv_iadd hx hb dX9_isRead_191 ?_
                  refine lv_iconst (v := 4) hx hb dX9_isRead_192 (by decide) ?_
                  refine p_calli hL (p_runV X cf8_ hP ht27 (metX9_lowAt l G _ _ _ _ _ X.2.2 hf) (cwV 2 hts (lw_V q1607 q1609 qs70 q106 q1610) rfl rfl rfl (by decide +kernel) ⟨Nat.le_trans (Nat.le_of_ble_eq_true rfl) hRf, Nat.le_trans (Nat.le_of_ble_eq_true rfl) hRl⟩) rfl hl.1 rfl (by decide) dX9_isRead_193 ⟨Nat.zero_le _, Nat.zero_le _⟩) (fun r42 σ₁ H locs hf hP hL => ?_)
                  obtain ⟨e₁, hf⟩ := hf
                  rw [e₁] at hP
                  refine lv_iload_n hx hb dX9_isRead_196 rfl (lv_at hl 3 rfl) ?_
                  refine lv_bipush (v := 18) hx hb dX9_isRead_197 (by decide) ?_
                  refine lv_iadd hx hb dX9_isRead_199 ?_
                  refine lv_icmp_eq (tgt := 213) hx hb dX9_isRead_200 (by decide) (fun c43 => ?_) (fun c43 => ?_)
                  · have hf := hf.1 c43
                    refine p_aload_n hx hb dX9_isRead_213 rfl (lv_at hl 2 rfl) ?_
                    refine lv_iload_n hx hb dX9_isRead_214 rfl (lv_at hl 1 rfl) ?_
                    refine lv_sipush (v := 148) hx hb dX9_isRead_215 (by decide) ?_
                    refine lv_iadd hx hb dX9_isRead_218 ?_
                    refine lv_iconst (v := 4) hx hb dX9_isRead_219 (by decide) ?_
                    refine p_calli hL (p_runV X cf8_ hP ht27 (metX9_highAt l G _ _ _ _ _ X.2.2 hf) (cwV 2 hts (lw_V q1627 q1629 qs75 q106 q1630) rfl rfl rfl (by decide +kernel) ⟨Nat.le_trans (Nat.le_of_ble_eq_true rfl) hRf, Nat.le_trans (Nat.le_of_ble_eq_true rfl) hRl⟩) rfl hl.1 rfl (by decide) dX9_isRead_220 ⟨Nat.zero_le _, Nat.zero_le _⟩) (fun r44 σ₁ H locs hf hP hL => ?_)
                    obtain ⟨e₁, hf⟩ := hf
                    rw [e₁] at hP
                    refine lv_iload_n hx hb dX9_isRead_223 rfl (lv_at hl 3 rfl) ?_
                    refine lv_bipush (v := 19) hx hb dX9_isRead_224 (by decide) ?_
                    refine lv_iadd hx hb dX9_isRead_226 ?_
                    refine lv_icmp_eq (tgt := 240) hx hb dX9_isRead_227 (by decide) (fun c45 => ?_) (fun c45 => ?_)
                    · have hf := hf.1 c45
                      refine p_aload_n hx hb dX9_isRead_240 rfl (lv_at hl 2 rfl) ?_
                      refine lv_iload_n hx hb dX9_isRead_241 rfl (lv_at hl 1 rfl) ?_
                      refine lv_sipush (v := 156) hx hb dX9_isRead_242 (by decide) ?_
                      refine lv_iadd hx hb dX9_isRead_245 ?_
                      refine lv_iconst (v := 0) hx hb dX9_isRead_246 (by decide) ?_
                      refine p_calli hL (p_runV X cf8_ hP ht27 (metX9_isRecord l G _ _ _ _ _ X.2.2 hf) (cwV 2 hts (lw_V q1631 q1633 qs76 q106 q1634) rfl rfl rfl (by decide +kernel) ⟨Nat.le_trans (Nat.le_of_ble_eq_true rfl) hRf, Nat.le_trans (Nat.le_of_ble_eq_true rfl) hRl⟩) rfl hl.1 rfl (by decide) dX9_isRead_247 ⟨Nat.zero_le _, Nat.zero_le _⟩) (fun r46 σ47 H locs hf hP hL => ?_)
                      refine lv_if_ne (tgt := 255) hx hb dX9_isRead_250 (by decide) (fun c48 => ?_) (fun c48 => ?_)
                      · have hf := hf.1 c48
                        refine p_aload_n hx hb dX9_isRead_255 rfl (lv_at hl 2 rfl) ?_
                        refine lv_iconst (v := 0) hx hb dX9_isRead_256 (by decide) ?_
                        refine lv_iconst (v := (-1)) hx hb dX9_isRead_257 (by decide) ?_
                        refine lv_iload_n hx hb dX9_isRead_258 rfl (lv_at hl 1 rfl) ?_
                        refine lv_sipush (v := 156) hx hb dX9_isRead_259 (by decide) ?_
                        refine lv_iadd hx hb dX9_isRead_262 ?_
                        refine lv_iconst (v := 1) hx hb dX9_isRead_263 (by decide) ?_
                        obtain ⟨ht49, hf⟩ := hf
                        refine p_callv hL (p_runV X cf8_ hP ht49 (metX9_begin l G _ _ _ _ _ _ _ X.2.2 hf) (cwV 4 hts (lw_V q1645 q1647 qs79 q106 q1648) rfl rfl rfl (by decide +kernel) ⟨Nat.le_trans (Nat.le_of_ble_eq_true rfl) hRf, Nat.le_trans (Nat.le_of_ble_eq_true rfl) hRl⟩) rfl hl.1 rfl (by decide) dX9_isRead_264 ⟨Nat.zero_le _, Nat.zero_le _⟩) (fun σ50 H locs hf hP hL => ?_)
                        refine p_aload_n hx hb dX9_isRead_267 rfl (lv_at hl 2 rfl) ?_
                        refine lv_iconst (v := 1) hx hb dX9_isRead_268 (by decide) ?_
                        obtain ⟨ht51, hf⟩ := hf
                        refine p_pI X cf8_ (k := 27) (by decide) rfl hP hL ht51 (p_ow hP ht51 rfl) q1321 (fun _ h => h) (Or.inl rfl) rfl rfl dX9_isRead_269 (fun H locs hP hL => ?_)
                        refine p_nmP hP (fun σ52 hσ52 hP => ?_)
                        have hf := hf σ52 hσ52
                        have ht51 : tg_ σ52 x0 = 9 := by rw [hσ52]; exact ht51
                        refine lv_iconst (v := 0) hx hb dX9_isRead_272 (by decide) ?_
                        refine p_istore (i := 4) hx hb dX9_isRead_273 hl (by decide) ⟨⟨ne_ rfl, Or.inr rfl⟩, ⟨⟨ne_ rfl, Or.inl (ne_ rfl)⟩, ⟨⟨ne_ rfl, Or.inl (ne_ rfl)⟩, ⟨⟨ne_ rfl, Or.inl (ne_ rfl)⟩, trivial⟩⟩⟩⟩ (fun ls hl => ?_)
                        exact sX9_isRead_L275 Y hf _ _ _ _ _ hP hL ⟨rfl, rfl⟩ (lv_sub hl [3, 4, 2, 1, 0] rfl)
                      · have hf := hf.2 c48
                        refine lv_iconst (v := 0) hx hb dX9_isRead_253 (by decide) ?_
                        exact p_zret X hlk hP hL (Nat.le_refl _) (Nat.le_refl _) hr nr_0 dX9_isRead_254 hf
                    · have hf := hf.2 c45
                      refine p_aload_n hx hb dX9_isRead_230 rfl (lv_at hl 2 rfl) ?_
                      refine lv_iload_n hx hb dX9_isRead_231 rfl (lv_at hl 1 rfl) ?_
                      refine lv_sipush (v := 148) hx hb dX9_isRead_232 (by decide) ?_
                      refine lv_iadd hx hb dX9_isRead_235 ?_
                      refine p_calli hL (p_runV X cf8_ hP ht27 (metX9_no l G _ _ _ _ X.2.2 hf) (cwV 1 hts (lw_V q1619 q1621 qs73 q106 q1622) rfl rfl rfl (by decide +kernel) ⟨Nat.le_trans (Nat.le_of_ble_eq_true rfl) hRf, Nat.le_trans (Nat.le_of_ble_eq_true rfl) hRl⟩) rfl hl.1 rfl (by decide) dX9_isRead_236 ⟨Nat.zero_le _, Nat.zero_le _⟩) (fun r53 σ54 H locs hf hP hL => ?_)
                      obtain ⟨hn55, hf⟩ := hf
                      exact p_zret X hlk hP hL (Nat.le_refl _) (Nat.le_refl _) hr hn55 dX9_isRead_239 hf
                  · have hf := hf.2 c43
                    refine p_aload_n hx hb dX9_isRead_203 rfl (lv_at hl 2 rfl) ?_
                    refine lv_iload_n hx hb dX9_isRead_204 rfl (lv_at hl 1 rfl) ?_
                    refine lv_sipush (v := 140) hx hb dX9_isRead_205 (by decide) ?_
                    refine lv_iadd hx hb dX9_isRead_208 ?_
                    refine p_calli hL (p_runV X cf8_ hP ht27 (metX9_no l G _ _ _ _ X.2.2 hf) (cwV 1 hts (lw_V q1619 q1621 qs73 q106 q1622) rfl rfl rfl (by decide +kernel) ⟨Nat.le_trans (Nat.le_of_ble_eq_true rfl) hRf, Nat.le_trans (Nat.le_of_ble_eq_true rfl) hRl⟩) rfl hl.1 rfl (by decide) dX9_isRead_209 ⟨Nat.zero_le _, Nat.zero_le _⟩) (fun r56 σ57 H locs hf hP hL => ?_)
                    obtain ⟨hn58, hf⟩ := hf
                    exact p_zret X hlk hP hL (Nat.le_refl _) (Nat.le_refl _) hr hn58 dX9_isRead_212 hf
                · have hf := hf.2 c41
                  exact sX9_isRead_L176 Y hf _ _ _ _ _ hP hL ⟨rfl, rfl⟩ (lv_sub hl [2, 1] rfl)
          · have hf := hf.2 c36
            exact sX9_isRead_L130 Y hf _ _ _ _ _ hP hL ⟨rfl, rfl⟩ (lv_sub hl [1, 0] rfl)
      · have hf := hf.2 c31
        refine p_aload_n hx hb dX9_isRead_76 rfl (lv_at hl 0 rfl) ?_
        refine lv_sipush (v := 2048) hx hb dX9_isRead_77 (by decide) ?_
        refine lv_iload_n hx hb dX9_isRead_80 rfl (lv_at hl 1 rfl) ?_
        refine lv_bipush (v := 17) hx hb dX9_isRead_81 (by decide) ?_
        refine lv_iadd hx hb dX9_isRead_83 ?_
        refine lv_imul hx hb dX9_isRead_84 ?_
        refine p_calli hL (p_runV X cf8_ hP ht27 (metX9_no l G _ _ _ _ X.2.2 hf) (cwV 1 hts (lw_V q1619 q1621 qs73 q106 q1622) rfl rfl rfl (by decide +kernel) ⟨Nat.le_trans (Nat.le_of_ble_eq_true rfl) hRf, Nat.le_trans (Nat.le_of_ble_eq_true rfl) hRl⟩) rfl hl.1 rfl (by decide) dX9_isRead_85 ⟨Nat.zero_le _, Nat.zero_le _⟩) (fun r59 σ60 H locs hf hP hL => ?_)
        obtain ⟨hn61, hf⟩ := hf
        exact p_zret X hlk hP hL (Nat.le_refl _) (Nat.le_refl _) hr hn61 dX9_isRead_88 hf
    · have hf := hf.2 c29
      refine p_aload_n hx hb dX9_isRead_49 rfl (lv_at hl 0 rfl) ?_
      refine lv_sipush (v := 2048) hx hb dX9_isRead_50 (by decide) ?_
      refine lv_iload_n hx hb dX9_isRead_53 rfl (lv_at hl 1 rfl) ?_
      refine lv_bipush (v := 16) hx hb dX9_isRead_54 (by decide) ?_
      refine lv_iadd hx hb dX9_isRead_56 ?_
      refine lv_imul hx hb dX9_isRead_57 ?_
      refine p_calli hL (p_runV X cf8_ hP ht27 (metX9_no l G _ _ _ _ X.2.2 hf) (cwV 1 hts (lw_V q1619 q1621 qs73 q106 q1622) rfl rfl rfl (by decide +kernel) ⟨Nat.le_trans (Nat.le_of_ble_eq_true rfl) hRf, Nat.le_trans (Nat.le_of_ble_eq_true rfl) hRl⟩) rfl hl.1 rfl (by decide) dX9_isRead_58 ⟨Nat.zero_le _, Nat.zero_le _⟩) (fun r62 σ63 H locs hf hP hL => ?_)
      obtain ⟨hn64, hf⟩ := hf
      exact p_zret X hlk hP hL (Nat.le_refl _) (Nat.le_refl _) hr hn64 dX9_isRead_61 hf
  · have hf := hf.2 c26
    refine p_aload_n hx hb dX9_isRead_13 rfl (lv_at hl 0 rfl) ?_
    refine lv_iload_n hx hb dX9_isRead_14 rfl (lv_at hl 2 rfl) ?_
    obtain ⟨ht65, hf⟩ := hf
    refine p_calli hL (p_runV X cf8_ hP ht65 (metX9_isWrittenSector l G _ _ _ _ X.2.2 hf) (cwV 1 hts (lw_V q1603 q1605 qs69 q106 q1606) rfl rfl rfl (by decide +kernel) ⟨Nat.le_trans (Nat.le_of_ble_eq_true rfl) hRf, Nat.le_trans (Nat.le_of_ble_eq_true rfl) hRl⟩) rfl hl.1 rfl (by decide) dX9_isRead_15 ⟨Nat.zero_le _, Nat.zero_le _⟩) (fun r66 σ₁ H locs hf hP hL => ?_)
    obtain ⟨e₁, hf⟩ := hf
    rw [e₁] at hP
    refine lv_if_ne (tgt := 31) hx hb dX9_isRead_18 (by decide) (fun c67 => ?_) (fun c67 => ?_)
    · have hf := hf.1 c67
      have hl := lv_sub hl [2, 0, 1] rfl
      refine p_iincc (i := 2) (k := 1) hx hb (by decide) dX9_isRead_31 hl (by decide) ⟨⟨ne_ rfl, Or.inl (ne_ rfl)⟩, ⟨⟨ne_ rfl, Or.inr rfl⟩, trivial⟩⟩ (fun y68 hy68 ls hl => ?_)
      have hf := hf y68 hy68
      refine lv_goto (tgt := 5) hx hb dX9_isRead_34 (by decide) ?_
      exact hrc5 _ hf _ _ _ _ _ hP hL ⟨rfl, rfl⟩ (lv_sub hl [1, 2, 0] rfl)
    · have hf := hf.2 c67
      refine p_aload_n hx hb dX9_isRead_21 rfl (lv_at hl 0 rfl) ?_
      refine lv_sipush (v := 2048) hx hb dX9_isRead_22 (by decide) ?_
      refine lv_iload_n hx hb dX9_isRead_25 rfl (lv_at hl 2 rfl) ?_
      refine lv_imul hx hb dX9_isRead_26 ?_
      refine p_calli hL (p_runV X cf8_ hP ht65 (metX9_no l G _ _ _ _ X.2.2 hf) (cwV 1 hts (lw_V q1619 q1621 qs73 q106 q1622) rfl rfl rfl (by decide +kernel) ⟨Nat.le_trans (Nat.le_of_ble_eq_true rfl) hRf, Nat.le_trans (Nat.le_of_ble_eq_true rfl) hRl⟩) rfl hl.1 rfl (by decide) dX9_isRead_27 ⟨Nat.zero_le _, Nat.zero_le _⟩) (fun r69 σ70 H locs hf hP hL => ?_)
      obtain ⟨hn71, hf⟩ := hf
      exact p_zret X hlk hP hL (Nat.le_refl _) (Nat.le_refl _) hr hn71 dX9_isRead_30 hf
set_option maxHeartbeats 4000000 in
theorem sX9_isRead_L5 {G : GG_} {p : Program} {l : Launch} {e : Env} {R : Room} {s : State} {m : MethodId} {args : Array Value} {below : List Frame} {meth : Method} {c : Code} (Y : MX_ G p R s m args meth c cX9_isRead 5 RX9 (some Jvm.ClassFile.FieldType.boolean) 7 167 0 0 "isRead") {post : Int32 → Hp → Prop} {x0 : Nat} {x1 : Int32} {x2 : Int32} {σ : Hp} (hf : wX9_isRead_L5 post x0 x1 x2 σ) : WG_ G p l e R s m args below meth c (MQ below (QI_ G post) args s 0 0 (FR_ G)) BN_ 5 5 [(0, rv_ x0), (1, .int x1), (2, .int x2)] [] σ := by
  unfold wX9_isRead_L5 at hf
  obtain ⟨I, μ, h0, hI⟩ := hf
  have key : ∀ (n : Nat) (x2 : Int32), I x2 → μ x2 < n → WG_ G p l e R s m args below meth c (MQ below (QI_ G post) args s 0 0 (FR_ G)) BN_ 5 5 [(0, rv_ x0), (1, .int x1), (2, .int x2)] [] σ := by
    intro n
    induction n with
    | zero => intro x2 _ h; exact absurd h (Nat.not_lt_zero _)
    | succ n ih => intro x2 hi hn; exact sX9_isRead_B5 Y (fun x2' h => ih x2' h.1 (Nat.lt_of_lt_of_le h.2 (Nat.le_of_lt_succ hn))) (hI x2 hi)
  exact key _ _ h0 (Nat.lt_succ_self _)
set_option maxHeartbeats 4000000 in
theorem sX9_isRead {G : GG_} {p : Program} {l : Launch} {e : Env} {R : Room} {s : State} {m : MethodId} {args : Array Value} {below : List Frame} {meth : Method} {c : Code} (Y : MX_ G p R s m args meth c cX9_isRead 5 RX9 (some Jvm.ClassFile.FieldType.boolean) 7 167 0 0 "isRead") {post : Int32 → Hp → Prop} {x0 : Nat} {x1 : Int32} {σ : Hp} (hf : wX9_isRead x0 x1 σ post) : WG_ G p l e R s m args below meth c (MQ below (QI_ G post) args s 0 0 (FR_ G)) BN_ 5 0 [(0, rv_ x0), (1, .int x1)] [] σ := by
  have ⟨X, hlk, hr, hRf, hRl, hRc, hnm⟩ := Y
  have ⟨⟨hx, hb, _, hown, hts⟩, _, _⟩ := X
  intro H locs cells slots ls hP hL hB hl
  obtain ⟨rfl, rfl⟩ := hB
  unfold wX9_isRead at hf
  refine lv_iload_n hx hb dX9_isRead_0 rfl (lv_at hl 1 rfl) ?_
  refine lv_bipush (v := 16) hx hb dX9_isRead_1 (by decide) ?_
  refine lv_iadd hx hb dX9_isRead_3 ?_
  refine lv_topi (fun y72 hy72 => ?_)
  have hf := hf y72 hy72
  refine p_istore_n (i := 2) hx hb dX9_isRead_4 rfl hl (by decide) ⟨⟨ne_ rfl, Or.inl (ne_ rfl)⟩, ⟨⟨ne_ rfl, Or.inr rfl⟩, trivial⟩⟩ (fun ls hl => ?_)
  exact sX9_isRead_L5 Y hf _ _ _ _ _ hP hL ⟨rfl, rfl⟩ (lv_sub hl [1, 2, 0] rfl)
set_option maxHeartbeats 4000000 in
theorem metX9_isRead (l : Launch) (G : GG_) (x0 : Nat) (x1 : Int32) (σ : Hp) (post : Int32 → Hp → Prop) (hG : GOK_ G) (hf : wX9_isRead x0 x1 σ post) : Met l yX9_isRead (ws_ yX9_isRead cX9_isRead 5 (some Jvm.ClassFile.FieldType.boolean)) { frames := 7, cells := 0, slots := 0, locals := 167 } (PC_ G [rv_ x0, .int x1] σ) (QI_ G post) 0 0 (FR_ G) := by
  refine Met.ofW (cc := cX9_isRead) (maxL := 5) (ret := (some Jvm.ClassFile.FieldType.boolean)) (by decide) rfl ?_
  intro p e s m args below meth c s₁ B hml hv
  obtain ⟨rfl, hP, hW⟩ := hv
  have hts := atoms_spec (ws := ws_ yX9_isRead cX9_isRead 5 (some Jvm.ClassFile.FieldType.boolean)) B.pre
  have hts : ∀ w ∈ lw_all, w.before _ s = true := fun w h => hts w (List.mem_cons_of_mem _ h)
  rw [lg_entry_eq]
  have hl := en_entry [rv_ x0, .int x1] [1, 1] (n := 5) (ca_r (ca_i ca_n)) (by decide)
  exact sX9_isRead ⟨⟨⟨B.exec, B.bytes, hml, findClass_of_methodNamed B.named, hts⟩, hW, hG⟩, B.notSynchronized, B.returns, Nat.le_refl _, Nat.le_refl _, ⟨rfl, rfl⟩, (name_of_methodNamed B.named B.method).1⟩ hf _ _ _ _ _ hP (LO_nil G) ⟨rfl, rfl⟩ hl
abbrev cX9_look : ByteArray := prog_11_method_57_code
def yX9_look : MethodName := ⟨RX9, "look", "(I)I"⟩
theorem dX9_look_0 : decode cX9_look 0 = .ok (.aload_n 0, 1) := by decide +kernel
theorem dX9_look_1 : decode cX9_look 1 = .ok (.iconst 0, 1) := by decide +kernel
theorem dX9_look_2 : decode cX9_look 2 = .ok (.putfield 283, 3) := by decide +kernel
theorem dX9_look_5 : decode cX9_look 5 = .ok (.aload_n 0, 1) := by decide +kernel
theorem dX9_look_6 : decode cX9_look 6 = .ok (.iload_n 1, 1) := by decide +kernel
theorem dX9_look_7 : decode cX9_look 7 = .ok (.invokevirtual 286, 3) := by decide +kernel
theorem dX9_look_10 : decode cX9_look 10 = .ok (.ifCond .eq 10, 3) := by decide +kernel
theorem dX9_look_13 : decode cX9_look 13 = .ok (.aload_n 0, 1) := by decide +kernel
theorem dX9_look_14 : decode cX9_look 14 = .ok (.getfield 283, 3) := by decide +kernel
theorem dX9_look_17 : decode cX9_look 17 = .ok (.goto 9, 3) := by decide +kernel
theorem dX9_look_20 : decode cX9_look 20 = .ok (.iconst (-1), 1) := by decide +kernel
theorem dX9_look_21 : decode cX9_look 21 = .ok (.aload_n 0, 1) := by decide +kernel
theorem dX9_look_22 : decode cX9_look 22 = .ok (.getfield 257, 3) := by decide +kernel
theorem dX9_look_25 : decode cX9_look 25 = .ok (.isub, 1) := by decide +kernel
theorem dX9_look_26 : decode cX9_look 26 = .ok (.ireturn, 1) := by decide +kernel
/-- WriteOnceDiscModel.look(I)I -/
def wX9_look (x0 : Nat) (x1 : Int32) (σ : Hp) (post : Int32 → Hp → Prop) : Prop :=
(tg_ σ x0 = 9 ∧ (∀ σ2, σ2 = sI_ σ 8 27 x0 (0 : Int32) → (wX9_isRead x0 x1 σ2 (fun r3 σ4 => ((r3 = 0 →
  (tg_ σ4 x0 = 9 ∧ post ((-1 : Int32) - (fI_ σ4 8 28 x0)) σ4)) ∧
 (¬ r3 = 0 →
  (tg_ σ4 x0 = 9 ∧ post (fI_ σ4 8 27 x0) σ4)))))))
set_option maxHeartbeats 4000000 in
theorem sX9_look {G : GG_} {p : Program} {l : Launch} {e : Env} {R : Room} {s : State} {m : MethodId} {args : Array Value} {below : List Frame} {meth : Method} {c : Code} (Y : MX_ G p R s m args meth c cX9_look 2 RX9 (some Jvm.ClassFile.FieldType.int) 8 191 0 0 "look") {post : Int32 → Hp → Prop} {x0 : Nat} {x1 : Int32} {σ : Hp} (hf : wX9_look x0 x1 σ post) : WG_ G p l e R s m args below meth c (MQ below (QI_ G post) args s 0 0 (FR_ G)) BN_ 2 0 [(0, rv_ x0), (1, .int x1)] [] σ := by
  have ⟨X, hlk, hr, hRf, hRl, hRc, hnm⟩ := Y
  have ⟨⟨hx, hb, _, hown, hts⟩, _, _⟩ := X
  intro H locs cells slots ls hP hL hB hl
  obtain ⟨rfl, rfl⟩ := hB
  unfold wX9_look at hf
  refine p_aload_n hx hb dX9_look_0 rfl (lv_at hl 0 rfl) ?_
  refine lv_iconst (v := 0) hx hb dX9_look_1 (by decide) ?_
  obtain ⟨ht1, hf⟩ := hf
  refine p_pI X cf8_ (k := 27) (by decide) rfl hP hL ht1 (p_ow hP ht1 rfl) q1321 (fun _ h => h) (Or.inl rfl) rfl rfl dX9_look_2 (fun H locs hP hL => ?_)
  refine p_nmP hP (fun σ2 hσ2 hP => ?_)
  have hf := hf σ2 hσ2
  have ht1 : tg_ σ2 x0 = 9 := by rw [hσ2]; exact ht1
  refine p_aload_n hx hb dX9_look_5 rfl (lv_at hl 0 rfl) ?_
  refine lv_iload_n hx hb dX9_look_6 rfl (lv_at hl 1 rfl) ?_
  refine p_calli hL (p_runV X cf8_ hP ht1 (metX9_isRead l G _ _ _ _ X.2.2 hf) (cwV 1 hts (lw_V q1615 q1617 qs72 q106 q1618) rfl rfl rfl (by decide +kernel) ⟨Nat.le_trans (Nat.le_of_ble_eq_true rfl) hRf, Nat.le_trans (Nat.le_of_ble_eq_true rfl) hRl⟩) rfl hl.1 rfl (by decide) dX9_look_7 ⟨Nat.zero_le _, Nat.zero_le _⟩) (fun r3 σ4 H locs hf hP hL => ?_)
  refine lv_if_eq (tgt := 20) hx hb dX9_look_10 (by decide) (fun c5 => ?_) (fun c5 => ?_)
  · have hf := hf.1 c5
    refine lv_iconst (v := (-1)) hx hb dX9_look_20 (by decide) ?_
    refine p_aload_n hx hb dX9_look_21 rfl (lv_at hl 0 rfl) ?_
    obtain ⟨ht6, hf⟩ := hf
    refine p_gI X cf8_ (k := 28) (by decide) rfl hP ht6 q1322 (fun _ h => h) dX9_look_22 ?_
    refine lv_isub hx hb dX9_look_25 ?_
    exact p_iret X hlk hP hL (Nat.le_refl _) (Nat.le_refl _) hr dX9_look_26 hf
  · have hf := hf.2 c5
    refine p_aload_n hx hb dX9_look_13 rfl (lv_at hl 0 rfl) ?_
    obtain ⟨ht7, hf⟩ := hf
    refine p_gI X cf8_ (k := 27) (by decide) rfl hP ht7 q1321 (fun _ h => h) dX9_look_14 ?_
    refine lv_goto (tgt := 26) hx hb dX9_look_17 (by decide) ?_
    exact p_iret X hlk hP hL (Nat.le_refl _) (Nat.le_refl _) hr dX9_look_26 hf
set_option maxHeartbeats 4000000 in
theorem metX9_look (l : Launch) (G : GG_) (x0 : Nat) (x1 : Int32) (σ : Hp) (post : Int32 → Hp → Prop) (hG : GOK_ G) (hf : wX9_look x0 x1 σ post) : Met l yX9_look (ws_ yX9_look cX9_look 2 (some Jvm.ClassFile.FieldType.int)) { frames := 8, cells := 0, slots := 0, locals := 191 } (PC_ G [rv_ x0, .int x1] σ) (QI_ G post) 0 0 (FR_ G) := by
  refine Met.ofW (cc := cX9_look) (maxL := 2) (ret := (some Jvm.ClassFile.FieldType.int)) (by decide) rfl ?_
  intro p e s m args below meth c s₁ B hml hv
  obtain ⟨rfl, hP, hW⟩ := hv
  have hts := atoms_spec (ws := ws_ yX9_look cX9_look 2 (some Jvm.ClassFile.FieldType.int)) B.pre
  have hts : ∀ w ∈ lw_all, w.before _ s = true := fun w h => hts w (List.mem_cons_of_mem _ h)
  rw [lg_entry_eq]
  have hl := en_entry [rv_ x0, .int x1] [1, 1] (n := 2) (ca_r (ca_i ca_n)) (by decide)
  exact sX9_look ⟨⟨⟨B.exec, B.bytes, hml, findClass_of_methodNamed B.named, hts⟩, hW, hG⟩, B.notSynchronized, B.returns, Nat.le_refl _, Nat.le_refl _, ⟨rfl, rfl⟩, (name_of_methodNamed B.named B.method).1⟩ hf _ _ _ _ _ hP (LO_nil G) ⟨rfl, rfl⟩ hl
abbrev cX9_mark : ByteArray := prog_11_method_65_code
def yX9_mark : MethodName := ⟨RX9, "mark", "(II)I"⟩
theorem dX9_mark_0 : decode cX9_mark 0 = .ok (.aload_n 0, 1) := by decide +kernel
theorem dX9_mark_1 : decode cX9_mark 1 = .ok (.iload_n 1, 1) := by decide +kernel
theorem dX9_mark_2 : decode cX9_mark 2 = .ok (.invokevirtual 314, 3) := by decide +kernel
theorem dX9_mark_5 : decode cX9_mark 5 = .ok (.istore_n 3, 1) := by decide +kernel
theorem dX9_mark_6 : decode cX9_mark 6 = .ok (.aload_n 0, 1) := by decide +kernel
theorem dX9_mark_7 : decode cX9_mark 7 = .ok (.iload_n 3, 1) := by decide +kernel
theorem dX9_mark_8 : decode cX9_mark 8 = .ok (.ifCond .lt 16, 3) := by decide +kernel
theorem dX9_mark_11 : decode cX9_mark 11 = .ok (.iload_n 2, 1) := by decide +kernel
theorem dX9_mark_12 : decode cX9_mark 12 = .ok (.iconst 0, 1) := by decide +kernel
theorem dX9_mark_13 : decode cX9_mark 13 = .ok (.iconst 3, 1) := by decide +kernel
theorem dX9_mark_14 : decode cX9_mark 14 = .ok (.invokestatic 118, 3) := by decide +kernel
theorem dX9_mark_17 : decode cX9_mark 17 = .ok (.ifCond .eq 7, 3) := by decide +kernel
theorem dX9_mark_20 : decode cX9_mark 20 = .ok (.iconst 0, 1) := by decide +kernel
theorem dX9_mark_21 : decode cX9_mark 21 = .ok (.goto 4, 3) := by decide +kernel
theorem dX9_mark_24 : decode cX9_mark 24 = .ok (.iconst 1, 1) := by decide +kernel
theorem dX9_mark_25 : decode cX9_mark 25 = .ok (.putfield 109, 3) := by decide +kernel
theorem dX9_mark_28 : decode cX9_mark 28 = .ok (.aload_n 0, 1) := by decide +kernel
theorem dX9_mark_29 : decode cX9_mark 29 = .ok (.getfield 109, 3) := by decide +kernel
theorem dX9_mark_32 : decode cX9_mark 32 = .ok (.iconst 1, 1) := by decide +kernel
theorem dX9_mark_33 : decode cX9_mark 33 = .ok (.if_icmp .ne 5, 3) := by decide +kernel
theorem dX9_mark_36 : decode cX9_mark 36 = .ok (.iconst 0, 1) := by decide +kernel
theorem dX9_mark_37 : decode cX9_mark 37 = .ok (.ireturn, 1) := by decide +kernel
theorem dX9_mark_38 : decode cX9_mark 38 = .ok (.iload_n 2, 1) := by decide +kernel
theorem dX9_mark_39 : decode cX9_mark 39 = .ok (.ifCond .ne 7, 3) := by decide +kernel
theorem dX9_mark_42 : decode cX9_mark 42 = .ok (.iload_n 3, 1) := by decide +kernel
theorem dX9_mark_43 : decode cX9_mark 43 = .ok (.goto 60, 3) := by decide +kernel
theorem dX9_mark_46 : decode cX9_mark 46 = .ok (.iload_n 2, 1) := by decide +kernel
theorem dX9_mark_47 : decode cX9_mark 47 = .ok (.iconst 1, 1) := by decide +kernel
theorem dX9_mark_48 : decode cX9_mark 48 = .ok (.if_icmp .ne 18, 3) := by decide +kernel
theorem dX9_mark_51 : decode cX9_mark 51 = .ok (.aload_n 0, 1) := by decide +kernel
theorem dX9_mark_52 : decode cX9_mark 52 = .ok (.sipush 2048, 3) := by decide +kernel
theorem dX9_mark_55 : decode cX9_mark 55 = .ok (.iload_n 3, 1) := by decide +kernel
theorem dX9_mark_56 : decode cX9_mark 56 = .ok (.imul, 1) := by decide +kernel
theorem dX9_mark_57 : decode cX9_mark 57 = .ok (.iconst 4, 1) := by decide +kernel
theorem dX9_mark_58 : decode cX9_mark 58 = .ok (.iadd, 1) := by decide +kernel
theorem dX9_mark_59 : decode cX9_mark 59 = .ok (.iconst 4, 1) := by decide +kernel
theorem dX9_mark_60 : decode cX9_mark 60 = .ok (.invokevirtual 266, 3) := by decide +kernel
theorem dX9_mark_63 : decode cX9_mark 63 = .ok (.goto 40, 3) := by decide +kernel
theorem dX9_mark_66 : decode cX9_mark 66 = .ok (.iload_n 2, 1) := by decide +kernel
theorem dX9_mark_67 : decode cX9_mark 67 = .ok (.iconst 2, 1) := by decide +kernel
theorem dX9_mark_68 : decode cX9_mark 68 = .ok (.if_icmp .ne 19, 3) := by decide +kernel
theorem dX9_mark_71 : decode cX9_mark 71 = .ok (.aload_n 0, 1) := by decide +kernel
theorem dX9_mark_72 : decode cX9_mark 72 = .ok (.sipush 2048, 3) := by decide +kernel
theorem dX9_mark_75 : decode cX9_mark 75 = .ok (.iload_n 3, 1) := by decide +kernel
theorem dX9_mark_76 : decode cX9_mark 76 = .ok (.imul, 1) := by decide +kernel
theorem dX9_mark_77 : decode cX9_mark 77 = .ok (.bipush 8, 2) := by decide +kernel
theorem dX9_mark_79 : decode cX9_mark 79 = .ok (.iadd, 1) := by decide +kernel
theorem dX9_mark_80 : decode cX9_mark 80 = .ok (.iconst 4, 1) := by decide +kernel
theorem dX9_mark_81 : decode cX9_mark 81 = .ok (.invokevirtual 266, 3) := by decide +kernel
theorem dX9_mark_84 : decode cX9_mark 84 = .ok (.goto 19, 3) := by decide +kernel
theorem dX9_mark_87 : decode cX9_mark 87 = .ok (.aload_n 0, 1) := by decide +kernel
theorem dX9_mark_88 : decode cX9_mark 88 = .ok (.aload_n 0, 1) := by decide +kernel
theorem dX9_mark_89 : decode cX9_mark 89 = .ok (.sipush 2048, 3) := by decide +kernel
theorem dX9_mark_92 : decode cX9_mark 92 = .ok (.iload_n 3, 1) := by decide +kernel
theorem dX9_mark_93 : decode cX9_mark 93 = .ok (.imul, 1) := by decide +kernel
theorem dX9_mark_94 : decode cX9_mark 94 = .ok (.iconst 4, 1) := by decide +kernel
theorem dX9_mark_95 : decode cX9_mark 95 = .ok (.iadd, 1) := by decide +kernel
theorem dX9_mark_96 : decode cX9_mark 96 = .ok (.iconst 4, 1) := by decide +kernel
theorem dX9_mark_97 : decode cX9_mark 97 = .ok (.invokevirtual 266, 3) := by decide +kernel
theorem dX9_mark_100 : decode cX9_mark 100 = .ok (.invokevirtual 317, 3) := by decide +kernel
theorem dX9_mark_103 : decode cX9_mark 103 = .ok (.ireturn, 1) := by decide +kernel
/-- WriteOnceDiscModel.mark(II)I -/
def wX9_mark_L25 (post : Int32 → Hp → Prop) (x0 : Nat) (x2 : Int32) (x3 : Int32) (s0 : Int32) (s1 : Nat) (σ : Hp) : Prop :=
(tg_ σ s1 = 9 ∧ (∀ σ2, σ2 = sI_ σ 8 0 s1 s0 → (tg_ σ2 x0 = 9 ∧ ((¬ (fI_ σ2 8 0 x0) = (1 : Int32) →
  ((¬ x2 = 0 →
   ((¬ x2 = (1 : Int32) →
    ((¬ x2 = (2 : Int32) →
     (wX9_lowAt x0 (((2048 : Int32) * x3) + (4 : Int32)) (4 : Int32) σ2 (fun r8 => (wX9_look x0 r8 σ2 (fun r9 σ10 => post r9 σ10))))) ∧
    (x2 = (2 : Int32) →
     (wX9_lowAt x0 (((2048 : Int32) * x3) + (8 : Int32)) (4 : Int32) σ2 (fun r11 => post r11 σ2))))) ∧
   (x2 = (1 : Int32) →
    (wX9_lowAt x0 (((2048 : Int32) * x3) + (4 : Int32)) (4 : Int32) σ2 (fun r12 => post r12 σ2))))) ∧
  (x2 = 0 →
   post x3 σ2))) ∧
 ((fI_ σ2 8 0 x0) = (1 : Int32) →
  post (0 : Int32) σ2)))))
def wX9_mark_L24 (post : Int32 → Hp → Prop) (x0 : Nat) (x2 : Int32) (x3 : Int32) (s0 : Nat) (σ : Hp) : Prop :=
wX9_mark_L25 post x0 x2 x3 (1 : Int32) s0 σ
def wX9_mark (x0 : Nat) (x1 : Int32) (x2 : Int32) (σ : Hp) (post : Int32 → Hp → Prop) : Prop :=
(tg_ σ x0 = 9 ∧ (wX9_markAt x0 x1 σ (fun r14 => ((r14 < 0 →
  wX9_mark_L24 post x0 x2 r14 x0 σ) ∧
 (¬ r14 < 0 →
  (wX9_in x2 (0 : Int32) (3 : Int32) σ (fun r16 => ((r16 = 0 →
   wX9_mark_L24 post x0 x2 r14 x0 σ) ∧
  (¬ r16 = 0 →
   wX9_mark_L25 post x0 x2 r14 (0 : Int32) x0 σ)))))))))
set_option maxHeartbeats 4000000 in
theorem sX9_mark_L25 {G : GG_} {p : Program} {l : Launch} {e : Env} {R : Room} {s : State} {m : MethodId} {args : Array Value} {below : List Frame} {meth : Method} {c : Code} (Y : MX_ G p R s m args meth c cX9_mark 4 RX9 (some Jvm.ClassFile.FieldType.int) 9 212 0 0 "mark") {post : Int32 → Hp → Prop} {x0 : Nat} {x2 : Int32} {x3 : Int32} {s0 : Int32} {s1 : Nat} {σ : Hp} (hf : wX9_mark_L25 post x0 x2 x3 s0 s1 σ) : WG_ G p l e R s m args below meth c (MQ below (QI_ G post) args s 0 0 (FR_ G)) BN_ 4 25 [(0, rv_ x0), (2, .int x2), (3, .int x3)] [.int s0, rv_ s1] σ := by
  have ⟨X, hlk, hr, hRf, hRl, hRc, hnm⟩ := Y
  have ⟨⟨hx, hb, _, hown, hts⟩, _, _⟩ := X
  intro H locs cells slots ls hP hL hB hl
  obtain ⟨rfl, rfl⟩ := hB
  unfold wX9_mark_L25 at hf
  obtain ⟨ht1, hf⟩ := hf
  refine p_pI X cf8_ (k := 0) (by decide) rfl hP hL ht1 (p_ow hP ht1 rfl) q1295 (fun _ h => h) (Or.inl rfl) rfl rfl dX9_mark_25 (fun H locs hP hL => ?_)
  refine p_nmP hP (fun σ2 hσ2 hP => ?_)
  have hf := hf σ2 hσ2
  have ht1 : tg_ σ2 s1 = 9 := by rw [hσ2]; exact ht1
  refine p_aload_n hx hb dX9_mark_28 rfl (lv_at hl 0 rfl) ?_
  obtain ⟨ht3, hf⟩ := hf
  refine p_gI X cf8_ (k := 0) (by decide) rfl hP ht3 q1295 (fun _ h => h) dX9_mark_29 ?_
  refine lv_iconst (v := 1) hx hb dX9_mark_32 (by decide) ?_
  refine lv_icmp_ne (tgt := 38) hx hb dX9_mark_33 (by decide) (fun c4 => ?_) (fun c4 => ?_)
  · have hf := hf.1 c4
    refine lv_iload_n hx hb dX9_mark_38 rfl (lv_at hl 1 rfl) ?_
    refine lv_if_ne (tgt := 46) hx hb dX9_mark_39 (by decide) (fun c5 => ?_) (fun c5 => ?_)
    · have hf := hf.1 c5
      refine lv_iload_n hx hb dX9_mark_46 rfl (lv_at hl 1 rfl) ?_
      refine lv_iconst (v := 1) hx hb dX9_mark_47 (by decide) ?_
      refine lv_icmp_ne (tgt := 66) hx hb dX9_mark_48 (by decide) (fun c6 => ?_) (fun c6 => ?_)
      · have hf := hf.1 c6
        refine lv_iload_n hx hb dX9_mark_66 rfl (lv_at hl 1 rfl) ?_
        refine lv_iconst (v := 2) hx hb dX9_mark_67 (by decide) ?_
        refine lv_icmp_ne (tgt := 87) hx hb dX9_mark_68 (by decide) (fun c7 => ?_) (fun c7 => ?_)
        · have hf := hf.1 c7
          refine p_aload_n hx hb dX9_mark_87 rfl (lv_at hl 0 rfl) ?_
          refine p_aload_n hx hb dX9_mark_88 rfl (lv_at hl 0 rfl) ?_
          refine lv_sipush (v := 2048) hx hb dX9_mark_89 (by decide) ?_
          refine lv_iload_n hx hb dX9_mark_92 rfl (lv_at hl 2 rfl) ?_
          refine lv_imul hx hb dX9_mark_93 ?_
          refine lv_iconst (v := 4) hx hb dX9_mark_94 (by decide) ?_
          refine lv_iadd hx hb dX9_mark_95 ?_
          refine lv_iconst (v := 4) hx hb dX9_mark_96 (by decide) ?_
          refine p_calli hL (p_runV X cf8_ hP ht3 (metX9_lowAt l G _ _ _ _ _ X.2.2 hf) (cwV 2 hts (lw_V q1607 q1609 qs70 q106 q1610) rfl rfl rfl (by decide +kernel) ⟨Nat.le_trans (Nat.le_of_ble_eq_true rfl) hRf, Nat.le_trans (Nat.le_of_ble_eq_true rfl) hRl⟩) rfl hl.1 rfl (by rw [(ca_r ca_n)]; decide) dX9_mark_97 ⟨Nat.zero_le _, Nat.zero_le _⟩) (fun r8 σ₁ H locs hf hP hL => ?_)
          obtain ⟨e₁, hf⟩ := hf
          rw [e₁] at hP
          refine p_calli hL (p_runV X cf8_ hP ht3 (metX9_look l G _ _ _ _ X.2.2 hf) (cwV 1 hts (lw_V q1611 q1613 qs71 q106 q1614) rfl rfl rfl (by decide +kernel) ⟨Nat.le_trans (Nat.le_of_ble_eq_true rfl) hRf, Nat.le_trans (Nat.le_of_ble_eq_true rfl) hRl⟩) rfl hl.1 rfl (by decide) dX9_mark_100 ⟨Nat.zero_le _, Nat.zero_le _⟩) (fun r9 σ10 H locs hf hP hL => ?_)
          exact p_iret X hlk hP hL (Nat.le_refl _) (Nat.le_refl _) hr dX9_mark_103 hf
        · have hf := hf.2 c7
          refine p_aload_n hx hb dX9_mark_71 rfl (lv_at hl 0 rfl) ?_
          refine lv_sipush (v := 2048) hx hb dX9_mark_72 (by decide) ?_
          refine lv_iload_n hx hb dX9_mark_75 rfl (lv_at hl 2 rfl) ?_
          refine lv_imul hx hb dX9_mark_76 ?_
          refine lv_bipush (v := 8) hx hb dX9_mark_77 (by decide) ?_
          refine lv_iadd hx hb dX9_mark_79 ?_
          refine lv_iconst (v := 4) hx hb dX9_mark_80 (by decide) ?_
          refine p_calli hL (p_runV X cf8_ hP ht3 (metX9_lowAt l G _ _ _ _ _ X.2.2 hf) (cwV 2 hts (lw_V q1607 q1609 qs70 q106 q1610) rfl rfl rfl (by decide +kernel) ⟨Nat.le_trans (Nat.le_of_ble_eq_true rfl) hRf, Nat.le_trans (Nat.le_of_ble_eq_true rfl) hRl⟩) rfl hl.1 rfl (by decide) dX9_mark_81 ⟨Nat.zero_le _, Nat.zero_le _⟩) (fun r11 σ₁ H locs hf hP hL => ?_)
          obtain ⟨e₁, hf⟩ := hf
          rw [e₁] at hP
          refine lv_goto (tgt := 103) hx hb dX9_mark_84 (by decide) ?_
          exact p_iret X hlk hP hL (Nat.le_refl _) (Nat.le_refl _) hr dX9_mark_103 hf
      · have hf := hf.2 c6
        refine p_aload_n hx hb dX9_mark_51 rfl (lv_at hl 0 rfl) ?_
        refine lv_sipush (v := 2048) hx hb dX9_mark_52 (by decide) ?_
        refine lv_iload_n hx hb dX9_mark_55 rfl (lv_at hl 2 rfl) ?_
        refine lv_imul hx hb dX9_mark_56 ?_
        refine lv_iconst (v := 4) hx hb dX9_mark_57 (by decide) ?_
        refine lv_iadd hx hb dX9_mark_58 ?_
        refine lv_iconst (v := 4) hx hb dX9_mark_59 (by decide) ?_
        refine p_calli hL (p_runV X cf8_ hP ht3 (metX9_lowAt l G _ _ _ _ _ X.2.2 hf) (cwV 2 hts (lw_V q1607 q1609 qs70 q106 q1610) rfl rfl rfl (by decide +kernel) ⟨Nat.le_trans (Nat.le_of_ble_eq_true rfl) hRf, Nat.le_trans (Nat.le_of_ble_eq_true rfl) hRl⟩) rfl hl.1 rfl (by decide) dX9_mark_60 ⟨Nat.zero_le _, Nat.zero_le _⟩) (fun r12 σ₁ H locs hf hP hL => ?_)
        obtain ⟨e₁, hf⟩ := hf
        rw [e₁] at hP
        refine lv_goto (tgt := 103) hx hb dX9_mark_63 (by decide) ?_
        exact p_iret X hlk hP hL (Nat.le_refl _) (Nat.le_refl _) hr dX9_mark_103 hf
    · have hf := hf.2 c5
      refine lv_iload_n hx hb dX9_mark_42 rfl (lv_at hl 2 rfl) ?_
      refine lv_goto (tgt := 103) hx hb dX9_mark_43 (by decide) ?_
      exact p_iret X hlk hP hL (Nat.le_refl _) (Nat.le_refl _) hr dX9_mark_103 hf
  · have hf := hf.2 c4
    refine lv_iconst (v := 0) hx hb dX9_mark_36 (by decide) ?_
    exact p_iret X hlk hP hL (Nat.le_refl _) (Nat.le_refl _) hr dX9_mark_37 hf
set_option maxHeartbeats 4000000 in
theorem sX9_mark_L24 {G : GG_} {p : Program} {l : Launch} {e : Env} {R : Room} {s : State} {m : MethodId} {args : Array Value} {below : List Frame} {meth : Method} {c : Code} (Y : MX_ G p R s m args meth c cX9_mark 4 RX9 (some Jvm.ClassFile.FieldType.int) 9 212 0 0 "mark") {post : Int32 → Hp → Prop} {x0 : Nat} {x2 : Int32} {x3 : Int32} {s0 : Nat} {σ : Hp} (hf : wX9_mark_L24 post x0 x2 x3 s0 σ) : WG_ G p l e R s m args below meth c (MQ below (QI_ G post) args s 0 0 (FR_ G)) BN_ 4 24 [(0, rv_ x0), (2, .int x2), (3, .int x3)] [rv_ s0] σ := by
  have ⟨X, hlk, hr, hRf, hRl, hRc, hnm⟩ := Y
  have ⟨⟨hx, hb, _, hown, hts⟩, _, _⟩ := X
  intro H locs cells slots ls hP hL hB hl
  obtain ⟨rfl, rfl⟩ := hB
  unfold wX9_mark_L24 at hf
  refine lv_iconst (v := 1) hx hb dX9_mark_24 (by decide) ?_
  exact sX9_mark_L25 Y hf _ _ _ _ _ hP hL ⟨rfl, rfl⟩ (lv_sub hl [0, 1, 2] rfl)
set_option maxHeartbeats 4000000 in
theorem sX9_mark {G : GG_} {p : Program} {l : Launch} {e : Env} {R : Room} {s : State} {m : MethodId} {args : Array Value} {below : List Frame} {meth : Method} {c : Code} (Y : MX_ G p R s m args meth c cX9_mark 4 RX9 (some Jvm.ClassFile.FieldType.int) 9 212 0 0 "mark") {post : Int32 → Hp → Prop} {x0 : Nat} {x1 : Int32} {x2 : Int32} {σ : Hp} (hf : wX9_mark x0 x1 x2 σ post) : WG_ G p l e R s m args below meth c (MQ below (QI_ G post) args s 0 0 (FR_ G)) BN_ 4 0 [(0, rv_ x0), (1, .int x1), (2, .int x2)] [] σ := by
  have ⟨X, hlk, hr, hRf, hRl, hRc, hnm⟩ := Y
  have ⟨⟨hx, hb, _, hown, hts⟩, _, _⟩ := X
  intro H locs cells slots ls hP hL hB hl
  obtain ⟨rfl, rfl⟩ := hB
  unfold wX9_mark at hf
  refine p_aload_n hx hb dX9_mark_0 rfl (lv_at hl 0 rfl) ?_
  refine lv_iload_n hx hb dX9_mark_1 rfl (lv_at hl 1 rfl) ?_
  obtain ⟨ht13, hf⟩ := hf
  refine p_calli hL (p_runV X cf8_ hP ht13 (metX9_markAt l G _ _ _ _ X.2.2 hf) (cwV 1 hts (lw_V q1595 q1597 qs67 q106 q1598) rfl rfl rfl (by decide +kernel) ⟨Nat.le_trans (Nat.le_of_ble_eq_true rfl) hRf, Nat.le_trans (Nat.le_of_ble_eq_true rfl) hRl⟩) rfl hl.1 rfl (by decide) dX9_mark_2 ⟨Nat.zero_le _, Nat.zero_le _⟩) (fun r14 σ₁ H locs hf hP hL => ?_)
  obtain ⟨e₁, hf⟩ := hf
  rw [e₁] at hP
  have hl := lv_sub hl [0, 2] rfl
  refine p_istore_n (i := 3) hx hb dX9_mark_5 rfl hl (by decide) ⟨⟨ne_ rfl, Or.inl (ne_ rfl)⟩, ⟨⟨ne_ rfl, Or.inr rfl⟩, trivial⟩⟩ (fun ls hl => ?_)
  refine p_aload_n hx hb dX9_mark_6 rfl (lv_at hl 1 rfl) ?_
  refine lv_iload_n hx hb dX9_mark_7 rfl (lv_at hl 0 rfl) ?_
  refine lv_if_lt (tgt := 24) hx hb dX9_mark_8 (by decide) (fun c15 => ?_) (fun c15 => ?_)
  · have hf := hf.1 c15
    exact sX9_mark_L24 Y hf _ _ _ _ _ hP hL ⟨rfl, rfl⟩ (lv_sub hl [1, 2, 0] rfl)
  · have hf := hf.2 c15
    refine lv_iload_n hx hb dX9_mark_11 rfl (lv_at hl 2 rfl) ?_
    refine lv_iconst (v := 0) hx hb dX9_mark_12 (by decide) ?_
    refine lv_iconst (v := 3) hx hb dX9_mark_13 (by decide) ?_
    refine p_calli hL (p_runS X hP (metX9_in l G _ _ _ _ _ X.2.2 hf) (va_cwS 3 hts (lw_S q1427 q1428 q106 q1429) rfl rfl rfl (by decide +kernel) ⟨Nat.le_trans (Nat.le_of_ble_eq_true rfl) hRf, Nat.le_trans (Nat.le_of_ble_eq_true rfl) hRl⟩) rfl hl.1 rfl (by rw [(ca_r ca_n)]; decide) dX9_mark_14 ⟨Nat.zero_le _, Nat.zero_le _⟩) (fun r16 σ₁ H locs hf hP hL => ?_)
    obtain ⟨e₁, hf⟩ := hf
    rw [e₁] at hP
    refine lv_if_eq (tgt := 24) hx hb dX9_mark_17 (by decide) (fun c17 => ?_) (fun c17 => ?_)
    · have hf := hf.1 c17
      exact sX9_mark_L24 Y hf _ _ _ _ _ hP hL ⟨rfl, rfl⟩ (lv_sub hl [1, 2, 0] rfl)
    · have hf := hf.2 c17
      refine lv_iconst (v := 0) hx hb dX9_mark_20 (by decide) ?_
      refine lv_goto (tgt := 25) hx hb dX9_mark_21 (by decide) ?_
      exact sX9_mark_L25 Y hf _ _ _ _ _ hP hL ⟨rfl, rfl⟩ (lv_sub hl [1, 2, 0] rfl)
set_option maxHeartbeats 4000000 in
theorem metX9_mark (l : Launch) (G : GG_) (x0 : Nat) (x1 : Int32) (x2 : Int32) (σ : Hp) (post : Int32 → Hp → Prop) (hG : GOK_ G) (hf : wX9_mark x0 x1 x2 σ post) : Met l yX9_mark (ws_ yX9_mark cX9_mark 4 (some Jvm.ClassFile.FieldType.int)) { frames := 9, cells := 0, slots := 0, locals := 212 } (PC_ G [rv_ x0, .int x1, .int x2] σ) (QI_ G post) 0 0 (FR_ G) := by
  refine Met.ofW (cc := cX9_mark) (maxL := 4) (ret := (some Jvm.ClassFile.FieldType.int)) (by decide) rfl ?_
  intro p e s m args below meth c s₁ B hml hv
  obtain ⟨rfl, hP, hW⟩ := hv
  have hts := atoms_spec (ws := ws_ yX9_mark cX9_mark 4 (some Jvm.ClassFile.FieldType.int)) B.pre
  have hts : ∀ w ∈ lw_all, w.before _ s = true := fun w h => hts w (List.mem_cons_of_mem _ h)
  rw [lg_entry_eq]
  have hl := en_entry [rv_ x0, .int x1, .int x2] [1, 1, 1] (n := 4) (ca_r (ca_i (ca_i ca_n))) (by decide)
  exact sX9_mark ⟨⟨⟨B.exec, B.bytes, hml, findClass_of_methodNamed B.named, hts⟩, hW, hG⟩, B.notSynchronized, B.returns, Nat.le_refl _, Nat.le_refl _, ⟨rfl, rfl⟩, (name_of_methodNamed B.named B.method).1⟩ hf _ _ _ _ _ hP (LO_nil G) ⟨rfl, rfl⟩ hl
abbrev cX9_discover : ByteArray := prog_11_method_66_code
def yX9_discover : MethodName := ⟨RX9, "discover", "()I"⟩
theorem dX9_discover_0 : decode cX9_discover 0 = .ok (.aload_n 0, 1) := by decide +kernel
theorem dX9_discover_1 : decode cX9_discover 1 = .ok (.iconst 0, 1) := by decide +kernel
theorem dX9_discover_2 : decode cX9_discover 2 = .ok (.putfield 109, 3) := by decide +kernel
theorem dX9_discover_5 : decode cX9_discover 5 = .ok (.iconst 0, 1) := by decide +kernel
theorem dX9_discover_6 : decode cX9_discover 6 = .ok (.istore_n 1, 1) := by decide +kernel
theorem dX9_discover_7 : decode cX9_discover 7 = .ok (.iconst (-1), 1) := by decide +kernel
theorem dX9_discover_8 : decode cX9_discover 8 = .ok (.istore_n 2, 1) := by decide +kernel
theorem dX9_discover_9 : decode cX9_discover 9 = .ok (.iconst 0, 1) := by decide +kernel
theorem dX9_discover_10 : decode cX9_discover 10 = .ok (.istore_n 3, 1) := by decide +kernel
theorem dX9_discover_11 : decode cX9_discover 11 = .ok (.iload_n 3, 1) := by decide +kernel
theorem dX9_discover_12 : decode cX9_discover 12 = .ok (.aload_n 0, 1) := by decide +kernel
theorem dX9_discover_13 : decode cX9_discover 13 = .ok (.getfield 99, 3) := by decide +kernel
theorem dX9_discover_16 : decode cX9_discover 16 = .ok (.if_icmp .ge 44, 3) := by decide +kernel
theorem dX9_discover_19 : decode cX9_discover 19 = .ok (.aload_n 0, 1) := by decide +kernel
theorem dX9_discover_20 : decode cX9_discover 20 = .ok (.iload_n 3, 1) := by decide +kernel
theorem dX9_discover_21 : decode cX9_discover 21 = .ok (.invokevirtual 311, 3) := by decide +kernel
theorem dX9_discover_24 : decode cX9_discover 24 = .ok (.ifCond .eq 30, 3) := by decide +kernel
theorem dX9_discover_27 : decode cX9_discover 27 = .ok (.aload_n 0, 1) := by decide +kernel
theorem dX9_discover_28 : decode cX9_discover 28 = .ok (.aload_n 0, 1) := by decide +kernel
theorem dX9_discover_29 : decode cX9_discover 29 = .ok (.sipush 2048, 3) := by decide +kernel
theorem dX9_discover_32 : decode cX9_discover 32 = .ok (.iload_n 3, 1) := by decide +kernel
theorem dX9_discover_33 : decode cX9_discover 33 = .ok (.imul, 1) := by decide +kernel
theorem dX9_discover_34 : decode cX9_discover 34 = .ok (.iconst 4, 1) := by decide +kernel
theorem dX9_discover_35 : decode cX9_discover 35 = .ok (.iadd, 1) := by decide +kernel
theorem dX9_discover_36 : decode cX9_discover 36 = .ok (.iconst 4, 1) := by decide +kernel
theorem dX9_discover_37 : decode cX9_discover 37 = .ok (.invokevirtual 266, 3) := by decide +kernel
theorem dX9_discover_40 : decode cX9_discover 40 = .ok (.invokevirtual 317, 3) := by decide +kernel
theorem dX9_discover_43 : decode cX9_discover 43 = .ok (.ifCond .ge 6, 3) := by decide +kernel
theorem dX9_discover_46 : decode cX9_discover 46 = .ok (.goto 8, 3) := by decide +kernel
theorem dX9_discover_49 : decode cX9_discover 49 = .ok (.iinc 1 1, 3) := by decide +kernel
theorem dX9_discover_52 : decode cX9_discover 52 = .ok (.iload_n 3, 1) := by decide +kernel
theorem dX9_discover_53 : decode cX9_discover 53 = .ok (.istore_n 2, 1) := by decide +kernel
theorem dX9_discover_54 : decode cX9_discover 54 = .ok (.iinc 3 1, 3) := by decide +kernel
theorem dX9_discover_57 : decode cX9_discover 57 = .ok (.goto (-46), 3) := by decide +kernel
theorem dX9_discover_60 : decode cX9_discover 60 = .ok (.aload_n 0, 1) := by decide +kernel
theorem dX9_discover_61 : decode cX9_discover 61 = .ok (.getfield 125, 3) := by decide +kernel
theorem dX9_discover_64 : decode cX9_discover 64 = .ok (.ifCond .eq 8, 3) := by decide +kernel
theorem dX9_discover_67 : decode cX9_discover 67 = .ok (.aload_n 0, 1) := by decide +kernel
theorem dX9_discover_68 : decode cX9_discover 68 = .ok (.iconst (-1), 1) := by decide +kernel
theorem dX9_discover_69 : decode cX9_discover 69 = .ok (.putfield 103, 3) := by decide +kernel
theorem dX9_discover_72 : decode cX9_discover 72 = .ok (.aload_n 0, 1) := by decide +kernel
theorem dX9_discover_73 : decode cX9_discover 73 = .ok (.iconst 0, 1) := by decide +kernel
theorem dX9_discover_74 : decode cX9_discover 74 = .ok (.putfield 125, 3) := by decide +kernel
theorem dX9_discover_77 : decode cX9_discover 77 = .ok (.aload_n 0, 1) := by decide +kernel
theorem dX9_discover_78 : decode cX9_discover 78 = .ok (.iconst 0, 1) := by decide +kernel
theorem dX9_discover_79 : decode cX9_discover 79 = .ok (.putfield 247, 3) := by decide +kernel
theorem dX9_discover_82 : decode cX9_discover 82 = .ok (.iconst 0, 1) := by decide +kernel
theorem dX9_discover_83 : decode cX9_discover 83 = .ok (.istore_n 3, 1) := by decide +kernel
theorem dX9_discover_84 : decode cX9_discover 84 = .ok (.iload_n 3, 1) := by decide +kernel
theorem dX9_discover_85 : decode cX9_discover 85 = .ok (.aload_n 0, 1) := by decide +kernel
theorem dX9_discover_86 : decode cX9_discover 86 = .ok (.getfield 112, 3) := by decide +kernel
theorem dX9_discover_89 : decode cX9_discover 89 = .ok (.if_icmp .ge 16, 3) := by decide +kernel
theorem dX9_discover_92 : decode cX9_discover 92 = .ok (.aload_n 0, 1) := by decide +kernel
theorem dX9_discover_93 : decode cX9_discover 93 = .ok (.getfield 24, 3) := by decide +kernel
theorem dX9_discover_96 : decode cX9_discover 96 = .ok (.iload_n 3, 1) := by decide +kernel
theorem dX9_discover_97 : decode cX9_discover 97 = .ok (.iconst 0, 1) := by decide +kernel
theorem dX9_discover_98 : decode cX9_discover 98 = .ok (.bastore, 1) := by decide +kernel
theorem dX9_discover_99 : decode cX9_discover 99 = .ok (.iinc 3 1, 3) := by decide +kernel
theorem dX9_discover_102 : decode cX9_discover 102 = .ok (.goto (-18), 3) := by decide +kernel
theorem dX9_discover_105 : decode cX9_discover 105 = .ok (.aload_n 0, 1) := by decide +kernel
theorem dX9_discover_106 : decode cX9_discover 106 = .ok (.invokevirtual 106, 3) := by decide +kernel
theorem dX9_discover_109 : decode cX9_discover 109 = .ok (.iload_n 2, 1) := by decide +kernel
theorem dX9_discover_110 : decode cX9_discover 110 = .ok (.ifCond .ge 5, 3) := by decide +kernel
theorem dX9_discover_113 : decode cX9_discover 113 = .ok (.iconst 0, 1) := by decide +kernel
theorem dX9_discover_114 : decode cX9_discover 114 = .ok (.ireturn, 1) := by decide +kernel
theorem dX9_discover_115 : decode cX9_discover 115 = .ok (.aload_n 0, 1) := by decide +kernel
theorem dX9_discover_116 : decode cX9_discover 116 = .ok (.aload_n 0, 1) := by decide +kernel
theorem dX9_discover_117 : decode cX9_discover 117 = .ok (.sipush 2048, 3) := by decide +kernel
theorem dX9_discover_120 : decode cX9_discover 120 = .ok (.iload_n 2, 1) := by decide +kernel
theorem dX9_discover_121 : decode cX9_discover 121 = .ok (.imul, 1) := by decide +kernel
theorem dX9_discover_122 : decode cX9_discover 122 = .ok (.bipush 8, 2) := by decide +kernel
theorem dX9_discover_124 : decode cX9_discover 124 = .ok (.iadd, 1) := by decide +kernel
theorem dX9_discover_125 : decode cX9_discover 125 = .ok (.iconst 4, 1) := by decide +kernel
theorem dX9_discover_126 : decode cX9_discover 126 = .ok (.invokevirtual 266, 3) := by decide +kernel
theorem dX9_discover_129 : decode cX9_discover 129 = .ok (.putfield 247, 3) := by decide +kernel
theorem dX9_discover_132 : decode cX9_discover 132 = .ok (.aload_n 0, 1) := by decide +kernel
theorem dX9_discover_133 : decode cX9_discover 133 = .ok (.aload_n 0, 1) := by decide +kernel
theorem dX9_discover_134 : decode cX9_discover 134 = .ok (.aload_n 0, 1) := by decide +kernel
theorem dX9_discover_135 : decode cX9_discover 135 = .ok (.sipush 2048, 3) := by decide +kernel
theorem dX9_discover_138 : decode cX9_discover 138 = .ok (.iload_n 2, 1) := by decide +kernel
theorem dX9_discover_139 : decode cX9_discover 139 = .ok (.imul, 1) := by decide +kernel
theorem dX9_discover_140 : decode cX9_discover 140 = .ok (.iconst 4, 1) := by decide +kernel
theorem dX9_discover_141 : decode cX9_discover 141 = .ok (.iadd, 1) := by decide +kernel
theorem dX9_discover_142 : decode cX9_discover 142 = .ok (.iconst 4, 1) := by decide +kernel
theorem dX9_discover_143 : decode cX9_discover 143 = .ok (.invokevirtual 266, 3) := by decide +kernel
theorem dX9_discover_146 : decode cX9_discover 146 = .ok (.invokevirtual 317, 3) := by decide +kernel
theorem dX9_discover_149 : decode cX9_discover 149 = .ok (.putfield 112, 3) := by decide +kernel
theorem dX9_discover_152 : decode cX9_discover 152 = .ok (.iconst 1, 1) := by decide +kernel
theorem dX9_discover_153 : decode cX9_discover 153 = .ok (.istore_n 3, 1) := by decide +kernel
theorem dX9_discover_154 : decode cX9_discover 154 = .ok (.iload_n 3, 1) := by decide +kernel
theorem dX9_discover_155 : decode cX9_discover 155 = .ok (.aload_n 0, 1) := by decide +kernel
theorem dX9_discover_156 : decode cX9_discover 156 = .ok (.getfield 112, 3) := by decide +kernel
theorem dX9_discover_159 : decode cX9_discover 159 = .ok (.if_icmp .ge 129, 3) := by decide +kernel
theorem dX9_discover_162 : decode cX9_discover 162 = .ok (.aload_n 0, 1) := by decide +kernel
theorem dX9_discover_163 : decode cX9_discover 163 = .ok (.getfield 24, 3) := by decide +kernel
theorem dX9_discover_166 : decode cX9_discover 166 = .ok (.iload_n 3, 1) := by decide +kernel
theorem dX9_discover_167 : decode cX9_discover 167 = .ok (.iconst 1, 1) := by decide +kernel
theorem dX9_discover_168 : decode cX9_discover 168 = .ok (.bastore, 1) := by decide +kernel
theorem dX9_discover_169 : decode cX9_discover 169 = .ok (.aload_n 0, 1) := by decide +kernel
theorem dX9_discover_170 : decode cX9_discover 170 = .ok (.getfield 27, 3) := by decide +kernel
theorem dX9_discover_173 : decode cX9_discover 173 = .ok (.iload_n 3, 1) := by decide +kernel
theorem dX9_discover_174 : decode cX9_discover 174 = .ok (.aload_n 0, 1) := by decide +kernel
theorem dX9_discover_175 : decode cX9_discover 175 = .ok (.getfield 69, 3) := by decide +kernel
theorem dX9_discover_178 : decode cX9_discover 178 = .ok (.iload_n 3, 1) := by decide +kernel
theorem dX9_discover_179 : decode cX9_discover 179 = .ok (.baload, 1) := by decide +kernel
theorem dX9_discover_180 : decode cX9_discover 180 = .ok (.bastore, 1) := by decide +kernel
theorem dX9_discover_181 : decode cX9_discover 181 = .ok (.aload_n 0, 1) := by decide +kernel
theorem dX9_discover_182 : decode cX9_discover 182 = .ok (.getfield 30, 3) := by decide +kernel
theorem dX9_discover_185 : decode cX9_discover 185 = .ok (.iload_n 3, 1) := by decide +kernel
theorem dX9_discover_186 : decode cX9_discover 186 = .ok (.aload_n 0, 1) := by decide +kernel
theorem dX9_discover_187 : decode cX9_discover 187 = .ok (.getfield 66, 3) := by decide +kernel
theorem dX9_discover_190 : decode cX9_discover 190 = .ok (.iload_n 3, 1) := by decide +kernel
theorem dX9_discover_191 : decode cX9_discover 191 = .ok (.iaload, 1) := by decide +kernel
theorem dX9_discover_192 : decode cX9_discover 192 = .ok (.iastore, 1) := by decide +kernel
theorem dX9_discover_193 : decode cX9_discover 193 = .ok (.aload_n 0, 1) := by decide +kernel
theorem dX9_discover_194 : decode cX9_discover 194 = .ok (.getfield 34, 3) := by decide +kernel
theorem dX9_discover_197 : decode cX9_discover 197 = .ok (.iload_n 3, 1) := by decide +kernel
theorem dX9_discover_198 : decode cX9_discover 198 = .ok (.aload_n 0, 1) := by decide +kernel
theorem dX9_discover_199 : decode cX9_discover 199 = .ok (.getfield 78, 3) := by decide +kernel
theorem dX9_discover_202 : decode cX9_discover 202 = .ok (.iload_n 3, 1) := by decide +kernel
theorem dX9_discover_203 : decode cX9_discover 203 = .ok (.laload, 1) := by decide +kernel
theorem dX9_discover_204 : decode cX9_discover 204 = .ok (.lastore, 1) := by decide +kernel
theorem dX9_discover_205 : decode cX9_discover 205 = .ok (.aload_n 0, 1) := by decide +kernel
theorem dX9_discover_206 : decode cX9_discover 206 = .ok (.getfield 38, 3) := by decide +kernel
theorem dX9_discover_209 : decode cX9_discover 209 = .ok (.iload_n 3, 1) := by decide +kernel
theorem dX9_discover_210 : decode cX9_discover 210 = .ok (.aload_n 0, 1) := by decide +kernel
theorem dX9_discover_211 : decode cX9_discover 211 = .ok (.getfield 69, 3) := by decide +kernel
theorem dX9_discover_214 : decode cX9_discover 214 = .ok (.iload_n 3, 1) := by decide +kernel
theorem dX9_discover_215 : decode cX9_discover 215 = .ok (.baload, 1) := by decide +kernel
theorem dX9_discover_216 : decode cX9_discover 216 = .ok (.ifCond .eq 7, 3) := by decide +kernel
theorem dX9_discover_219 : decode cX9_discover 219 = .ok (.iconst 0, 1) := by decide +kernel
theorem dX9_discover_220 : decode cX9_discover 220 = .ok (.goto 9, 3) := by decide +kernel
theorem dX9_discover_223 : decode cX9_discover 223 = .ok (.aload_n 0, 1) := by decide +kernel
theorem dX9_discover_224 : decode cX9_discover 224 = .ok (.getfield 72, 3) := by decide +kernel
theorem dX9_discover_227 : decode cX9_discover 227 = .ok (.iload_n 3, 1) := by decide +kernel
theorem dX9_discover_228 : decode cX9_discover 228 = .ok (.iaload, 1) := by decide +kernel
theorem dX9_discover_229 : decode cX9_discover 229 = .ok (.iastore, 1) := by decide +kernel
theorem dX9_discover_230 : decode cX9_discover 230 = .ok (.aload_n 0, 1) := by decide +kernel
theorem dX9_discover_231 : decode cX9_discover 231 = .ok (.getfield 41, 3) := by decide +kernel
theorem dX9_discover_234 : decode cX9_discover 234 = .ok (.iload_n 3, 1) := by decide +kernel
theorem dX9_discover_235 : decode cX9_discover 235 = .ok (.aload_n 0, 1) := by decide +kernel
theorem dX9_discover_236 : decode cX9_discover 236 = .ok (.getfield 69, 3) := by decide +kernel
theorem dX9_discover_239 : decode cX9_discover 239 = .ok (.iload_n 3, 1) := by decide +kernel
theorem dX9_discover_240 : decode cX9_discover 240 = .ok (.baload, 1) := by decide +kernel
theorem dX9_discover_241 : decode cX9_discover 241 = .ok (.ifCond .eq 7, 3) := by decide +kernel
theorem dX9_discover_244 : decode cX9_discover 244 = .ok (.iconst 0, 1) := by decide +kernel
theorem dX9_discover_245 : decode cX9_discover 245 = .ok (.goto 4, 3) := by decide +kernel
theorem dX9_discover_248 : decode cX9_discover 248 = .ok (.iconst (-1), 1) := by decide +kernel
theorem dX9_discover_249 : decode cX9_discover 249 = .ok (.iastore, 1) := by decide +kernel
theorem dX9_discover_250 : decode cX9_discover 250 = .ok (.aload_n 0, 1) := by decide +kernel
theorem dX9_discover_251 : decode cX9_discover 251 = .ok (.getfield 44, 3) := by decide +kernel
theorem dX9_discover_254 : decode cX9_discover 254 = .ok (.iload_n 3, 1) := by decide +kernel
theorem dX9_discover_255 : decode cX9_discover 255 = .ok (.iconst 1, 1) := by decide +kernel
theorem dX9_discover_256 : decode cX9_discover 256 = .ok (.bastore, 1) := by decide +kernel
theorem dX9_discover_257 : decode cX9_discover 257 = .ok (.aload_n 0, 1) := by decide +kernel
theorem dX9_discover_258 : decode cX9_discover 258 = .ok (.getfield 47, 3) := by decide +kernel
theorem dX9_discover_261 : decode cX9_discover 261 = .ok (.iload_n 3, 1) := by decide +kernel
theorem dX9_discover_262 : decode cX9_discover 262 = .ok (.aload_n 0, 1) := by decide +kernel
theorem dX9_discover_263 : decode cX9_discover 263 = .ok (.getfield 69, 3) := by decide +kernel
theorem dX9_discover_266 : decode cX9_discover 266 = .ok (.iload_n 3, 1) := by decide +kernel
theorem dX9_discover_267 : decode cX9_discover 267 = .ok (.baload, 1) := by decide +kernel
theorem dX9_discover_268 : decode cX9_discover 268 = .ok (.ifCond .eq 7, 3) := by decide +kernel
theorem dX9_discover_271 : decode cX9_discover 271 = .ok (.iconst 0, 1) := by decide +kernel
theorem dX9_discover_272 : decode cX9_discover 272 = .ok (.goto 9, 3) := by decide +kernel
theorem dX9_discover_275 : decode cX9_discover 275 = .ok (.aload_n 0, 1) := by decide +kernel
theorem dX9_discover_276 : decode cX9_discover 276 = .ok (.getfield 75, 3) := by decide +kernel
theorem dX9_discover_279 : decode cX9_discover 279 = .ok (.iload_n 3, 1) := by decide +kernel
theorem dX9_discover_280 : decode cX9_discover 280 = .ok (.iaload, 1) := by decide +kernel
theorem dX9_discover_281 : decode cX9_discover 281 = .ok (.iastore, 1) := by decide +kernel
theorem dX9_discover_282 : decode cX9_discover 282 = .ok (.iinc 3 1, 3) := by decide +kernel
theorem dX9_discover_285 : decode cX9_discover 285 = .ok (.goto (-131), 3) := by decide +kernel
theorem dX9_discover_288 : decode cX9_discover 288 = .ok (.iload_n 1, 1) := by decide +kernel
theorem dX9_discover_289 : decode cX9_discover 289 = .ok (.ireturn, 1) := by decide +kernel
/-- WriteOnceDiscModel.discover()I -/
def wX9_discover_L281 (post : Int32 → Hp → Prop) (rc154 : Int32 → Hp → Prop) (x0 : Nat) (x1 : Int32) (x3 : Int32) (s0 : Int32) (s1 : Int32) (s2 : Nat) (σ : Hp) : Prop :=
(tg_ σ s2 = 102 ∧ (lo_ σ < s2 ∧ (vp_in s1 (ln_ σ s2) ∧ (∀ σ4, σ4 = wI_ σ s2 (s1).toNatClampNeg s0 → (∀ y5 : Int32, y5 = x3 + 1 → rc154 y5 σ4)))))
def wX9_discover_L249 (post : Int32 → Hp → Prop) (rc154 : Int32 → Hp → Prop) (x0 : Nat) (x1 : Int32) (x3 : Int32) (s0 : Int32) (s1 : Int32) (s2 : Nat) (σ : Hp) : Prop :=
(tg_ σ s2 = 102 ∧ (lo_ σ < s2 ∧ (vp_in s1 (ln_ σ s2) ∧ (∀ σ9, σ9 = wI_ σ s2 (s1).toNatClampNeg s0 → (tg_ σ9 x0 = 9 ∧ (tg_ σ9 (fR_ σ9 8 17 x0) = 101 ∧ (vp_in x3 (ln_ σ9 (fR_ σ9 8 17 x0)) ∧ (∀ σ13, σ13 = wI_ σ9 (fR_ σ9 8 17 x0) (x3).toNatClampNeg (vp_nar .boolean (1 : Int32)) → (tg_ σ13 (fR_ σ13 8 30 x0) = 101 ∧ (vp_in x3 (ln_ σ13 (fR_ σ13 8 30 x0)) ∧ (((aI_ σ13 (fR_ σ13 8 30 x0) (x3).toNatClampNeg) = 0 →
  (tg_ σ13 (fR_ σ13 8 32 x0) = 102 ∧ (vp_in x3 (ln_ σ13 (fR_ σ13 8 32 x0)) ∧ wX9_discover_L281 post rc154 x0 x1 x3 (aI_ σ13 (fR_ σ13 8 32 x0) (x3).toNatClampNeg) x3 (fR_ σ13 8 18 x0) σ13))) ∧
 (¬ (aI_ σ13 (fR_ σ13 8 30 x0) (x3).toNatClampNeg) = 0 →
  wX9_discover_L281 post rc154 x0 x1 x3 (0 : Int32) x3 (fR_ σ13 8 18 x0) σ13))))))))))))
def wX9_discover_L229 (post : Int32 → Hp → Prop) (rc154 : Int32 → Hp → Prop) (x0 : Nat) (x1 : Int32) (x3 : Int32) (s0 : Int32) (s1 : Int32) (s2 : Nat) (σ : Hp) : Prop :=
(tg_ σ s2 = 102 ∧ (lo_ σ < s2 ∧ (vp_in s1 (ln_ σ s2) ∧ (∀ σ22, σ22 = wI_ σ s2 (s1).toNatClampNeg s0 → (tg_ σ22 x0 = 9 ∧ (tg_ σ22 (fR_ σ22 8 30 x0) = 101 ∧ (vp_in x3 (ln_ σ22 (fR_ σ22 8 30 x0)) ∧ (((aI_ σ22 (fR_ σ22 8 30 x0) (x3).toNatClampNeg) = 0 →
  wX9_discover_L249 post rc154 x0 x1 x3 (-1 : Int32) x3 (fR_ σ22 8 16 x0) σ22) ∧
 (¬ (aI_ σ22 (fR_ σ22 8 30 x0) (x3).toNatClampNeg) = 0 →
  wX9_discover_L249 post rc154 x0 x1 x3 (0 : Int32) x3 (fR_ σ22 8 16 x0) σ22)))))))))
def wX9_discover_B154 (post : Int32 → Hp → Prop) (rc154 : Int32 → Hp → Prop) (x0 : Nat) (x1 : Int32) (x3 : Int32) (σ : Hp) : Prop :=
(tg_ σ x0 = 9 ∧ (((fI_ σ 8 10 x0) ≤ x3 →
  post x1 σ) ∧
 (¬ (fI_ σ 8 10 x0) ≤ x3 →
  (tg_ σ (fR_ σ 8 11 x0) = 101 ∧ (vp_in x3 (ln_ σ (fR_ σ 8 11 x0)) ∧ (∀ σ31, σ31 = wI_ σ (fR_ σ 8 11 x0) (x3).toNatClampNeg (vp_nar .boolean (1 : Int32)) → (tg_ σ31 (fR_ σ31 8 30 x0) = 101 ∧ (vp_in x3 (ln_ σ31 (fR_ σ31 8 30 x0)) ∧ (tg_ σ31 (fR_ σ31 8 12 x0) = 101 ∧ (vp_in x3 (ln_ σ31 (fR_ σ31 8 12 x0)) ∧ (∀ σ36, σ36 = wI_ σ31 (fR_ σ31 8 12 x0) (x3).toNatClampNeg (vp_nar .boolean (aI_ σ31 (fR_ σ31 8 30 x0) (x3).toNatClampNeg)) → (tg_ σ36 (fR_ σ36 8 29 x0) = 102 ∧ (vp_in x3 (ln_ σ36 (fR_ σ36 8 29 x0)) ∧ (tg_ σ36 (fR_ σ36 8 13 x0) = 102 ∧ (lo_ σ36 < (fR_ σ36 8 13 x0) ∧ (vp_in x3 (ln_ σ36 (fR_ σ36 8 13 x0)) ∧ (∀ σ42, σ42 = wI_ σ36 (fR_ σ36 8 13 x0) (x3).toNatClampNeg (aI_ σ36 (fR_ σ36 8 29 x0) (x3).toNatClampNeg) → (tg_ σ42 (fR_ σ42 8 33 x0) = 103 ∧ (vp_in x3 (ln_ σ42 (fR_ σ42 8 33 x0)) ∧ (tg_ σ42 (fR_ σ42 8 14 x0) = 103 ∧ (vp_in x3 (ln_ σ42 (fR_ σ42 8 14 x0)) ∧ (∀ σ47, σ47 = wL_ σ42 (fR_ σ42 8 14 x0) (x3).toNatClampNeg (aL_ σ42 (fR_ σ42 8 33 x0) (x3).toNatClampNeg) → (tg_ σ47 (fR_ σ47 8 30 x0) = 101 ∧ (vp_in x3 (ln_ σ47 (fR_ σ47 8 30 x0)) ∧ (((aI_ σ47 (fR_ σ47 8 30 x0) (x3).toNatClampNeg) = 0 →
   (tg_ σ47 (fR_ σ47 8 31 x0) = 102 ∧ (vp_in x3 (ln_ σ47 (fR_ σ47 8 31 x0)) ∧ wX9_discover_L229 post rc154 x0 x1 x3 (aI_ σ47 (fR_ σ47 8 31 x0) (x3).toNatClampNeg) x3 (fR_ σ47 8 15 x0) σ47))) ∧
  (¬ (aI_ σ47 (fR_ σ47 8 30 x0) (x3).toNatClampNeg) = 0 →
   wX9_discover_L229 post rc154 x0 x1 x3 (0 : Int32) x3 (fR_ σ47 8 15 x0) σ47))))))))))))))))))))))))))
def wX9_discover_L154 (post : Int32 → Hp → Prop) (x0 : Nat) (x1 : Int32) (x3 : Int32) (σ : Hp) : Prop :=
 ∃ (I : Int32 → Hp → Prop) (μ : Int32 → Hp → Nat), I x3 σ ∧ ∀ (x3 : Int32) (σ : Hp), I x3 σ → wX9_discover_B154 post (fun x3' σ' => I x3' σ' ∧ μ x3' σ' < μ x3 σ) x0 x1 x3 σ
def wX9_discover_B84 (post : Int32 → Hp → Prop) (rc84 : Int32 → Hp → Prop) (x0 : Nat) (x1 : Int32) (x2 : Int32) (x3 : Int32) (σ : Hp) : Prop :=
(tg_ σ x0 = 9 ∧ (((fI_ σ 8 10 x0) ≤ x3 →
  (wX9_rootAlone x0  σ (fun σ55 => ((0 ≤ x2 →
   (tg_ σ55 x0 = 9 ∧ (wX9_lowAt x0 (((2048 : Int32) * x2) + (8 : Int32)) (4 : Int32) σ55 (fun r58 => (∀ σ59, σ59 = sI_ σ55 8 20 x0 r58 → (wX9_lowAt x0 (((2048 : Int32) * x2) + (4 : Int32)) (4 : Int32) σ59 (fun r60 => (wX9_look x0 r60 σ59 (fun r61 σ62 => (tg_ σ62 x0 = 9 ∧ (∀ σ64, σ64 = sI_ σ62 8 10 x0 r61 → wX9_discover_L154 post x0 x1 (1 : Int32) σ64))))))))))) ∧
  (¬ 0 ≤ x2 →
   post (0 : Int32) σ55))))) ∧
 (¬ (fI_ σ 8 10 x0) ≤ x3 →
  (tg_ σ (fR_ σ 8 11 x0) = 101 ∧ (vp_in x3 (ln_ σ (fR_ σ 8 11 x0)) ∧ (∀ σ67, σ67 = wI_ σ (fR_ σ 8 11 x0) (x3).toNatClampNeg (vp_nar .boolean (0 : Int32)) → (∀ y68 : Int32, y68 = x3 + 1 → rc84 y68 σ67)))))))
def wX9_discover_L84 (post : Int32 → Hp → Prop) (x0 : Nat) (x1 : Int32) (x2 : Int32) (x3 : Int32) (σ : Hp) : Prop :=
 ∃ (I : Int32 → Hp → Prop) (μ : Int32 → Hp → Nat), I x3 σ ∧ ∀ (x3 : Int32) (σ : Hp), I x3 σ → wX9_discover_B84 post (fun x3' σ' => I x3' σ' ∧ μ x3' σ' < μ x3 σ) x0 x1 x2 x3 σ
def wX9_discover_L72 (post : Int32 → Hp → Prop) (x0 : Nat) (x1 : Int32) (x2 : Int32) (σ : Hp) : Prop :=
(tg_ σ x0 = 9 ∧ (∀ σ70, σ70 = sI_ σ 8 6 x0 (0 : Int32) → (∀ σ71, σ71 = sI_ σ70 8 20 x0 (0 : Int32) → wX9_discover_L84 post x0 x1 x2 (0 : Int32) σ71)))
def wX9_discover_L54 (post : Int32 → Hp → Prop) (rc11 : Int32 → Int32 → Int32 → Hp → Prop) (x0 : Nat) (x1 : Int32) (x2 : Int32) (x3 : Int32) (σ : Hp) : Prop :=
(∀ y72 : Int32, y72 = x3 + 1 → rc11 x1 x2 y72 σ)
def wX9_discover_B11 (post : Int32 → Hp → Prop) (rc11 : Int32 → Int32 → Int32 → Hp → Prop) (x0 : Nat) (x1 : Int32) (x2 : Int32) (x3 : Int32) (σ : Hp) : Prop :=
(tg_ σ x0 = 9 ∧ (((fI_ σ 8 1 x0) ≤ x3 →
  (((fI_ σ 8 6 x0) = 0 →
   wX9_discover_L72 post x0 x1 x2 σ) ∧
  (¬ (fI_ σ 8 6 x0) = 0 →
   (∀ σ76, σ76 = sI_ σ 8 7 x0 (-1 : Int32) → wX9_discover_L72 post x0 x1 x2 σ76)))) ∧
 (¬ (fI_ σ 8 1 x0) ≤ x3 →
  (wX9_isMark x0 x3 σ (fun r77 => ((r77 = 0 →
   wX9_discover_L54 post rc11 x0 x1 x2 x3 σ) ∧
  (¬ r77 = 0 →
   (wX9_lowAt x0 (((2048 : Int32) * x3) + (4 : Int32)) (4 : Int32) σ (fun r79 => (wX9_look x0 r79 σ (fun r80 σ81 => ((0 ≤ r80 →
    (∀ y83 : Int32, y83 = x1 + 1 → wX9_discover_L54 post rc11 x0 y83 x3 x3 σ81)) ∧
   (¬ 0 ≤ r80 →
    wX9_discover_L54 post rc11 x0 x1 x2 x3 σ81)))))))))))))
def wX9_discover_L11 (post : Int32 → Hp → Prop) (x0 : Nat) (x1 : Int32) (x2 : Int32) (x3 : Int32) (σ : Hp) : Prop :=
 ∃ (I : Int32 → Int32 → Int32 → Hp → Prop) (μ : Int32 → Int32 → Int32 → Hp → Nat), I x1 x2 x3 σ ∧ ∀ (x1 : Int32) (x2 : Int32) (x3 : Int32) (σ : Hp), I x1 x2 x3 σ → wX9_discover_B11 post (fun x1' x2' x3' σ' => I x1' x2' x3' σ' ∧ μ x1' x2' x3' σ' < μ x1 x2 x3 σ) x0 x1 x2 x3 σ
def wX9_discover (x0 : Nat) (σ : Hp) (post : Int32 → Hp → Prop) : Prop :=
(tg_ σ x0 = 9 ∧ (∀ σ85, σ85 = sI_ σ 8 0 x0 (0 : Int32) → wX9_discover_L11 post x0 (0 : Int32) (-1 : Int32) (0 : Int32) σ85))
set_option maxHeartbeats 4000000 in
theorem sX9_discover_L281 {G : GG_} {p : Program} {l : Launch} {e : Env} {R : Room} {s : State} {m : MethodId} {args : Array Value} {below : List Frame} {meth : Method} {c : Code} (Y : MX_ G p R s m args meth c cX9_discover 4 RX9 (some Jvm.ClassFile.FieldType.int) 9 212 0 0 "discover") {post : Int32 → Hp → Prop} {rc154 : Int32 → Hp → Prop} {x0 : Nat} {x1 : Int32} {x3 : Int32} {s0 : Int32} {s1 : Int32} {s2 : Nat} {σ : Hp} (hrc154 : ∀ (x3 : Int32) (σ : Hp), rc154 x3 σ → WG_ G p l e R s m args below meth c (MQ below (QI_ G post) args s 0 0 (FR_ G)) BN_ 4 154 [(0, rv_ x0), (1, .int x1), (3, .int x3)] [] σ) (hf : wX9_discover_L281 post rc154 x0 x1 x3 s0 s1 s2 σ) : WG_ G p l e R s m args below meth c (MQ below (QI_ G post) args s 0 0 (FR_ G)) BN_ 4 281 [(0, rv_ x0), (1, .int x1), (3, .int x3)] [.int s0, .int s1, rv_ s2] σ := by
  have ⟨X, hlk, hr, hRf, hRl, hRc, hnm⟩ := Y
  have ⟨⟨hx, hb, _, hown, hts⟩, _, _⟩ := X
  intro H locs cells slots ls hP hL hB hl
  obtain ⟨rfl, rfl⟩ := hB
  unfold wX9_discover_L281 at hf
  obtain ⟨ht1, hf⟩ := hf
  obtain ⟨hlo2, hf⟩ := hf
  obtain ⟨hi3, hf⟩ := hf
  refine p_iast X hP hL ht1 hlo2 hi3 dX9_discover_281 (fun H locs hP hL => ?_)
  refine p_nmP hP (fun σ4 hσ4 hP => ?_)
  have hf := hf σ4 hσ4
  have ht1 : tg_ σ4 s2 = 102 := by rw [hσ4]; exact ht1
  have hl := lv_sub hl [2, 0, 1] rfl
  refine p_iincc (i := 3) (k := 1) hx hb (by decide) dX9_discover_282 hl (by decide) ⟨⟨ne_ rfl, Or.inl (ne_ rfl)⟩, ⟨⟨ne_ rfl, Or.inl (ne_ rfl)⟩, trivial⟩⟩ (fun y5 hy5 ls hl => ?_)
  have hf := hf y5 hy5
  refine lv_goto (tgt := 154) hx hb dX9_discover_285 (by decide) ?_
  exact hrc154 _ _ hf _ _ _ _ _ hP hL ⟨rfl, rfl⟩ (lv_sub hl [1, 2, 0] rfl)
set_option maxHeartbeats 4000000 in
theorem sX9_discover_L249 {G : GG_} {p : Program} {l : Launch} {e : Env} {R : Room} {s : State} {m : MethodId} {args : Array Value} {below : List Frame} {meth : Method} {c : Code} (Y : MX_ G p R s m args meth c cX9_discover 4 RX9 (some Jvm.ClassFile.FieldType.int) 9 212 0 0 "discover") {post : Int32 → Hp → Prop} {rc154 : Int32 → Hp → Prop} {x0 : Nat} {x1 : Int32} {x3 : Int32} {s0 : Int32} {s1 : Int32} {s2 : Nat} {σ : Hp} (hrc154 : ∀ (x3 : Int32) (σ : Hp), rc154 x3 σ → WG_ G p l e R s m args below meth c (MQ below (QI_ G post) args s 0 0 (FR_ G)) BN_ 4 154 [(0, rv_ x0), (1, .int x1), (3, .int x3)] [] σ) (hf : wX9_discover_L249 post rc154 x0 x1 x3 s0 s1 s2 σ) : WG_ G p l e R s m args below meth c (MQ below (QI_ G post) args s 0 0 (FR_ G)) BN_ 4 249 [(0, rv_ x0), (1, .int x1), (3, .int x3)] [.int s0, .int s1, rv_ s2] σ := by
  have ⟨X, hlk, hr, hRf, hRl, hRc, hnm⟩ := Y
  have ⟨⟨hx, hb, _, hown, hts⟩, _, _⟩ := X
  intro H locs cells slots ls hP hL hB hl
  obtain ⟨rfl, rfl⟩ := hB
  unfold wX9_discover_L249 at hf
  obtain ⟨ht6, hf⟩ := hf
  obtain ⟨hlo7, hf⟩ := hf
  obtain ⟨hi8, hf⟩ := hf
  refine p_iast X hP hL ht6 hlo7 hi8 dX9_discover_249 (fun H locs hP hL => ?_)
  refine p_nmP hP (fun σ9 hσ9 hP => ?_)
  have hf := hf σ9 hσ9
  have ht6 : tg_ σ9 s2 = 102 := by rw [hσ9]; exact ht6
  refine p_aload_n hx hb dX9_discover_250 rfl (lv_at hl 0 rfl) ?_
  obtain ⟨ht10, hf⟩ := hf
  refine p_gR X cf8_ (k := 17) (by decide) rfl hP ht10 q1312 (fun _ h => h) dX9_discover_251 ?_
  refine lv_iload_n hx hb dX9_discover_254 rfl (lv_at hl 2 rfl) ?_
  refine lv_iconst (v := 1) hx hb dX9_discover_255 (by decide) ?_
  obtain ⟨ht11, hf⟩ := hf
  obtain ⟨hi12, hf⟩ := hf
  refine p_zast X hP hL ht11 (p_ow hP ht11 rfl) hi12 dX9_discover_256 (fun H locs hP hL => ?_)
  refine p_nmP hP (fun σ13 hσ13 hP => ?_)
  have hf := hf σ13 hσ13
  have ht6 : tg_ σ13 s2 = 102 := by rw [hσ13]; exact ht6
  have ht10 : tg_ σ13 x0 = 9 := by rw [hσ13]; exact ht10
  refine p_aload_n hx hb dX9_discover_257 rfl (lv_at hl 0 rfl) ?_
  refine p_gR X cf8_ (k := 18) (by decide) rfl hP ht10 q1313 (fun _ h => h) dX9_discover_258 ?_
  refine lv_iload_n hx hb dX9_discover_261 rfl (lv_at hl 2 rfl) ?_
  refine p_aload_n hx hb dX9_discover_262 rfl (lv_at hl 0 rfl) ?_
  refine p_gR X cf8_ (k := 30) (by decide) rfl hP ht10 q1324 (fun _ h => h) dX9_discover_263 ?_
  refine lv_iload_n hx hb dX9_discover_266 rfl (lv_at hl 2 rfl) ?_
  obtain ⟨ht14, hf⟩ := hf
  obtain ⟨hi15, hf⟩ := hf
  refine p_zald X hP ht14 hi15 dX9_discover_267 ?_
  refine lv_if_eq (tgt := 275) hx hb dX9_discover_268 (by decide) (fun c16 => ?_) (fun c16 => ?_)
  · have hf := hf.1 c16
    refine p_aload_n hx hb dX9_discover_275 rfl (lv_at hl 0 rfl) ?_
    refine p_gR X cf8_ (k := 32) (by decide) rfl hP ht10 q1326 (fun _ h => h) dX9_discover_276 ?_
    refine lv_iload_n hx hb dX9_discover_279 rfl (lv_at hl 2 rfl) ?_
    obtain ⟨ht17, hf⟩ := hf
    obtain ⟨hi18, hf⟩ := hf
    refine p_iald X hP ht17 hi18 dX9_discover_280 ?_
    exact sX9_discover_L281 Y hrc154 hf _ _ _ _ _ hP hL ⟨rfl, rfl⟩ (lv_sub hl [0, 1, 2] rfl)
  · have hf := hf.2 c16
    refine lv_iconst (v := 0) hx hb dX9_discover_271 (by decide) ?_
    refine lv_goto (tgt := 281) hx hb dX9_discover_272 (by decide) ?_
    exact sX9_discover_L281 Y hrc154 hf _ _ _ _ _ hP hL ⟨rfl, rfl⟩ (lv_sub hl [0, 1, 2] rfl)
set_option maxHeartbeats 4000000 in
theorem sX9_discover_L229 {G : GG_} {p : Program} {l : Launch} {e : Env} {R : Room} {s : State} {m : MethodId} {args : Array Value} {below : List Frame} {meth : Method} {c : Code} (Y : MX_ G p R s m args meth c cX9_discover 4 RX9 (some Jvm.ClassFile.FieldType.int) 9 212 0 0 "discover") {post : Int32 → Hp → Prop} {rc154 : Int32 → Hp → Prop} {x0 : Nat} {x1 : Int32} {x3 : Int32} {s0 : Int32} {s1 : Int32} {s2 : Nat} {σ : Hp} (hrc154 : ∀ (x3 : Int32) (σ : Hp), rc154 x3 σ → WG_ G p l e R s m args below meth c (MQ below (QI_ G post) args s 0 0 (FR_ G)) BN_ 4 154 [(0, rv_ x0), (1, .int x1), (3, .int x3)] [] σ) (hf : wX9_discover_L229 post rc154 x0 x1 x3 s0 s1 s2 σ) : WG_ G p l e R s m args below meth c (MQ below (QI_ G post) args s 0 0 (FR_ G)) BN_ 4 229 [(0, rv_ x0), (1, .int x1), (3, .int x3)] [.int s0, .int s1, rv_ s2] σ := by
  have ⟨X, hlk, hr, hRf, hRl, hRc, hnm⟩ := Y
  have ⟨⟨hx, hb, _, hown, hts⟩, _, _⟩ := X
  intro H locs cells slots ls hP hL hB hl
  obtain ⟨rfl, rfl⟩ := hB
  unfold wX9_discover_L229 at hf
  obtain ⟨ht19, hf⟩ := hf
  obtain ⟨hlo20, hf⟩ := hf
  obtain ⟨hi21, hf⟩ := hf
  refine p_iast X hP hL ht19 hlo20 hi21 dX9_discover_229 (fun H locs hP hL => ?_)
  refine p_nmP hP (fun σ22 hσ22 hP => ?_)
  have hf := hf σ22 hσ22
  have ht19 : tg_ σ22 s2 = 102 := by rw [hσ22]; exact ht19
  refine p_aload_n hx hb dX9_discover_230 rfl (lv_at hl 0 rfl) ?_
  obtain ⟨ht23, hf⟩ := hf
  refine p_gR X cf8_ (k := 16) (by decide) rfl hP ht23 q1311 (fun _ h => h) dX9_discover_231 ?_
  refine lv_iload_n hx hb dX9_discover_234 rfl (lv_at hl 2 rfl) ?_
  refine p_aload_n hx hb dX9_discover_235 rfl (lv_at hl 0 rfl) ?_
  refine p_gR X cf8_ (k := 30) (by decide) rfl hP ht23 q1324 (fun _ h => h) dX9_discover_236 ?_
  refine lv_iload_n hx hb dX9_discover_239 rfl (lv_at hl 2 rfl) ?_
  obtain ⟨ht24, hf⟩ := hf
  obtain ⟨hi25, hf⟩ := hf
  refine p_zald X hP ht24 hi25 dX9_discover_240 ?_
  refine lv_if_eq (tgt := 248) hx hb dX9_discover_241 (by decide) (fun c26 => ?_) (fun c26 => ?_)
  · have hf := hf.1 c26
    refine lv_iconst (v := (-1)) hx hb dX9_discover_248 (by decide) ?_
    exact sX9_discover_L249 Y hrc154 hf _ _ _ _ _ hP hL ⟨rfl, rfl⟩ (lv_sub hl [0, 1, 2] rfl)
  · have hf := hf.2 c26
    refine lv_iconst (v := 0) hx hb dX9_discover_244 (by decide) ?_
    refine lv_goto (tgt := 249) hx hb dX9_discover_245 (by decide) ?_
    exact sX9_discover_L249 Y hrc154 hf _ _ _ _ _ hP hL ⟨rfl, rfl⟩ (lv_sub hl [0, 1, 2] rfl)
set_option maxHeartbeats 4000000 in
theorem sX9_discover_B154 {G : GG_} {p : Program} {l : Launch} {e : Env} {R : Room} {s : State} {m : MethodId} {args : Array Value} {below : List Frame} {meth : Method} {c : Code} (Y : MX_ G p R s m args meth c cX9_discover 4 RX9 (some Jvm.ClassFile.FieldType.int) 9 212 0 0 "discover") {post : Int32 → Hp → Prop} {rc154 : Int32 → Hp → Prop} {x0 : Nat} {x1 : Int32} {x3 : Int32} {σ : Hp} (hrc154 : ∀ (x3 : Int32) (σ : Hp), rc154 x3 σ → WG_ G p l e R s m args below meth c (MQ below (QI_ G post) args s 0 0 (FR_ G)) BN_ 4 154 [(0, rv_ x0), (1, .int x1), (3, .int x3)] [] σ) (hf : wX9_discover_B154 post rc154 x0 x1 x3 σ) : WG_ G p l e R s m args below meth c (MQ below (QI_ G post) args s 0 0 (FR_ G)) BN_ 4 154 [(0, rv_ x0), (1, .int x1), (3, .int x3)] [] σ := by
  have ⟨X, hlk, hr, hRf, hRl, hRc, hnm⟩ := Y
  have ⟨⟨hx, hb, _, hown, hts⟩, _, _⟩ := X
  intro H locs cells slots ls hP hL hB hl
  obtain ⟨rfl, rfl⟩ := hB
  unfold wX9_discover_B154 at hf
  refine lv_iload_n hx hb dX9_discover_154 rfl (lv_at hl 2 rfl) ?_
  refine p_aload_n hx hb dX9_discover_155 rfl (lv_at hl 0 rfl) ?_
  obtain ⟨ht27, hf⟩ := hf
  refine p_gI X cf8_ (k := 10) (by decide) rfl hP ht27 q1305 (fun _ h => h) dX9_discover_156 ?_
  refine lv_icmp_ge (tgt := 288) hx hb dX9_discover_159 (by decide) (fun c28 => ?_) (fun c28 => ?_)
  · have hf := hf.1 c28
    refine lv_iload_n hx hb dX9_discover_288 rfl (lv_at hl 1 rfl) ?_
    exact p_iret X hlk hP hL (Nat.le_refl _) (Nat.le_refl _) hr dX9_discover_289 hf
  · have hf := hf.2 c28
    refine p_aload_n hx hb dX9_discover_162 rfl (lv_at hl 0 rfl) ?_
    refine p_gR X cf8_ (k := 11) (by decide) rfl hP ht27 q1306 (fun _ h => h) dX9_discover_163 ?_
    refine lv_iload_n hx hb dX9_discover_166 rfl (lv_at hl 2 rfl) ?_
    refine lv_iconst (v := 1) hx hb dX9_discover_167 (by decide) ?_
    obtain ⟨ht29, hf⟩ := hf
    obtain ⟨hi30, hf⟩ := hf
    refine p_zast X hP hL ht29 (p_ow hP ht29 rfl) hi30 dX9_discover_168 (fun H locs hP hL => ?_)
    refine p_nmP hP (fun σ31 hσ31 hP => ?_)
    have hf := hf σ31 hσ31
    have ht27 : tg_ σ31 x0 = 9 := by rw [hσ31]; exact ht27
    refine p_aload_n hx hb dX9_discover_169 rfl (lv_at hl 0 rfl) ?_
    refine p_gR X cf8_ (k := 12) (by decide) rfl hP ht27 q1307 (fun _ h => h) dX9_discover_170 ?_
    refine lv_iload_n hx hb dX9_discover_173 rfl (lv_at hl 2 rfl) ?_
    refine p_aload_n hx hb dX9_discover_174 rfl (lv_at hl 0 rfl) ?_
    refine p_gR X cf8_ (k := 30) (by decide) rfl hP ht27 q1324 (fun _ h => h) dX9_discover_175 ?_
    refine lv_iload_n hx hb dX9_discover_178 rfl (lv_at hl 2 rfl) ?_
    obtain ⟨ht32, hf⟩ := hf
    obtain ⟨hi33, hf⟩ := hf
    refine p_zald X hP ht32 hi33 dX9_discover_179 ?_
    obtain ⟨ht34, hf⟩ := hf
    obtain ⟨hi35, hf⟩ := hf
    refine p_zast X hP hL ht34 (p_ow hP ht34 rfl) hi35 dX9_discover_180 (fun H locs hP hL => ?_)
    refine p_nmP hP (fun σ36 hσ36 hP => ?_)
    have hf := hf σ36 hσ36
    have ht27 : tg_ σ36 x0 = 9 := by rw [hσ36]; exact ht27
    refine p_aload_n hx hb dX9_discover_181 rfl (lv_at hl 0 rfl) ?_
    refine p_gR X cf8_ (k := 13) (by decide) rfl hP ht27 q1308 (fun _ h => h) dX9_discover_182 ?_
    refine lv_iload_n hx hb dX9_discover_185 rfl (lv_at hl 2 rfl) ?_
    refine p_aload_n hx hb dX9_discover_186 rfl (lv_at hl 0 rfl) ?_
    refine p_gR X cf8_ (k := 29) (by decide) rfl hP ht27 q1323 (fun _ h => h) dX9_discover_187 ?_
    refine lv_iload_n hx hb dX9_discover_190 rfl (lv_at hl 2 rfl) ?_
    obtain ⟨ht37, hf⟩ := hf
    obtain ⟨hi38, hf⟩ := hf
    refine p_iald X hP ht37 hi38 dX9_discover_191 ?_
    obtain ⟨ht39, hf⟩ := hf
    obtain ⟨hlo40, hf⟩ := hf
    obtain ⟨hi41, hf⟩ := hf
    refine p_iast X hP hL ht39 hlo40 hi41 dX9_discover_192 (fun H locs hP hL => ?_)
    refine p_nmP hP (fun σ42 hσ42 hP => ?_)
    have hf := hf σ42 hσ42
    have ht27 : tg_ σ42 x0 = 9 := by rw [hσ42]; exact ht27
    refine p_aload_n hx hb dX9_discover_193 rfl (lv_at hl 0 rfl) ?_
    refine p_gR X cf8_ (k := 14) (by decide) rfl hP ht27 q1309 (fun _ h => h) dX9_discover_194 ?_
    refine lv_iload_n hx hb dX9_discover_197 rfl (lv_at hl 2 rfl) ?_
    refine p_aload_n hx hb dX9_discover_198 rfl (lv_at hl 0 rfl) ?_
    refine p_gR X cf8_ (k := 33) (by decide) rfl hP ht27 q1327 (fun _ h => h) dX9_discover_199 ?_
    refine lv_iload_n hx hb dX9_discover_202 rfl (lv_at hl 2 rfl) ?_
    obtain ⟨ht43, hf⟩ := hf
    obtain ⟨hi44, hf⟩ := hf
    refine p_lald X hP ht43 hi44 dX9_discover_203 ?_
    obtain ⟨ht45, hf⟩ := hf
    obtain ⟨hi46, hf⟩ := hf
    refine p_last X hP hL ht45 (p_ow hP ht45 rfl) hi46 dX9_discover_204 (fun H locs hP hL => ?_)
    refine p_nmP hP (fun σ47 hσ47 hP => ?_)
    have hf := hf σ47 hσ47
    have ht27 : tg_ σ47 x0 = 9 := by rw [hσ47]; exact ht27
    refine p_aload_n hx hb dX9_discover_205 rfl (lv_at hl 0 rfl) ?_
    refine p_gR X cf8_ (k := 15) (by decide) rfl hP ht27 q1310 (fun _ h => h) dX9_discover_206 ?_
    refine lv_iload_n hx hb dX9_discover_209 rfl (lv_at hl 2 rfl) ?_
    refine p_aload_n hx hb dX9_discover_210 rfl (lv_at hl 0 rfl) ?_
    refine p_gR X cf8_ (k := 30) (by decide) rfl hP ht27 q1324 (fun _ h => h) dX9_discover_211 ?_
    refine lv_iload_n hx hb dX9_discover_214 rfl (lv_at hl 2 rfl) ?_
    obtain ⟨ht48, hf⟩ := hf
    obtain ⟨hi49, hf⟩ := hf
    refine p_zald X hP ht48 hi49 dX9_discover_215 ?_
    refine lv_if_eq (tgt := 223) hx hb dX9_discover_216 (by decide) (fun c50 => ?_) (fun c50 => ?_)
    · have hf := hf.1 c50
      refine p_aload_n hx hb dX9_discover_223 rfl (lv_at hl 0 rfl) ?_
      refine p_gR X cf8_ (k := 31) (by decide) rfl hP ht27 q1325 (fun _ h => h) dX9_discover_224 ?_
      refine lv_iload_n hx hb dX9_discover_227 rfl (lv_at hl 2 rfl) ?_
      obtain ⟨ht51, hf⟩ := hf
      obtain ⟨hi52, hf⟩ := hf
      refine p_iald X hP ht51 hi52 dX9_discover_228 ?_
      exact sX9_discover_L229 Y hrc154 hf _ _ _ _ _ hP hL ⟨rfl, rfl⟩ (lv_sub hl [0, 1, 2] rfl)
    · have hf := hf.2 c50
      refine lv_iconst (v := 0) hx hb dX9_discover_219 (by decide) ?_
      refine lv_goto (tgt := 229) hx hb dX9_discover_220 (by decide) ?_
      exact sX9_discover_L229 Y hrc154 hf _ _ _ _ _ hP hL ⟨rfl, rfl⟩ (lv_sub hl [0, 1, 2] rfl)
set_option maxHeartbeats 4000000 in
theorem sX9_discover_L154 {G : GG_} {p : Program} {l : Launch} {e : Env} {R : Room} {s : State} {m : MethodId} {args : Array Value} {below : List Frame} {meth : Method} {c : Code} (Y : MX_ G p R s m args meth c cX9_discover 4 RX9 (some Jvm.ClassFile.FieldType.int) 9 212 0 0 "discover") {post : Int32 → Hp → Prop} {x0 : Nat} {x1 : Int32} {x3 : Int32} {σ : Hp} (hf : wX9_discover_L154 post x0 x1 x3 σ) : WG_ G p l e R s m args below meth c (MQ below (QI_ G post) args s 0 0 (FR_ G)) BN_ 4 154 [(0, rv_ x0), (1, .int x1), (3, .int x3)] [] σ := by
  unfold wX9_discover_L154 at hf
  obtain ⟨I, μ, h0, hI⟩ := hf
  have key : ∀ (n : Nat) (x3 : Int32) (σ : Hp), I x3 σ → μ x3 σ < n → WG_ G p l e R s m args below meth c (MQ below (QI_ G post) args s 0 0 (FR_ G)) BN_ 4 154 [(0, rv_ x0), (1, .int x1), (3, .int x3)] [] σ := by
    intro n
    induction n with
    | zero => intro x3 σ _ h; exact absurd h (Nat.not_lt_zero _)
    | succ n ih => intro x3 σ hi hn; exact sX9_discover_B154 Y (fun x3' σ' h => ih x3' σ' h.1 (Nat.lt_of_lt_of_le h.2 (Nat.le_of_lt_succ hn))) (hI x3 σ hi)
  exact key _ _ _ h0 (Nat.lt_succ_self _)
set_option maxHeartbeats 4000000 in
theorem sX9_discover_B84 {G : GG_} {p : Program} {l : Launch} {e : Env} {R : Room} {s : State} {m : MethodId} {args : Array Value} {below : List Frame} {meth : Method} {c : Code} (Y : MX_ G p R s m args meth c cX9_discover 4 RX9 (some Jvm.ClassFile.FieldType.int) 9 212 0 0 "discover") {post : Int32 → Hp → Prop} {rc84 : Int32 → Hp → Prop} {x0 : Nat} {x1 : Int32} {x2 : Int32} {x3 : Int32} {σ : Hp} (hrc84 : ∀ (x3 : Int32) (σ : Hp), rc84 x3 σ → WG_ G p l e R s m args below meth c (MQ below (QI_ G post) args s 0 0 (FR_ G)) BN_ 4 84 [(0, rv_ x0), (1, .int x1), (2, .int x2), (3, .int x3)] [] σ) (hf : wX9_discover_B84 post rc84 x0 x1 x2 x3 σ) : WG_ G p l e R s m args below meth c (MQ below (QI_ G post) args s 0 0 (FR_ G)) BN_ 4 84 [(0, rv_ x0), (1, .int x1), (2, .int x2), (3, .int x3)] [] σ := by
  have ⟨X, hlk, hr, hRf, hRl, hRc, hnm⟩ := Y
  have ⟨⟨hx, hb, _, hown, hts⟩, _, _⟩ := X
  intro H locs cells slots ls hP hL hB hl
  obtain ⟨rfl, rfl⟩ := hB
  unfold wX9_discover_B84 at hf
  refine lv_iload_n hx hb dX9_discover_84 rfl (lv_at hl 3 rfl) ?_
  refine p_aload_n hx hb dX9_discover_85 rfl (lv_at hl 0 rfl) ?_
  obtain ⟨ht53, hf⟩ := hf
  refine p_gI X cf8_ (k := 10) (by decide) rfl hP ht53 q1305 (fun _ h => h) dX9_discover_86 ?_
  refine lv_icmp_ge (tgt := 105) hx hb dX9_discover_89 (by decide) (fun c54 => ?_) (fun c54 => ?_)
  · have hf := hf.1 c54
    refine p_aload_n hx hb dX9_discover_105 rfl (lv_at hl 0 rfl) ?_
    refine p_callv hL (p_runV X cf8_ hP ht53 (metX9_rootAlone l G _ _ _ X.2.2 hf) (cwV 0 hts (lw_V q1291 q1293 qs42 q106 q1294) rfl rfl rfl (by decide +kernel) ⟨Nat.le_trans (Nat.le_of_ble_eq_true rfl) hRf, Nat.le_trans (Nat.le_of_ble_eq_true rfl) hRl⟩) rfl hl.1 rfl (by decide) dX9_discover_106 ⟨Nat.zero_le _, Nat.zero_le _⟩) (fun σ55 H locs hf hP hL => ?_)
    refine lv_iload_n hx hb dX9_discover_109 rfl (lv_at hl 2 rfl) ?_
    refine lv_if_ge (tgt := 115) hx hb dX9_discover_110 (by decide) (fun c56 => ?_) (fun c56 => ?_)
    · have hf := hf.1 c56
      refine p_aload_n hx hb dX9_discover_115 rfl (lv_at hl 0 rfl) ?_
      refine p_aload_n hx hb dX9_discover_116 rfl (lv_at hl 0 rfl) ?_
      refine lv_sipush (v := 2048) hx hb dX9_discover_117 (by decide) ?_
      refine lv_iload_n hx hb dX9_discover_120 rfl (lv_at hl 2 rfl) ?_
      refine lv_imul hx hb dX9_discover_121 ?_
      refine lv_bipush (v := 8) hx hb dX9_discover_122 (by decide) ?_
      refine lv_iadd hx hb dX9_discover_124 ?_
      refine lv_iconst (v := 4) hx hb dX9_discover_125 (by decide) ?_
      obtain ⟨ht57, hf⟩ := hf
      refine p_calli hL (p_runV X cf8_ hP ht57 (metX9_lowAt l G _ _ _ _ _ X.2.2 hf) (cwV 2 hts (lw_V q1607 q1609 qs70 q106 q1610) rfl rfl rfl (by decide +kernel) ⟨Nat.le_trans (Nat.le_of_ble_eq_true rfl) hRf, Nat.le_trans (Nat.le_of_ble_eq_true rfl) hRl⟩) rfl hl.1 rfl (by rw [(ca_r ca_n)]; decide) dX9_discover_126 ⟨Nat.zero_le _, Nat.zero_le _⟩) (fun r58 σ₁ H locs hf hP hL => ?_)
      obtain ⟨e₁, hf⟩ := hf
      rw [e₁] at hP
      refine p_pI X cf8_ (k := 20) (by decide) rfl hP hL ht57 (p_ow hP ht57 rfl) q1315 (fun _ h => h) (Or.inl rfl) rfl rfl dX9_discover_129 (fun H locs hP hL => ?_)
      refine p_nmP hP (fun σ59 hσ59 hP => ?_)
      have hf := hf σ59 hσ59
      have ht57 : tg_ σ59 x0 = 9 := by rw [hσ59]; exact ht57
      refine p_aload_n hx hb dX9_discover_132 rfl (lv_at hl 0 rfl) ?_
      refine p_aload_n hx hb dX9_discover_133 rfl (lv_at hl 0 rfl) ?_
      refine p_aload_n hx hb dX9_discover_134 rfl (lv_at hl 0 rfl) ?_
      refine lv_sipush (v := 2048) hx hb dX9_discover_135 (by decide) ?_
      refine lv_iload_n hx hb dX9_discover_138 rfl (lv_at hl 2 rfl) ?_
      refine lv_imul hx hb dX9_discover_139 ?_
      refine lv_iconst (v := 4) hx hb dX9_discover_140 (by decide) ?_
      refine lv_iadd hx hb dX9_discover_141 ?_
      refine lv_iconst (v := 4) hx hb dX9_discover_142 (by decide) ?_
      refine p_calli hL (p_runV X cf8_ hP ht57 (metX9_lowAt l G _ _ _ _ _ X.2.2 hf) (cwV 2 hts (lw_V q1607 q1609 qs70 q106 q1610) rfl rfl rfl (by decide +kernel) ⟨Nat.le_trans (Nat.le_of_ble_eq_true rfl) hRf, Nat.le_trans (Nat.le_of_ble_eq_true rfl) hRl⟩) rfl hl.1 rfl (by rw [(ca_r (ca_r ca_n))]; decide) dX9_discover_143 ⟨Nat.zero_le _, Nat.zero_le _⟩) (fun r60 σ₁ H locs hf hP hL => ?_)
      obtain ⟨e₁, hf⟩ := hf
      rw [e₁] at hP
      refine p_calli hL (p_runV X cf8_ hP ht57 (metX9_look l G _ _ _ _ X.2.2 hf) (cwV 1 hts (lw_V q1611 q1613 qs71 q106 q1614) rfl rfl rfl (by decide +kernel) ⟨Nat.le_trans (Nat.le_of_ble_eq_true rfl) hRf, Nat.le_trans (Nat.le_of_ble_eq_true rfl) hRl⟩) rfl hl.1 rfl (by rw [(ca_r ca_n)]; decide) dX9_discover_146 ⟨Nat.zero_le _, Nat.zero_le _⟩) (fun r61 σ62 H locs hf hP hL => ?_)
      obtain ⟨ht63, hf⟩ := hf
      refine p_pI X cf8_ (k := 10) (by decide) rfl hP hL ht63 (p_ow hP ht63 rfl) q1305 (fun _ h => h) (Or.inl rfl) rfl rfl dX9_discover_149 (fun H locs hP hL => ?_)
      refine p_nmP hP (fun σ64 hσ64 hP => ?_)
      have hf := hf σ64 hσ64
      have ht63 : tg_ σ64 x0 = 9 := by rw [hσ64]; exact ht63
      refine lv_iconst (v := 1) hx hb dX9_discover_152 (by decide) ?_
      have hl := lv_sub hl [0, 1] rfl
      refine p_istore_n (i := 3) hx hb dX9_discover_153 rfl hl (by decide) ⟨⟨ne_ rfl, Or.inl (ne_ rfl)⟩, ⟨⟨ne_ rfl, Or.inl (ne_ rfl)⟩, trivial⟩⟩ (fun ls hl => ?_)
      exact sX9_discover_L154 Y hf _ _ _ _ _ hP hL ⟨rfl, rfl⟩ (lv_sub hl [1, 2, 0] rfl)
    · have hf := hf.2 c56
      refine lv_iconst (v := 0) hx hb dX9_discover_113 (by decide) ?_
      exact p_iret X hlk hP hL (Nat.le_refl _) (Nat.le_refl _) hr dX9_discover_114 hf
  · have hf := hf.2 c54
    refine p_aload_n hx hb dX9_discover_92 rfl (lv_at hl 0 rfl) ?_
    refine p_gR X cf8_ (k := 11) (by decide) rfl hP ht53 q1306 (fun _ h => h) dX9_discover_93 ?_
    refine lv_iload_n hx hb dX9_discover_96 rfl (lv_at hl 3 rfl) ?_
    refine lv_iconst (v := 0) hx hb dX9_discover_97 (by decide) ?_
    obtain ⟨ht65, hf⟩ := hf
    obtain ⟨hi66, hf⟩ := hf
    refine p_zast X hP hL ht65 (p_ow hP ht65 rfl) hi66 dX9_discover_98 (fun H locs hP hL => ?_)
    refine p_nmP hP (fun σ67 hσ67 hP => ?_)
    have hf := hf σ67 hσ67
    have ht53 : tg_ σ67 x0 = 9 := by rw [hσ67]; exact ht53
    have hl := lv_sub hl [3, 0, 1, 2] rfl
    refine p_iincc (i := 3) (k := 1) hx hb (by decide) dX9_discover_99 hl (by decide) ⟨⟨ne_ rfl, Or.inl (ne_ rfl)⟩, ⟨⟨ne_ rfl, Or.inl (ne_ rfl)⟩, ⟨⟨ne_ rfl, Or.inr rfl⟩, trivial⟩⟩⟩ (fun y68 hy68 ls hl => ?_)
    have hf := hf y68 hy68
    refine lv_goto (tgt := 84) hx hb dX9_discover_102 (by decide) ?_
    exact hrc84 _ _ hf _ _ _ _ _ hP hL ⟨rfl, rfl⟩ (lv_sub hl [1, 2, 3, 0] rfl)
set_option maxHeartbeats 4000000 in
theorem sX9_discover_L84 {G : GG_} {p : Program} {l : Launch} {e : Env} {R : Room} {s : State} {m : MethodId} {args : Array Value} {below : List Frame} {meth : Method} {c : Code} (Y : MX_ G p R s m args meth c cX9_discover 4 RX9 (some Jvm.ClassFile.FieldType.int) 9 212 0 0 "discover") {post : Int32 → Hp → Prop} {x0 : Nat} {x1 : Int32} {x2 : Int32} {x3 : Int32} {σ : Hp} (hf : wX9_discover_L84 post x0 x1 x2 x3 σ) : WG_ G p l e R s m args below meth c (MQ below (QI_ G post) args s 0 0 (FR_ G)) BN_ 4 84 [(0, rv_ x0), (1, .int x1), (2, .int x2), (3, .int x3)] [] σ := by
  unfold wX9_discover_L84 at hf
  obtain ⟨I, μ, h0, hI⟩ := hf
  have key : ∀ (n : Nat) (x3 : Int32) (σ : Hp), I x3 σ → μ x3 σ < n → WG_ G p l e R s m args below meth c (MQ below (QI_ G post) args s 0 0 (FR_ G)) BN_ 4 84 [(0, rv_ x0), (1, .int x1), (2, .int x2), (3, .int x3)] [] σ := by
    intro n
    induction n with
    | zero => intro x3 σ _ h; exact absurd h (Nat.not_lt_zero _)
    | succ n ih => intro x3 σ hi hn; exact sX9_discover_B84 Y (fun x3' σ' h => ih x3' σ' h.1 (Nat.lt_of_lt_of_le h.2 (Nat.le_of_lt_succ hn))) (hI x3 σ hi)
  exact key _ _ _ h0 (Nat.lt_succ_self _)
set_option maxHeartbeats 4000000 in
theorem sX9_discover_L72 {G : GG_} {p : Program} {l : Launch} {e : Env} {R : Room} {s : State} {m : MethodId} {args : Array Value} {below : List Frame} {meth : Method} {c : Code} (Y : MX_ G p R s m args meth c cX9_discover 4 RX9 (some Jvm.ClassFile.FieldType.int) 9 212 0 0 "discover") {post : Int32 → Hp → Prop} {x0 : Nat} {x1 : Int32} {x2 : Int32} {σ : Hp} (hf : wX9_discover_L72 post x0 x1 x2 σ) : WG_ G p l e R s m args below meth c (MQ below (QI_ G post) args s 0 0 (FR_ G)) BN_ 4 72 [(0, rv_ x0), (1, .int x1), (2, .int x2)] [] σ := by
  have ⟨X, hlk, hr, hRf, hRl, hRc, hnm⟩ := Y
  have ⟨⟨hx, hb, _, hown, hts⟩, _, _⟩ := X
  intro H locs cells slots ls hP hL hB hl
  obtain ⟨rfl, rfl⟩ := hB
  unfold wX9_discover_L72 at hf
  refine p_aload_n hx hb dX9_discover_72 rfl (lv_at hl 0 rfl) ?_
  refine lv_iconst (v := 0) hx hb dX9_discover_73 (by decide) ?_
  obtain ⟨ht69, hf⟩ := hf
  refine p_pI X cf8_ (k := 6) (by decide) rfl hP hL ht69 (p_ow hP ht69 rfl) q1301 (fun _ h => h) (Or.inl rfl) rfl (by decide) dX9_discover_74 (fun H locs hP hL => ?_)
  refine p_nmP hP (fun σ70 hσ70 hP => ?_)
  have hf := hf σ70 hσ70
  have ht69 : tg_ σ70 x0 = 9 := by rw [hσ70]; exact ht69
  refine p_aload_n hx hb dX9_discover_77 rfl (lv_at hl 0 rfl) ?_
  refine lv_iconst (v := 0) hx hb dX9_discover_78 (by decide) ?_
  refine p_pI X cf8_ (k := 20) (by decide) rfl hP hL ht69 (p_ow hP ht69 rfl) q1315 (fun _ h => h) (Or.inl rfl) rfl rfl dX9_discover_79 (fun H locs hP hL => ?_)
  refine p_nmP hP (fun σ71 hσ71 hP => ?_)
  have hf := hf σ71 hσ71
  have ht69 : tg_ σ71 x0 = 9 := by rw [hσ71]; exact ht69
  refine lv_iconst (v := 0) hx hb dX9_discover_82 (by decide) ?_
  refine p_istore_n (i := 3) hx hb dX9_discover_83 rfl hl (by decide) ⟨⟨ne_ rfl, Or.inl (ne_ rfl)⟩, ⟨⟨ne_ rfl, Or.inl (ne_ rfl)⟩, ⟨⟨ne_ rfl, Or.inr rfl⟩, trivial⟩⟩⟩ (fun ls hl => ?_)
  exact sX9_discover_L84 Y hf _ _ _ _ _ hP hL ⟨rfl, rfl⟩ (lv_sub hl [1, 2, 3, 0] rfl)
set_option maxHeartbeats 4000000 in
theorem sX9_discover_L54 {G : GG_} {p : Program} {l : Launch} {e : Env} {R : Room} {s : State} {m : MethodId} {args : Array Value} {below : List Frame} {meth : Method} {c : Code} (Y : MX_ G p R s m args meth c cX9_discover 4 RX9 (some Jvm.ClassFile.FieldType.int) 9 212 0 0 "discover") {post : Int32 → Hp → Prop} {rc11 : Int32 → Int32 → Int32 → Hp → Prop} {x0 : Nat} {x1 : Int32} {x2 : Int32} {x3 : Int32} {σ : Hp} (hrc11 : ∀ (x1 : Int32) (x2 : Int32) (x3 : Int32) (σ : Hp), rc11 x1 x2 x3 σ → WG_ G p l e R s m args below meth c (MQ below (QI_ G post) args s 0 0 (FR_ G)) BN_ 4 11 [(0, rv_ x0), (1, .int x1), (2, .int x2), (3, .int x3)] [] σ) (hf : wX9_discover_L54 post rc11 x0 x1 x2 x3 σ) : WG_ G p l e R s m args below meth c (MQ below (QI_ G post) args s 0 0 (FR_ G)) BN_ 4 54 [(0, rv_ x0), (1, .int x1), (2, .int x2), (3, .int x3)] [] σ := by
  have ⟨X, hlk, hr, hRf, hRl, hRc, hnm⟩ := Y
  have ⟨⟨hx, hb, _, hown, hts⟩, _, _⟩ := X
  intro H locs cells slots ls hP hL hB hl
  obtain ⟨rfl, rfl⟩ := hB
  unfold wX9_discover_L54 at hf
  have hl := lv_sub hl [3, 0, 1, 2] rfl
  refine p_iincc (i := 3) (k := 1) hx hb (by decide) dX9_discover_54 hl (by decide) ⟨⟨ne_ rfl, Or.inl (ne_ rfl)⟩, ⟨⟨ne_ rfl, Or.inl (ne_ rfl)⟩, ⟨⟨ne_ rfl, Or.inr rfl⟩, trivial⟩⟩⟩ (fun y72 hy72 ls hl => ?_)
  have hf := hf y72 hy72
  refine lv_goto (tgt := 11) hx hb dX9_discover_57 (by decide) ?_
  exact hrc11 _ _ _ _ hf _ _ _ _ _ hP hL ⟨rfl, rfl⟩ (lv_sub hl [1, 2, 3, 0] rfl)
set_option maxHeartbeats 4000000 in
theorem sX9_discover_B11 {G : GG_} {p : Program} {l : Launch} {e : Env} {R : Room} {s : State} {m : MethodId} {args : Array Value} {below : List Frame} {meth : Method} {c : Code} (Y : MX_ G p R s m args meth c cX9_discover 4 RX9 (some Jvm.ClassFile.FieldType.int) 9 212 0 0 "discover") {post : Int32 → Hp → Prop} {rc11 : Int32 → Int32 → Int32 → Hp → Prop} {x0 : Nat} {x1 : Int32} {x2 : Int32} {x3 : Int32} {σ : Hp} (hrc11 : ∀ (x1 : Int32) (x2 : Int32) (x3 : Int32) (σ : Hp), rc11 x1 x2 x3 σ → WG_ G p l e R s m args below meth c (MQ below (QI_ G post) args s 0 0 (FR_ G)) BN_ 4 11 [(0, rv_ x0), (1, .int x1), (2, .int x2), (3, .int x3)] [] σ) (hf : wX9_discover_B11 post rc11 x0 x1 x2 x3 σ) : WG_ G p l e R s m args below meth c (MQ below (QI_ G post) args s 0 0 (FR_ G)) BN_ 4 11 [(0, rv_ x0), (1, .int x1), (2, .int x2), (3, .int x3)] [] σ := by
  have ⟨X, hlk, hr, hRf, hRl, hRc, hnm⟩ := Y
  have ⟨⟨hx, hb, _, hown, hts⟩, _, _⟩ := X
  intro H locs cells slots ls hP hL hB hl
  obtain ⟨rfl, rfl⟩ := hB
  unfold wX9_discover_B11 at hf
  refine lv_iload_n hx hb dX9_discover_11 rfl (lv_at hl 3 rfl) ?_
  refine p_aload_n hx hb dX9_discover_12 rfl (lv_at hl 0 rfl) ?_
  obtain ⟨ht73, hf⟩ := hf
  refine p_gI X cf8_ (k := 1) (by decide) rfl hP ht73 q1296 (fun _ h => h) dX9_discover_13 ?_
  refine lv_icmp_ge (tgt := 60) hx hb dX9_discover_16 (by decide) (fun c74 => ?_) (fun c74 => ?_)
  · have hf := hf.1 c74
    refine p_aload_n hx hb dX9_discover_60 rfl (lv_at hl 0 rfl) ?_
    refine p_gI X cf8_ (k := 6) (by decide) rfl hP ht73 q1301 (fun _ h => h) dX9_discover_61 ?_
    refine lv_if_eq (tgt := 72) hx hb dX9_discover_64 (by decide) (fun c75 => ?_) (fun c75 => ?_)
    · have hf := hf.1 c75
      exact sX9_discover_L72 Y hf _ _ _ _ _ hP hL ⟨rfl, rfl⟩ (lv_sub hl [0, 1, 2] rfl)
    · have hf := hf.2 c75
      refine p_aload_n hx hb dX9_discover_67 rfl (lv_at hl 0 rfl) ?_
      refine lv_iconst (v := (-1)) hx hb dX9_discover_68 (by decide) ?_
      refine p_pI X cf8_ (k := 7) (by decide) rfl hP hL ht73 (p_ow hP ht73 rfl) q1302 (fun _ h => h) (Or.inl rfl) rfl rfl dX9_discover_69 (fun H locs hP hL => ?_)
      refine p_nmP hP (fun σ76 hσ76 hP => ?_)
      have hf := hf σ76 hσ76
      have ht73 : tg_ σ76 x0 = 9 := by rw [hσ76]; exact ht73
      exact sX9_discover_L72 Y hf _ _ _ _ _ hP hL ⟨rfl, rfl⟩ (lv_sub hl [0, 1, 2] rfl)
  · have hf := hf.2 c74
    refine p_aload_n hx hb dX9_discover_19 rfl (lv_at hl 0 rfl) ?_
    refine lv_iload_n hx hb dX9_discover_20 rfl (lv_at hl 3 rfl) ?_
    refine p_calli hL (p_runV X cf8_ hP ht73 (metX9_isMark l G _ _ _ _ X.2.2 hf) (cwV 1 hts (lw_V q1599 q1601 qs68 q106 q1602) rfl rfl rfl (by decide +kernel) ⟨Nat.le_trans (Nat.le_of_ble_eq_true rfl) hRf, Nat.le_trans (Nat.le_of_ble_eq_true rfl) hRl⟩) rfl hl.1 rfl (by decide) dX9_discover_21 ⟨Nat.zero_le _, Nat.zero_le _⟩) (fun r77 σ₁ H locs hf hP hL => ?_)
    obtain ⟨e₁, hf⟩ := hf
    rw [e₁] at hP
    refine lv_if_eq (tgt := 54) hx hb dX9_discover_24 (by decide) (fun c78 => ?_) (fun c78 => ?_)
    · have hf := hf.1 c78
      exact sX9_discover_L54 Y hrc11 hf _ _ _ _ _ hP hL ⟨rfl, rfl⟩ (lv_sub hl [0, 1, 2, 3] rfl)
    · have hf := hf.2 c78
      refine p_aload_n hx hb dX9_discover_27 rfl (lv_at hl 0 rfl) ?_
      refine p_aload_n hx hb dX9_discover_28 rfl (lv_at hl 0 rfl) ?_
      refine lv_sipush (v := 2048) hx hb dX9_discover_29 (by decide) ?_
      refine lv_iload_n hx hb dX9_discover_32 rfl (lv_at hl 3 rfl) ?_
      refine lv_imul hx hb dX9_discover_33 ?_
      refine lv_iconst (v := 4) hx hb dX9_discover_34 (by decide) ?_
      refine lv_iadd hx hb dX9_discover_35 ?_
      refine lv_iconst (v := 4) hx hb dX9_discover_36 (by decide) ?_
      refine p_calli hL (p_runV X cf8_ hP ht73 (metX9_lowAt l G _ _ _ _ _ X.2.2 hf) (cwV 2 hts (lw_V q1607 q1609 qs70 q106 q1610) rfl rfl rfl (by decide +kernel) ⟨Nat.le_trans (Nat.le_of_ble_eq_true rfl) hRf, Nat.le_trans (Nat.le_of_ble_eq_true rfl) hRl⟩) rfl hl.1 rfl (by rw [(ca_r ca_n)]; decide) dX9_discover_37 ⟨Nat.zero_le _, Nat.zero_le _⟩) (fun r79 σ₁ H locs hf hP hL => ?_)
      obtain ⟨e₁, hf⟩ := hf
      rw [e₁] at hP
      refine p_calli hL (p_runV X cf8_ hP ht73 (metX9_look l G _ _ _ _ X.2.2 hf) (cwV 1 hts (lw_V q1611 q1613 qs71 q106 q1614) rfl rfl rfl (by decide +kernel) ⟨Nat.le_trans (Nat.le_of_ble_eq_true rfl) hRf, Nat.le_trans (Nat.le_of_ble_eq_true rfl) hRl⟩) rfl hl.1 rfl (by decide) dX9_discover_40 ⟨Nat.zero_le _, Nat.zero_le _⟩) (fun r80 σ81 H locs hf hP hL => ?_)
      refine lv_if_ge (tgt := 49) hx hb dX9_discover_43 (by decide) (fun c82 => ?_) (fun c82 => ?_)
      · have hf := hf.1 c82
        have hl := lv_sub hl [1, 0, 3] rfl
        refine p_iincc (i := 1) (k := 1) hx hb (by decide) dX9_discover_49 hl (by decide) ⟨⟨ne_ rfl, Or.inr (rv_cat _)⟩, ⟨⟨ne_ rfl, Or.inl (ne_ rfl)⟩, trivial⟩⟩ (fun y83 hy83 ls hl => ?_)
        have hf := hf y83 hy83
        refine lv_iload_n hx hb dX9_discover_52 rfl (lv_at hl 2 rfl) ?_
        refine p_istore_n (i := 2) hx hb dX9_discover_53 rfl hl (by decide) ⟨⟨ne_ rfl, Or.inr rfl⟩, ⟨⟨ne_ rfl, Or.inl (ne_ rfl)⟩, ⟨⟨ne_ rfl, Or.inl (ne_ rfl)⟩, trivial⟩⟩⟩ (fun ls hl => ?_)
        exact sX9_discover_L54 Y hrc11 hf _ _ _ _ _ hP hL ⟨rfl, rfl⟩ (lv_sub hl [2, 1, 0, 3] rfl)
      · have hf := hf.2 c82
        refine lv_goto (tgt := 54) hx hb dX9_discover_46 (by decide) ?_
        exact sX9_discover_L54 Y hrc11 hf _ _ _ _ _ hP hL ⟨rfl, rfl⟩ (lv_sub hl [0, 1, 2, 3] rfl)
set_option maxHeartbeats 4000000 in
theorem sX9_discover_L11 {G : GG_} {p : Program} {l : Launch} {e : Env} {R : Room} {s : State} {m : MethodId} {args : Array Value} {below : List Frame} {meth : Method} {c : Code} (Y : MX_ G p R s m args meth c cX9_discover 4 RX9 (some Jvm.ClassFile.FieldType.int) 9 212 0 0 "discover") {post : Int32 → Hp → Prop} {x0 : Nat} {x1 : Int32} {x2 : Int32} {x3 : Int32} {σ : Hp} (hf : wX9_discover_L11 post x0 x1 x2 x3 σ) : WG_ G p l e R s m args below meth c (MQ below (QI_ G post) args s 0 0 (FR_ G)) BN_ 4 11 [(0, rv_ x0), (1, .int x1), (2, .int x2), (3, .int x3)] [] σ := by
  unfold wX9_discover_L11 at hf
  obtain ⟨I, μ, h0, hI⟩ := hf
  have key : ∀ (n : Nat) (x1 : Int32) (x2 : Int32) (x3 : Int32) (σ : Hp), I x1 x2 x3 σ → μ x1 x2 x3 σ < n → WG_ G p l e R s m args below meth c (MQ below (QI_ G post) args s 0 0 (FR_ G)) BN_ 4 11 [(0, rv_ x0), (1, .int x1), (2, .int x2), (3, .int x3)] [] σ := by
    intro n
    induction n with
    | zero => intro x1 x2 x3 σ _ h; exact absurd h (Nat.not_lt_zero _)
    | succ n ih => intro x1 x2 x3 σ hi hn; exact sX9_discover_B11 Y (fun x1' x2' x3' σ' h => ih x1' x2' x3' σ' h.1 (Nat.lt_of_lt_of_le h.2 (Nat.le_of_lt_succ hn))) (hI x1 x2 x3 σ hi)
  exact key _ _ _ _ _ h0 (Nat.lt_succ_self _)
set_option maxHeartbeats 4000000 in
theorem sX9_discover {G : GG_} {p : Program} {l : Launch} {e : Env} {R : Room} {s : State} {m : MethodId} {args : Array Value} {below : List Frame} {meth : Method} {c : Code} (Y : MX_ G p R s m args meth c cX9_discover 4 RX9 (some Jvm.ClassFile.FieldType.int) 9 212 0 0 "discover") {post : Int32 → Hp → Prop} {x0 : Nat} {σ : Hp} (hf : wX9_discover x0 σ post) : WG_ G p l e R s m args below meth c (MQ below (QI_ G post) args s 0 0 (FR_ G)) BN_ 4 0 [(0, rv_ x0)] [] σ := by
  have ⟨X, hlk, hr, hRf, hRl, hRc, hnm⟩ := Y
  have ⟨⟨hx, hb, _, hown, hts⟩, _, _⟩ := X
  intro H locs cells slots ls hP hL hB hl
  obtain ⟨rfl, rfl⟩ := hB
  unfold wX9_discover at hf
  refine p_aload_n hx hb dX9_discover_0 rfl (lv_at hl 0 rfl) ?_
  refine lv_iconst (v := 0) hx hb dX9_discover_1 (by decide) ?_
  obtain ⟨ht84, hf⟩ := hf
  refine p_pI X cf8_ (k := 0) (by decide) rfl hP hL ht84 (p_ow hP ht84 rfl) q1295 (fun _ h => h) (Or.inl rfl) rfl rfl dX9_discover_2 (fun H locs hP hL => ?_)
  refine p_nmP hP (fun σ85 hσ85 hP => ?_)
  have hf := hf σ85 hσ85
  have ht84 : tg_ σ85 x0 = 9 := by rw [hσ85]; exact ht84
  refine lv_iconst (v := 0) hx hb dX9_discover_5 (by decide) ?_
  refine p_istore_n (i := 1) hx hb dX9_discover_6 rfl hl (by decide) ⟨⟨ne_ rfl, Or.inr (rv_cat _)⟩, trivial⟩ (fun ls hl => ?_)
  refine lv_iconst (v := (-1)) hx hb dX9_discover_7 (by decide) ?_
  refine p_istore_n (i := 2) hx hb dX9_discover_8 rfl hl (by decide) ⟨⟨ne_ rfl, Or.inr rfl⟩, ⟨⟨ne_ rfl, Or.inl (ne_ rfl)⟩, trivial⟩⟩ (fun ls hl => ?_)
  refine lv_iconst (v := 0) hx hb dX9_discover_9 (by decide) ?_
  refine p_istore_n (i := 3) hx hb dX9_discover_10 rfl hl (by decide) ⟨⟨ne_ rfl, Or.inr rfl⟩, ⟨⟨ne_ rfl, Or.inl (ne_ rfl)⟩, ⟨⟨ne_ rfl, Or.inl (ne_ rfl)⟩, trivial⟩⟩⟩ (fun ls hl => ?_)
  exact sX9_discover_L11 Y hf _ _ _ _ _ hP hL ⟨rfl, rfl⟩ (lv_sub hl [3, 2, 1, 0] rfl)
set_option maxHeartbeats 4000000 in
theorem metX9_discover (l : Launch) (G : GG_) (x0 : Nat) (σ : Hp) (post : Int32 → Hp → Prop) (hG : GOK_ G) (hf : wX9_discover x0 σ post) : Met l yX9_discover (ws_ yX9_discover cX9_discover 4 (some Jvm.ClassFile.FieldType.int)) { frames := 9, cells := 0, slots := 0, locals := 212 } (PC_ G [rv_ x0] σ) (QI_ G post) 0 0 (FR_ G) := by
  refine Met.ofW (cc := cX9_discover) (maxL := 4) (ret := (some Jvm.ClassFile.FieldType.int)) (by decide) rfl ?_
  intro p e s m args below meth c s₁ B hml hv
  obtain ⟨rfl, hP, hW⟩ := hv
  have hts := atoms_spec (ws := ws_ yX9_discover cX9_discover 4 (some Jvm.ClassFile.FieldType.int)) B.pre
  have hts : ∀ w ∈ lw_all, w.before _ s = true := fun w h => hts w (List.mem_cons_of_mem _ h)
  rw [lg_entry_eq]
  have hl := en_entry [rv_ x0] [1] (n := 4) (ca_r ca_n) (by decide)
  exact sX9_discover ⟨⟨⟨B.exec, B.bytes, hml, findClass_of_methodNamed B.named, hts⟩, hW, hG⟩, B.notSynchronized, B.returns, Nat.le_refl _, Nat.le_refl _, ⟨rfl, rfl⟩, (name_of_methodNamed B.named B.method).1⟩ hf _ _ _ _ _ hP (LO_nil G) ⟨rfl, rfl⟩ hl
