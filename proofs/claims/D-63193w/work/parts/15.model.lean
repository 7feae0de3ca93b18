set_option maxRecDepth 100000
abbrev cX9_compact : ByteArray := prog_11_method_48_code
def yX9_compact : MethodName := ⟨RX9, "compact", "()I"⟩
theorem dX9_compact_0 : decode cX9_compact 0 = .ok (.aload_n 0, 1) := by decide +kernel
theorem dX9_compact_1 : decode cX9_compact 1 = .ok (.iconst 0, 1) := by decide +kernel
theorem dX9_compact_2 : decode cX9_compact 2 = .ok (.putfield 109, 3) := by decide +kernel
theorem dX9_compact_5 : decode cX9_compact 5 = .ok (.aload_n 0, 1) := by decide +kernel
theorem dX9_compact_6 : decode cX9_compact 6 = .ok (.getfield 125, 3) := by decide +kernel
theorem dX9_compact_9 : decode cX9_compact 9 = .ok (.ifCond .eq 6, 3) := by decide +kernel
theorem dX9_compact_12 : decode cX9_compact 12 = .ok (.bipush (-4), 2) := by decide +kernel
theorem dX9_compact_14 : decode cX9_compact 14 = .ok (.ireturn, 1) := by decide +kernel
theorem dX9_compact_15 : decode cX9_compact 15 = .ok (.sipush 200, 3) := by decide +kernel
theorem dX9_compact_18 : decode cX9_compact 18 = .ok (.aload_n 0, 1) := by decide +kernel
theorem dX9_compact_19 : decode cX9_compact 19 = .ok (.getfield 115, 3) := by decide +kernel
theorem dX9_compact_22 : decode cX9_compact 22 = .ok (.isub, 1) := by decide +kernel
theorem dX9_compact_23 : decode cX9_compact 23 = .ok (.istore_n 1, 1) := by decide +kernel
theorem dX9_compact_24 : decode cX9_compact 24 = .ok (.iconst 0, 1) := by decide +kernel
theorem dX9_compact_25 : decode cX9_compact 25 = .ok (.istore_n 2, 1) := by decide +kernel
theorem dX9_compact_26 : decode cX9_compact 26 = .ok (.iload_n 2, 1) := by decide +kernel
theorem dX9_compact_27 : decode cX9_compact 27 = .ok (.sipush 200, 3) := by decide +kernel
theorem dX9_compact_30 : decode cX9_compact 30 = .ok (.if_icmp .ge 18, 3) := by decide +kernel
theorem dX9_compact_33 : decode cX9_compact 33 = .ok (.aload_n 0, 1) := by decide +kernel
theorem dX9_compact_34 : decode cX9_compact 34 = .ok (.getfield 14, 3) := by decide +kernel
theorem dX9_compact_37 : decode cX9_compact 37 = .ok (.iload_n 1, 1) := by decide +kernel
theorem dX9_compact_38 : decode cX9_compact 38 = .ok (.iload_n 2, 1) := by decide +kernel
theorem dX9_compact_39 : decode cX9_compact 39 = .ok (.iadd, 1) := by decide +kernel
theorem dX9_compact_40 : decode cX9_compact 40 = .ok (.iconst 0, 1) := by decide +kernel
theorem dX9_compact_41 : decode cX9_compact 41 = .ok (.bastore, 1) := by decide +kernel
theorem dX9_compact_42 : decode cX9_compact 42 = .ok (.iinc 2 1, 3) := by decide +kernel
theorem dX9_compact_45 : decode cX9_compact 45 = .ok (.goto (-19), 3) := by decide +kernel
theorem dX9_compact_48 : decode cX9_compact 48 = .ok (.iconst 0, 1) := by decide +kernel
theorem dX9_compact_49 : decode cX9_compact 49 = .ok (.istore_n 2, 1) := by decide +kernel
theorem dX9_compact_50 : decode cX9_compact 50 = .ok (.iload_n 2, 1) := by decide +kernel
theorem dX9_compact_51 : decode cX9_compact 51 = .ok (.ldc 253, 2) := by decide +kernel
theorem dX9_compact_53 : decode cX9_compact 53 = .ok (.if_icmp .ge 22, 3) := by decide +kernel
theorem dX9_compact_56 : decode cX9_compact 56 = .ok (.aload_n 0, 1) := by decide +kernel
theorem dX9_compact_57 : decode cX9_compact 57 = .ok (.getfield 8, 3) := by decide +kernel
theorem dX9_compact_60 : decode cX9_compact 60 = .ok (.sipush 2048, 3) := by decide +kernel
theorem dX9_compact_63 : decode cX9_compact 63 = .ok (.iload_n 1, 1) := by decide +kernel
theorem dX9_compact_64 : decode cX9_compact 64 = .ok (.imul, 1) := by decide +kernel
theorem dX9_compact_65 : decode cX9_compact 65 = .ok (.iload_n 2, 1) := by decide +kernel
theorem dX9_compact_66 : decode cX9_compact 66 = .ok (.iadd, 1) := by decide +kernel
theorem dX9_compact_67 : decode cX9_compact 67 = .ok (.iconst 0, 1) := by decide +kernel
theorem dX9_compact_68 : decode cX9_compact 68 = .ok (.bastore, 1) := by decide +kernel
theorem dX9_compact_69 : decode cX9_compact 69 = .ok (.iinc 2 1, 3) := by decide +kernel
theorem dX9_compact_72 : decode cX9_compact 72 = .ok (.goto (-22), 3) := by decide +kernel
theorem dX9_compact_75 : decode cX9_compact 75 = .ok (.iconst 0, 1) := by decide +kernel
theorem dX9_compact_76 : decode cX9_compact 76 = .ok (.istore_n 2, 1) := by decide +kernel
theorem dX9_compact_77 : decode cX9_compact 77 = .ok (.iload_n 2, 1) := by decide +kernel
theorem dX9_compact_78 : decode cX9_compact 78 = .ok (.aload_n 0, 1) := by decide +kernel
theorem dX9_compact_79 : decode cX9_compact 79 = .ok (.getfield 112, 3) := by decide +kernel
theorem dX9_compact_82 : decode cX9_compact 82 = .ok (.if_icmp .ge 21, 3) := by decide +kernel
theorem dX9_compact_85 : decode cX9_compact 85 = .ok (.aload_n 0, 1) := by decide +kernel
theorem dX9_compact_86 : decode cX9_compact 86 = .ok (.getfield 50, 3) := by decide +kernel
theorem dX9_compact_89 : decode cX9_compact 89 = .ok (.iload_n 2, 1) := by decide +kernel
theorem dX9_compact_90 : decode cX9_compact 90 = .ok (.aload_n 0, 1) := by decide +kernel
theorem dX9_compact_91 : decode cX9_compact 91 = .ok (.getfield 47, 3) := by decide +kernel
theorem dX9_compact_94 : decode cX9_compact 94 = .ok (.iload_n 2, 1) := by decide +kernel
theorem dX9_compact_95 : decode cX9_compact 95 = .ok (.iaload, 1) := by decide +kernel
theorem dX9_compact_96 : decode cX9_compact 96 = .ok (.iastore, 1) := by decide +kernel
theorem dX9_compact_97 : decode cX9_compact 97 = .ok (.iinc 2 1, 3) := by decide +kernel
theorem dX9_compact_100 : decode cX9_compact 100 = .ok (.goto (-23), 3) := by decide +kernel
theorem dX9_compact_103 : decode cX9_compact 103 = .ok (.iconst 0, 1) := by decide +kernel
theorem dX9_compact_104 : decode cX9_compact 104 = .ok (.istore_n 2, 1) := by decide +kernel
theorem dX9_compact_105 : decode cX9_compact 105 = .ok (.iconst 1, 1) := by decide +kernel
theorem dX9_compact_106 : decode cX9_compact 106 = .ok (.istore_n 3, 1) := by decide +kernel
theorem dX9_compact_107 : decode cX9_compact 107 = .ok (.iload_n 3, 1) := by decide +kernel
theorem dX9_compact_108 : decode cX9_compact 108 = .ok (.aload_n 0, 1) := by decide +kernel
theorem dX9_compact_109 : decode cX9_compact 109 = .ok (.getfield 112, 3) := by decide +kernel
theorem dX9_compact_112 : decode cX9_compact 112 = .ok (.if_icmp .ge 53, 3) := by decide +kernel
theorem dX9_compact_115 : decode cX9_compact 115 = .ok (.iload_n 2, 1) := by decide +kernel
theorem dX9_compact_116 : decode cX9_compact 116 = .ok (.ifCond .ne 49, 3) := by decide +kernel
theorem dX9_compact_119 : decode cX9_compact 119 = .ok (.aload_n 0, 1) := by decide +kernel
theorem dX9_compact_120 : decode cX9_compact 120 = .ok (.getfield 24, 3) := by decide +kernel
theorem dX9_compact_123 : decode cX9_compact 123 = .ok (.iload_n 3, 1) := by decide +kernel
theorem dX9_compact_124 : decode cX9_compact 124 = .ok (.baload, 1) := by decide +kernel
theorem dX9_compact_125 : decode cX9_compact 125 = .ok (.ifCond .eq 34, 3) := by decide +kernel
theorem dX9_compact_128 : decode cX9_compact 128 = .ok (.aload_n 0, 1) := by decide +kernel
theorem dX9_compact_129 : decode cX9_compact 129 = .ok (.getfield 27, 3) := by decide +kernel
theorem dX9_compact_132 : decode cX9_compact 132 = .ok (.iload_n 3, 1) := by decide +kernel
theorem dX9_compact_133 : decode cX9_compact 133 = .ok (.baload, 1) := by decide +kernel
theorem dX9_compact_134 : decode cX9_compact 134 = .ok (.ifCond .ne 25, 3) := by decide +kernel
theorem dX9_compact_137 : decode cX9_compact 137 = .ok (.aload_n 0, 1) := by decide +kernel
theorem dX9_compact_138 : decode cX9_compact 138 = .ok (.getfield 38, 3) := by decide +kernel
theorem dX9_compact_141 : decode cX9_compact 141 = .ok (.iload_n 3, 1) := by decide +kernel
theorem dX9_compact_142 : decode cX9_compact 142 = .ok (.iaload, 1) := by decide +kernel
theorem dX9_compact_143 : decode cX9_compact 143 = .ok (.ifCond .le 16, 3) := by decide +kernel
theorem dX9_compact_146 : decode cX9_compact 146 = .ok (.aload_n 0, 1) := by decide +kernel
theorem dX9_compact_147 : decode cX9_compact 147 = .ok (.iload_n 1, 1) := by decide +kernel
theorem dX9_compact_148 : decode cX9_compact 148 = .ok (.iload_n 3, 1) := by decide +kernel
theorem dX9_compact_149 : decode cX9_compact 149 = .ok (.aload_n 0, 1) := by decide +kernel
theorem dX9_compact_150 : decode cX9_compact 150 = .ok (.getfield 44, 3) := by decide +kernel
theorem dX9_compact_153 : decode cX9_compact 153 = .ok (.iload_n 3, 1) := by decide +kernel
theorem dX9_compact_154 : decode cX9_compact 154 = .ok (.baload, 1) := by decide +kernel
theorem dX9_compact_155 : decode cX9_compact 155 = .ok (.invokevirtual 244, 3) := by decide +kernel
theorem dX9_compact_158 : decode cX9_compact 158 = .ok (.istore_n 2, 1) := by decide +kernel
theorem dX9_compact_159 : decode cX9_compact 159 = .ok (.iinc 3 1, 3) := by decide +kernel
theorem dX9_compact_162 : decode cX9_compact 162 = .ok (.goto (-55), 3) := by decide +kernel
theorem dX9_compact_165 : decode cX9_compact 165 = .ok (.iload_n 2, 1) := by decide +kernel
theorem dX9_compact_166 : decode cX9_compact 166 = .ok (.ifCond .ne 10, 3) := by decide +kernel
theorem dX9_compact_169 : decode cX9_compact 169 = .ok (.aload_n 0, 1) := by decide +kernel
theorem dX9_compact_170 : decode cX9_compact 170 = .ok (.iload_n 1, 1) := by decide +kernel
theorem dX9_compact_171 : decode cX9_compact 171 = .ok (.iconst 1, 1) := by decide +kernel
theorem dX9_compact_172 : decode cX9_compact 172 = .ok (.invokevirtual 250, 3) := by decide +kernel
theorem dX9_compact_175 : decode cX9_compact 175 = .ok (.istore_n 2, 1) := by decide +kernel
theorem dX9_compact_176 : decode cX9_compact 176 = .ok (.iload_n 2, 1) := by decide +kernel
theorem dX9_compact_177 : decode cX9_compact 177 = .ok (.iconst 1, 1) := by decide +kernel
theorem dX9_compact_178 : decode cX9_compact 178 = .ok (.if_icmp .eq 33, 3) := by decide +kernel
theorem dX9_compact_181 : decode cX9_compact 181 = .ok (.iconst 0, 1) := by decide +kernel
theorem dX9_compact_182 : decode cX9_compact 182 = .ok (.istore_n 3, 1) := by decide +kernel
theorem dX9_compact_183 : decode cX9_compact 183 = .ok (.iload_n 3, 1) := by decide +kernel
theorem dX9_compact_184 : decode cX9_compact 184 = .ok (.aload_n 0, 1) := by decide +kernel
theorem dX9_compact_185 : decode cX9_compact 185 = .ok (.getfield 112, 3) := by decide +kernel
theorem dX9_compact_188 : decode cX9_compact 188 = .ok (.if_icmp .ge 21, 3) := by decide +kernel
theorem dX9_compact_191 : decode cX9_compact 191 = .ok (.aload_n 0, 1) := by decide +kernel
theorem dX9_compact_192 : decode cX9_compact 192 = .ok (.getfield 47, 3) := by decide +kernel
theorem dX9_compact_195 : decode cX9_compact 195 = .ok (.iload_n 3, 1) := by decide +kernel
theorem dX9_compact_196 : decode cX9_compact 196 = .ok (.aload_n 0, 1) := by decide +kernel
theorem dX9_compact_197 : decode cX9_compact 197 = .ok (.getfield 50, 3) := by decide +kernel
theorem dX9_compact_200 : decode cX9_compact 200 = .ok (.iload_n 3, 1) := by decide +kernel
theorem dX9_compact_201 : decode cX9_compact 201 = .ok (.iaload, 1) := by decide +kernel
theorem dX9_compact_202 : decode cX9_compact 202 = .ok (.iastore, 1) := by decide +kernel
theorem dX9_compact_203 : decode cX9_compact 203 = .ok (.iinc 3 1, 3) := by decide +kernel
theorem dX9_compact_206 : decode cX9_compact 206 = .ok (.goto (-23), 3) := by decide +kernel
theorem dX9_compact_209 : decode cX9_compact 209 = .ok (.iload_n 2, 1) := by decide +kernel
theorem dX9_compact_210 : decode cX9_compact 210 = .ok (.ireturn, 1) := by decide +kernel
theorem dX9_compact_211 : decode cX9_compact 211 = .ok (.iconst 1, 1) := by decide +kernel
theorem dX9_compact_212 : decode cX9_compact 212 = .ok (.istore_n 3, 1) := by decide +kernel
theorem dX9_compact_213 : decode cX9_compact 213 = .ok (.iload_n 3, 1) := by decide +kernel
theorem dX9_compact_214 : decode cX9_compact 214 = .ok (.aload_n 0, 1) := by decide +kernel
theorem dX9_compact_215 : decode cX9_compact 215 = .ok (.getfield 112, 3) := by decide +kernel
theorem dX9_compact_218 : decode cX9_compact 218 = .ok (.if_icmp .ge 47, 3) := by decide +kernel
theorem dX9_compact_221 : decode cX9_compact 221 = .ok (.aload_n 0, 1) := by decide +kernel
theorem dX9_compact_222 : decode cX9_compact 222 = .ok (.getfield 44, 3) := by decide +kernel
theorem dX9_compact_225 : decode cX9_compact 225 = .ok (.iload_n 3, 1) := by decide +kernel
theorem dX9_compact_226 : decode cX9_compact 226 = .ok (.aload_n 0, 1) := by decide +kernel
theorem dX9_compact_227 : decode cX9_compact 227 = .ok (.getfield 24, 3) := by decide +kernel
theorem dX9_compact_230 : decode cX9_compact 230 = .ok (.iload_n 3, 1) := by decide +kernel
theorem dX9_compact_231 : decode cX9_compact 231 = .ok (.baload, 1) := by decide +kernel
theorem dX9_compact_232 : decode cX9_compact 232 = .ok (.ifCond .eq 25, 3) := by decide +kernel
theorem dX9_compact_235 : decode cX9_compact 235 = .ok (.aload_n 0, 1) := by decide +kernel
theorem dX9_compact_236 : decode cX9_compact 236 = .ok (.getfield 27, 3) := by decide +kernel
theorem dX9_compact_239 : decode cX9_compact 239 = .ok (.iload_n 3, 1) := by decide +kernel
theorem dX9_compact_240 : decode cX9_compact 240 = .ok (.baload, 1) := by decide +kernel
theorem dX9_compact_241 : decode cX9_compact 241 = .ok (.ifCond .ne 16, 3) := by decide +kernel
theorem dX9_compact_244 : decode cX9_compact 244 = .ok (.aload_n 0, 1) := by decide +kernel
theorem dX9_compact_245 : decode cX9_compact 245 = .ok (.getfield 38, 3) := by decide +kernel
theorem dX9_compact_248 : decode cX9_compact 248 = .ok (.iload_n 3, 1) := by decide +kernel
theorem dX9_compact_249 : decode cX9_compact 249 = .ok (.iaload, 1) := by decide +kernel
theorem dX9_compact_250 : decode cX9_compact 250 = .ok (.ifCond .le 7, 3) := by decide +kernel
theorem dX9_compact_253 : decode cX9_compact 253 = .ok (.iconst 1, 1) := by decide +kernel
theorem dX9_compact_254 : decode cX9_compact 254 = .ok (.goto 4, 3) := by decide +kernel
theorem dX9_compact_257 : decode cX9_compact 257 = .ok (.iconst 0, 1) := by decide +kernel
theorem dX9_compact_258 : decode cX9_compact 258 = .ok (.bastore, 1) := by decide +kernel
theorem dX9_compact_259 : decode cX9_compact 259 = .ok (.iinc 3 1, 3) := by decide +kernel
theorem dX9_compact_262 : decode cX9_compact 262 = .ok (.goto (-49), 3) := by decide +kernel
theorem dX9_compact_265 : decode cX9_compact 265 = .ok (.aload_n 0, 1) := by decide +kernel
theorem dX9_compact_266 : decode cX9_compact 266 = .ok (.iload_n 1, 1) := by decide +kernel
theorem dX9_compact_267 : decode cX9_compact 267 = .ok (.putfield 115, 3) := by decide +kernel
theorem dX9_compact_270 : decode cX9_compact 270 = .ok (.iconst 0, 1) := by decide +kernel
theorem dX9_compact_271 : decode cX9_compact 271 = .ok (.istore_n 3, 1) := by decide +kernel
theorem dX9_compact_272 : decode cX9_compact 272 = .ok (.iload_n 3, 1) := by decide +kernel
theorem dX9_compact_273 : decode cX9_compact 273 = .ok (.sipush 200, 3) := by decide +kernel
theorem dX9_compact_276 : decode cX9_compact 276 = .ok (.if_icmp .ge 16, 3) := by decide +kernel
theorem dX9_compact_279 : decode cX9_compact 279 = .ok (.aload_n 0, 1) := by decide +kernel
theorem dX9_compact_280 : decode cX9_compact 280 = .ok (.getfield 17, 3) := by decide +kernel
theorem dX9_compact_283 : decode cX9_compact 283 = .ok (.iload_n 3, 1) := by decide +kernel
theorem dX9_compact_284 : decode cX9_compact 284 = .ok (.iconst 0, 1) := by decide +kernel
theorem dX9_compact_285 : decode cX9_compact 285 = .ok (.bastore, 1) := by decide +kernel
theorem dX9_compact_286 : decode cX9_compact 286 = .ok (.iinc 3 1, 3) := by decide +kernel
theorem dX9_compact_289 : decode cX9_compact 289 = .ok (.goto (-17), 3) := by decide +kernel
theorem dX9_compact_292 : decode cX9_compact 292 = .ok (.aload_n 0, 1) := by decide +kernel
theorem dX9_compact_293 : decode cX9_compact 293 = .ok (.iconst 1, 1) := by decide +kernel
theorem dX9_compact_294 : decode cX9_compact 294 = .ok (.putfield 247, 3) := by decide +kernel
theorem dX9_compact_297 : decode cX9_compact 297 = .ok (.aload_n 0, 1) := by decide +kernel
theorem dX9_compact_298 : decode cX9_compact 298 = .ok (.iconst 0, 1) := by decide +kernel
theorem dX9_compact_299 : decode cX9_compact 299 = .ok (.putfield 254, 3) := by decide +kernel
theorem dX9_compact_302 : decode cX9_compact 302 = .ok (.iconst 1, 1) := by decide +kernel
theorem dX9_compact_303 : decode cX9_compact 303 = .ok (.ireturn, 1) := by decide +kernel
/-- WriteOnceDiscModel.compact()I -/
def wX9_compact_B272 (post : Int32 → Hp → Prop) (rc272 : Int32 → Hp → Prop) (x0 : Nat) (x3 : Int32) (σ : Hp) : Prop :=
(((200 : Int32) ≤ x3 →
  (tg_ σ x0 = 9 ∧ (∀ σ3, σ3 = sI_ σ 8 20 x0 (1 : Int32) → (∀ σ4, σ4 = sI_ σ3 8 35 x0 (0 : Int32) → post (1 : Int32) σ4)))) ∧
 (¬ (200 : Int32) ≤ x3 →
  (tg_ σ x0 = 9 ∧ (tg_ σ (fR_ σ 8 5 x0) = 101 ∧ (vp_in x3 (ln_ σ (fR_ σ 8 5 x0)) ∧ (∀ σ8, σ8 = wI_ σ (fR_ σ 8 5 x0) (x3).toNatClampNeg (vp_nar .boolean (0 : Int32)) → (∀ y9 : Int32, y9 = x3 + 1 → rc272 y9 σ8)))))))
def wX9_compact_L272 (post : Int32 → Hp → Prop) (x0 : Nat) (x3 : Int32) (σ : Hp) : Prop :=
 ∃ (I : Int32 → Hp → Prop) (μ : Int32 → Hp → Nat), I x3 σ ∧ ∀ (x3 : Int32) (σ : Hp), I x3 σ → wX9_compact_B272 post (fun x3' σ' => I x3' σ' ∧ μ x3' σ' < μ x3 σ) x0 x3 σ
def wX9_compact_L258 (post : Int32 → Hp → Prop) (rc213 : Int32 → Hp → Prop) (x0 : Nat) (x1 : Int32) (x3 : Int32) (s0 : Int32) (s1 : Int32) (s2 : Nat) (σ : Hp) : Prop :=
(tg_ σ s2 = 101 ∧ (vp_in s1 (ln_ σ s2) ∧ (∀ σ12, σ12 = wI_ σ s2 (s1).toNatClampNeg (vp_nar .boolean s0) → (∀ y13 : Int32, y13 = x3 + 1 → rc213 y13 σ12))))
def wX9_compact_L257 (post : Int32 → Hp → Prop) (rc213 : Int32 → Hp → Prop) (x0 : Nat) (x1 : Int32) (x3 : Int32) (s0 : Int32) (s1 : Nat) (σ : Hp) : Prop :=
wX9_compact_L258 post rc213 x0 x1 x3 (0 : Int32) s0 s1 σ
def wX9_compact_B213 (post : Int32 → Hp → Prop) (rc213 : Int32 → Hp → Prop) (x0 : Nat) (x1 : Int32) (x3 : Int32) (σ : Hp) : Prop :=
(tg_ σ x0 = 9 ∧ (((fI_ σ 8 10 x0) ≤ x3 →
  (∀ σ16, σ16 = sI_ σ 8 2 x0 x1 → wX9_compact_L272 post x0 (0 : Int32) σ16)) ∧
 (¬ (fI_ σ 8 10 x0) ≤ x3 →
  (tg_ σ (fR_ σ 8 11 x0) = 101 ∧ (vp_in x3 (ln_ σ (fR_ σ 8 11 x0)) ∧ (((aI_ σ (fR_ σ 8 11 x0) (x3).toNatClampNeg) = 0 →
   wX9_compact_L257 post rc213 x0 x1 x3 x3 (fR_ σ 8 17 x0) σ) ∧
  (¬ (aI_ σ (fR_ σ 8 11 x0) (x3).toNatClampNeg) = 0 →
   (tg_ σ (fR_ σ 8 12 x0) = 101 ∧ (vp_in x3 (ln_ σ (fR_ σ 8 12 x0)) ∧ ((¬ (aI_ σ (fR_ σ 8 12 x0) (x3).toNatClampNeg) = 0 →
    wX9_compact_L257 post rc213 x0 x1 x3 x3 (fR_ σ 8 17 x0) σ) ∧
   ((aI_ σ (fR_ σ 8 12 x0) (x3).toNatClampNeg) = 0 →
    (tg_ σ (fR_ σ 8 15 x0) = 102 ∧ (vp_in x3 (ln_ σ (fR_ σ 8 15 x0)) ∧ (((aI_ σ (fR_ σ 8 15 x0) (x3).toNatClampNeg) ≤ 0 →
     wX9_compact_L257 post rc213 x0 x1 x3 x3 (fR_ σ 8 17 x0) σ) ∧
    (¬ (aI_ σ (fR_ σ 8 15 x0) (x3).toNatClampNeg) ≤ 0 →
     wX9_compact_L258 post rc213 x0 x1 x3 (1 : Int32) x3 (fR_ σ 8 17 x0) σ)))))))))))))))
def wX9_compact_L213 (post : Int32 → Hp → Prop) (x0 : Nat) (x1 : Int32) (x3 : Int32) (σ : Hp) : Prop :=
 ∃ (I : Int32 → Hp → Prop) (μ : Int32 → Hp → Nat), I x3 σ ∧ ∀ (x3 : Int32) (σ : Hp), I x3 σ → wX9_compact_B213 post (fun x3' σ' => I x3' σ' ∧ μ x3' σ' < μ x3 σ) x0 x1 x3 σ
def wX9_compact_B183 (post : Int32 → Hp → Prop) (rc183 : Int32 → Hp → Prop) (x0 : Nat) (x2 : Int32) (x3 : Int32) (σ : Hp) : Prop :=
(tg_ σ x0 = 9 ∧ (((fI_ σ 8 10 x0) ≤ x3 →
  post x2 σ) ∧
 (¬ (fI_ σ 8 10 x0) ≤ x3 →
  (tg_ σ (fR_ σ 8 19 x0) = 102 ∧ (vp_in x3 (ln_ σ (fR_ σ 8 19 x0)) ∧ (tg_ σ (fR_ σ 8 18 x0) = 102 ∧ (lo_ σ < (fR_ σ 8 18 x0) ∧ (vp_in x3 (ln_ σ (fR_ σ 8 18 x0)) ∧ (∀ σ33, σ33 = wI_ σ (fR_ σ 8 18 x0) (x3).toNatClampNeg (aI_ σ (fR_ σ 8 19 x0) (x3).toNatClampNeg) → (∀ y34 : Int32, y34 = x3 + 1 → rc183 y34 σ33))))))))))
def wX9_compact_L183 (post : Int32 → Hp → Prop) (x0 : Nat) (x2 : Int32) (x3 : Int32) (σ : Hp) : Prop :=
 ∃ (I : Int32 → Hp → Prop) (μ : Int32 → Hp → Nat), I x3 σ ∧ ∀ (x3 : Int32) (σ : Hp), I x3 σ → wX9_compact_B183 post (fun x3' σ' => I x3' σ' ∧ μ x3' σ' < μ x3 σ) x0 x2 x3 σ
def wX9_compact_L176 (post : Int32 → Hp → Prop) (x0 : Nat) (x1 : Int32) (x2 : Int32) (σ : Hp) : Prop :=
((x2 = (1 : Int32) →
  wX9_compact_L213 post x0 x1 (1 : Int32) σ) ∧
 (¬ x2 = (1 : Int32) →
  wX9_compact_L183 post x0 x2 (0 : Int32) σ))
def wX9_compact_L165 (post : Int32 → Hp → Prop) (x0 : Nat) (x1 : Int32) (x2 : Int32) (σ : Hp) : Prop :=
((¬ x2 = 0 →
  wX9_compact_L176 post x0 x1 x2 σ) ∧
 (x2 = 0 →
  (tg_ σ x0 = 9 ∧ (wX9_session x0 x1 (1 : Int32) σ (fun r38 σ39 => wX9_compact_L176 post x0 x1 r38 σ39)))))
def wX9_compact_L159 (post : Int32 → Hp → Prop) (rc107 : Int32 → Int32 → Hp → Prop) (x0 : Nat) (x1 : Int32) (x2 : Int32) (x3 : Int32) (σ : Hp) : Prop :=
(∀ y40 : Int32, y40 = x3 + 1 → rc107 x2 y40 σ)
def wX9_compact_B107 (post : Int32 → Hp → Prop) (rc107 : Int32 → Int32 → Hp → Prop) (x0 : Nat) (x1 : Int32) (x2 : Int32) (x3 : Int32) (σ : Hp) : Prop :=
(tg_ σ x0 = 9 ∧ (((fI_ σ 8 10 x0) ≤ x3 →
  wX9_compact_L165 post x0 x1 x2 σ) ∧
 (¬ (fI_ σ 8 10 x0) ≤ x3 →
  ((¬ x2 = 0 →
   wX9_compact_L165 post x0 x1 x2 σ) ∧
  (x2 = 0 →
   (tg_ σ (fR_ σ 8 11 x0) = 101 ∧ (vp_in x3 (ln_ σ (fR_ σ 8 11 x0)) ∧ (((aI_ σ (fR_ σ 8 11 x0) (x3).toNatClampNeg) = 0 →
    wX9_compact_L159 post rc107 x0 x1 x2 x3 σ) ∧
   (¬ (aI_ σ (fR_ σ 8 11 x0) (x3).toNatClampNeg) = 0 →
    (tg_ σ (fR_ σ 8 12 x0) = 101 ∧ (vp_in x3 (ln_ σ (fR_ σ 8 12 x0)) ∧ ((¬ (aI_ σ (fR_ σ 8 12 x0) (x3).toNatClampNeg) = 0 →
     wX9_compact_L159 post rc107 x0 x1 x2 x3 σ) ∧
    ((aI_ σ (fR_ σ 8 12 x0) (x3).toNatClampNeg) = 0 →
     (tg_ σ (fR_ σ 8 15 x0) = 102 ∧ (vp_in x3 (ln_ σ (fR_ σ 8 15 x0)) ∧ (((aI_ σ (fR_ σ 8 15 x0) (x3).toNatClampNeg) ≤ 0 →
      wX9_compact_L159 post rc107 x0 x1 x2 x3 σ) ∧
     (¬ (aI_ σ (fR_ σ 8 15 x0) (x3).toNatClampNeg) ≤ 0 →
      (tg_ σ (fR_ σ 8 17 x0) = 101 ∧ (vp_in x3 (ln_ σ (fR_ σ 8 17 x0)) ∧ (wX9_lay x0 x1 x3 (aI_ σ (fR_ σ 8 17 x0) (x3).toNatClampNeg) σ (fun r55 σ56 => wX9_compact_L159 post rc107 x0 x1 r55 x3 σ56)))))))))))))))))))))
def wX9_compact_L107 (post : Int32 → Hp → Prop) (x0 : Nat) (x1 : Int32) (x2 : Int32) (x3 : Int32) (σ : Hp) : Prop :=
 ∃ (I : Int32 → Int32 → Hp → Prop) (μ : Int32 → Int32 → Hp → Nat), I x2 x3 σ ∧ ∀ (x2 : Int32) (x3 : Int32) (σ : Hp), I x2 x3 σ → wX9_compact_B107 post (fun x2' x3' σ' => I x2' x3' σ' ∧ μ x2' x3' σ' < μ x2 x3 σ) x0 x1 x2 x3 σ
def wX9_compact_B77 (post : Int32 → Hp → Prop) (rc77 : Int32 → Hp → Prop) (x0 : Nat) (x1 : Int32) (x2 : Int32) (σ : Hp) : Prop :=
(tg_ σ x0 = 9 ∧ (((fI_ σ 8 10 x0) ≤ x2 →
  wX9_compact_L107 post x0 x1 (0 : Int32) (1 : Int32) σ) ∧
 (¬ (fI_ σ 8 10 x0) ≤ x2 →
  (tg_ σ (fR_ σ 8 18 x0) = 102 ∧ (vp_in x2 (ln_ σ (fR_ σ 8 18 x0)) ∧ (tg_ σ (fR_ σ 8 19 x0) = 102 ∧ (lo_ σ < (fR_ σ 8 19 x0) ∧ (vp_in x2 (ln_ σ (fR_ σ 8 19 x0)) ∧ (∀ σ64, σ64 = wI_ σ (fR_ σ 8 19 x0) (x2).toNatClampNeg (aI_ σ (fR_ σ 8 18 x0) (x2).toNatClampNeg) → (∀ y65 : Int32, y65 = x2 + 1 → rc77 y65 σ64))))))))))
def wX9_compact_L77 (post : Int32 → Hp → Prop) (x0 : Nat) (x1 : Int32) (x2 : Int32) (σ : Hp) : Prop :=
 ∃ (I : Int32 → Hp → Prop) (μ : Int32 → Hp → Nat), I x2 σ ∧ ∀ (x2 : Int32) (σ : Hp), I x2 σ → wX9_compact_B77 post (fun x2' σ' => I x2' σ' ∧ μ x2' σ' < μ x2 σ) x0 x1 x2 σ
def wX9_compact_B50 (post : Int32 → Hp → Prop) (rc50 : Int32 → Hp → Prop) (x0 : Nat) (x1 : Int32) (x2 : Int32) (σ : Hp) : Prop :=
(((409600 : Int32) ≤ x2 →
  wX9_compact_L77 post x0 x1 (0 : Int32) σ) ∧
 (¬ (409600 : Int32) ≤ x2 →
  (tg_ σ x0 = 9 ∧ (tg_ σ (fR_ σ 8 3 x0) = 100 ∧ (lo_ σ < (fR_ σ 8 3 x0) ∧ (vp_in (((2048 : Int32) * x1) + x2) (ln_ σ (fR_ σ 8 3 x0)) ∧ (∀ σ71, σ71 = wI_ σ (fR_ σ 8 3 x0) ((((2048 : Int32) * x1) + x2)).toNatClampNeg (vp_nar .byte (0 : Int32)) → (∀ y72 : Int32, y72 = x2 + 1 → rc50 y72 σ71))))))))
def wX9_compact_L50 (post : Int32 → Hp → Prop) (x0 : Nat) (x1 : Int32) (x2 : Int32) (σ : Hp) : Prop :=
 ∃ (I : Int32 → Hp → Prop) (μ : Int32 → Hp → Nat), I x2 σ ∧ ∀ (x2 : Int32) (σ : Hp), I x2 σ → wX9_compact_B50 post (fun x2' σ' => I x2' σ' ∧ μ x2' σ' < μ x2 σ) x0 x1 x2 σ
def wX9_compact_B26 (post : Int32 → Hp → Prop) (rc26 : Int32 → Hp → Prop) (x0 : Nat) (x1 : Int32) (x2 : Int32) (σ : Hp) : Prop :=
(((200 : Int32) ≤ x2 →
  wX9_compact_L50 post x0 x1 (0 : Int32) σ) ∧
 (¬ (200 : Int32) ≤ x2 →
  (tg_ σ x0 = 9 ∧ (tg_ σ (fR_ σ 8 4 x0) = 100 ∧ (lo_ σ < (fR_ σ 8 4 x0) ∧ (vp_in (x1 + x2) (ln_ σ (fR_ σ 8 4 x0)) ∧ (∀ σ78, σ78 = wI_ σ (fR_ σ 8 4 x0) ((x1 + x2)).toNatClampNeg (vp_nar .byte (0 : Int32)) → (∀ y79 : Int32, y79 = x2 + 1 → rc26 y79 σ78))))))))
def wX9_compact_L26 (post : Int32 → Hp → Prop) (x0 : Nat) (x1 : Int32) (x2 : Int32) (σ : Hp) : Prop :=
 ∃ (I : Int32 → Hp → Prop) (μ : Int32 → Hp → Nat), I x2 σ ∧ ∀ (x2 : Int32) (σ : Hp), I x2 σ → wX9_compact_B26 post (fun x2' σ' => I x2' σ' ∧ μ x2' σ' < μ x2 σ) x0 x1 x2 σ
def wX9_compact (x0 : Nat) (σ : Hp) (post : Int32 → Hp → Prop) : Prop :=
(tg_ σ x0 = 9 ∧ (∀ σ81, σ81 = sI_ σ 8 0 x0 (0 : Int32) → (((fI_ σ81 8 6 x0) = 0 →
  (∀ y83 : Int32, y83 = ((200 : Int32) - (fI_ σ81 8 2 x0)) → wX9_compact_L26 post x0 y83 (0 : Int32) σ81)) ∧
 (¬ (fI_ σ81 8 6 x0) = 0 →
  post (-4 : Int32) σ81))))
set_option maxHeartbeats 4000000 in
theorem sX9_compact_B272 {G : GG_} {p : Program} {l : Launch} {e : Env} {R : Room} {s : State} {m : MethodId} {args : Array Value} {below : List Frame} {meth : Method} {c : Code} (Y : MX_ G p R s m args meth c cX9_compact 4 RX9 (some Jvm.ClassFile.FieldType.int) 9 223 0 0 "compact") {post : Int32 → Hp → Prop} {rc272 : Int32 → Hp → Prop} {x0 : Nat} {x3 : Int32} {σ : Hp} (hrc272 : ∀ (x3 : Int32) (σ : Hp), rc272 x3 σ → WG_ G p l e R s m args below meth c (MQ below (QI_ G post) args s 0 0 (FR_ G)) BN_ 4 272 [(0, rv_ x0), (3, .int x3)] [] σ) (hf : wX9_compact_B272 post rc272 x0 x3 σ) : WG_ G p l e R s m args below meth c (MQ below (QI_ G post) args s 0 0 (FR_ G)) BN_ 4 272 [(0, rv_ x0), (3, .int x3)] [] σ := by
  have ⟨X, hlk, hr, hRf, hRl, hRc, hnm⟩ := Y
  have ⟨⟨hx, hb, _, hown, hts⟩, _, _⟩ := X
  intro H locs cells slots ls hP hL hB hl
  obtain ⟨rfl, rfl⟩ := hB
  unfold wX9_compact_B272 at hf
  refine lv_iload_n hx hb dX9_compact_272 rfl (lv_at hl 1 rfl) ?_
  refine lv_sipush (v := 200) hx hb dX9_compact_273 (by decide) ?_
  refine lv_icmp_ge (tgt := 292) hx hb dX9_compact_276 (by decide) (fun c1 => ?_) (fun c1 => ?_)
  · have hf := hf.1 c1
    refine p_aload_n hx hb dX9_compact_292 rfl (lv_at hl 0 rfl) ?_
    refine lv_iconst (v := 1) hx hb dX9_compact_293 (by decide) ?_
    obtain ⟨ht2, hf⟩ := hf
    refine p_pI X cf8_ (k := 20) (by decide) rfl hP hL ht2 (p_ow hP ht2 rfl) q1315 (fun _ h => h) (Or.inl rfl) rfl rfl dX9_compact_294 (fun H locs hP hL => ?_)
    refine p_nmP hP (fun σ3 hσ3 hP => ?_)
    have hf := hf σ3 hσ3
    have ht2 : tg_ σ3 x0 = 9 := by rw [hσ3]; exact ht2
    refine p_aload_n hx hb dX9_compact_297 rfl (lv_at hl 0 rfl) ?_
    refine lv_iconst (v := 0) hx hb dX9_compact_298 (by decide) ?_
    refine p_pI X cf8_ (k := 35) (by decide) rfl hP hL ht2 (p_ow hP ht2 rfl) q1329 (fun _ h => h) (Or.inl rfl) rfl rfl dX9_compact_299 (fun H locs hP hL => ?_)
    refine p_nmP hP (fun σ4 hσ4 hP => ?_)
    have hf := hf σ4 hσ4
    have ht2 : tg_ σ4 x0 = 9 := by rw [hσ4]; exact ht2
    refine lv_iconst (v := 1) hx hb dX9_compact_302 (by decide) ?_
    exact p_iret X hlk hP hL (Nat.le_refl _) (Nat.le_refl _) hr dX9_compact_303 hf
  · have hf := hf.2 c1
    refine p_aload_n hx hb dX9_compact_279 rfl (lv_at hl 0 rfl) ?_
    obtain ⟨ht5, hf⟩ := hf
    refine p_gR X cf8_ (k := 5) (by decide) rfl hP ht5 q1300 (fun _ h => h) dX9_compact_280 ?_
    refine lv_iload_n hx hb dX9_compact_283 rfl (lv_at hl 1 rfl) ?_
    refine lv_iconst (v := 0) hx hb dX9_compact_284 (by decide) ?_
    obtain ⟨ht6, hf⟩ := hf
    obtain ⟨hi7, hf⟩ := hf
    refine p_zast X hP hL ht6 (p_ow hP ht6 rfl) hi7 dX9_compact_285 (fun H locs hP hL => ?_)
    refine p_nmP hP (fun σ8 hσ8 hP => ?_)
    have hf := hf σ8 hσ8
    have ht5 : tg_ σ8 x0 = 9 := by rw [hσ8]; exact ht5
    have hl := lv_sub hl [1, 0] rfl
    refine p_iincc (i := 3) (k := 1) hx hb (by decide) dX9_compact_286 hl (by decide) ⟨⟨ne_ rfl, Or.inl (ne_ rfl)⟩, trivial⟩ (fun y9 hy9 ls hl => ?_)
    have hf := hf y9 hy9
    refine lv_goto (tgt := 272) hx hb dX9_compact_289 (by decide) ?_
    exact hrc272 _ _ hf _ _ _ _ _ hP hL ⟨rfl, rfl⟩ (lv_sub hl [1, 0] rfl)
set_option maxHeartbeats 4000000 in
theorem sX9_compact_L272 {G : GG_} {p : Program} {l : Launch} {e : Env} {R : Room} {s : State} {m : MethodId} {args : Array Value} {below : List Frame} {meth : Method} {c : Code} (Y : MX_ G p R s m args meth c cX9_compact 4 RX9 (some Jvm.ClassFile.FieldType.int) 9 223 0 0 "compact") {post : Int32 → Hp → Prop} {x0 : Nat} {x3 : Int32} {σ : Hp} (hf : wX9_compact_L272 post x0 x3 σ) : WG_ G p l e R s m args below meth c (MQ below (QI_ G post) args s 0 0 (FR_ G)) BN_ 4 272 [(0, rv_ x0), (3, .int x3)] [] σ := by
  unfold wX9_compact_L272 at hf
  obtain ⟨I, μ, h0, hI⟩ := hf
  have key : ∀ (n : Nat) (x3 : Int32) (σ : Hp), I x3 σ → μ x3 σ < n → WG_ G p l e R s m args below meth c (MQ below (QI_ G post) args s 0 0 (FR_ G)) BN_ 4 272 [(0, rv_ x0), (3, .int x3)] [] σ := by
    intro n
    induction n with
    | zero => intro x3 σ _ h; exact absurd h (Nat.not_lt_zero _)
    | succ n ih => intro x3 σ hi hn; exact sX9_compact_B272 Y (fun x3' σ' h => ih x3' σ' h.1 (Nat.lt_of_lt_of_le h.2 (Nat.le_of_lt_succ hn))) (hI x3 σ hi)
  exact key _ _ _ h0 (Nat.lt_succ_self _)
set_option maxHeartbeats 4000000 in
theorem sX9_compact_L258 {G : GG_} {p : Program} {l : Launch} {e : Env} {R : Room} {s : State} {m : MethodId} {args : Array Value} {below : List Frame} {meth : Method} {c : Code} (Y : MX_ G p R s m args meth c cX9_compact 4 RX9 (some Jvm.ClassFile.FieldType.int) 9 223 0 0 "compact") {post : Int32 → Hp → Prop} {rc213 : Int32 → Hp → Prop} {x0 : Nat} {x1 : Int32} {x3 : Int32} {s0 : Int32} {s1 : Int32} {s2 : Nat} {σ : Hp} (hrc213 : ∀ (x3 : Int32) (σ : Hp), rc213 x3 σ → WG_ G p l e R s m args below meth c (MQ below (QI_ G post) args s 0 0 (FR_ G)) BN_ 4 213 [(0, rv_ x0), (1, .int x1), (3, .int x3)] [] σ) (hf : wX9_compact_L258 post rc213 x0 x1 x3 s0 s1 s2 σ) : WG_ G p l e R s m args below meth c (MQ below (QI_ G post) args s 0 0 (FR_ G)) BN_ 4 258 [(0, rv_ x0), (1, .int x1), (3, .int x3)] [.int s0, .int s1, rv_ s2] σ := by
  have ⟨X, hlk, hr, hRf, hRl, hRc, hnm⟩ := Y
  have ⟨⟨hx, hb, _, hown, hts⟩, _, _⟩ := X
  intro H locs cells slots ls hP hL hB hl
  obtain ⟨rfl, rfl⟩ := hB
  unfold wX9_compact_L258 at hf
  obtain ⟨ht10, hf⟩ := hf
  obtain ⟨hi11, hf⟩ := hf
  refine p_zast X hP hL ht10 (p_ow hP ht10 rfl) hi11 dX9_compact_258 (fun H locs hP hL => ?_)
  refine p_nmP hP (fun σ12 hσ12 hP => ?_)
  have hf := hf σ12 hσ12
  have ht10 : tg_ σ12 s2 = 101 := by rw [hσ12]; exact ht10
  have hl := lv_sub hl [2, 0, 1] rfl
  refine p_iincc (i := 3) (k := 1) hx hb (by decide) dX9_compact_259 hl (by decide) ⟨⟨ne_ rfl, Or.inl (ne_ rfl)⟩, ⟨⟨ne_ rfl, Or.inl (ne_ rfl)⟩, trivial⟩⟩ (fun y13 hy13 ls hl => ?_)
  have hf := hf y13 hy13
  refine lv_goto (tgt := 213) hx hb dX9_compact_262 (by decide) ?_
  exact hrc213 _ _ hf _ _ _ _ _ hP hL ⟨rfl, rfl⟩ (lv_sub hl [1, 2, 0] rfl)
set_option maxHeartbeats 4000000 in
theorem sX9_compact_L257 {G : GG_} {p : Program} {l : Launch} {e : Env} {R : Room} {s : State} {m : MethodId} {args : Array Value} {below : List Frame} {meth : Method} {c : Code} (Y : MX_ G p R s m args meth c cX9_compact 4 RX9 (some Jvm.ClassFile.FieldType.int) 9 223 0 0 "compact") {post : Int32 → Hp → Prop} {rc213 : Int32 → Hp → Prop} {x0 : Nat} {x1 : Int32} {x3 : Int32} {s0 : Int32} {s1 : Nat} {σ : Hp} (hrc213 : ∀ (x3 : Int32) (σ : Hp), rc213 x3 σ → WG_ G p l e R s m args below meth c (MQ below (QI_ G post) args s 0 0 (FR_ G)) BN_ 4 213 [(0, rv_ x0), (1, .int x1), (3, .int x3)] [] σ) (hf : wX9_compact_L257 post rc213 x0 x1 x3 s0 s1 σ) : WG_ G p l e R s m args below meth c (MQ below (QI_ G post) args s 0 0 (FR_ G)) BN_ 4 257 [(0, rv_ x0), (1, .int x1), (3, .int x3)] [.int s0, rv_ s1] σ := by
  have ⟨X, hlk, hr, hRf, hRl, hRc, hnm⟩ := Y
  have ⟨⟨hx, hb, _, hown, hts⟩, _, _⟩ := X
  intro H locs cells slots ls hP hL hB hl
  obtain ⟨rfl, rfl⟩ := hB
  unfold wX9_compact_L257 at hf
  refine lv_iconst (v := 0) hx hb dX9_compact_257 (by decide) ?_
  exact sX9_compact_L258 Y hrc213 hf _ _ _ _ _ hP hL ⟨rfl, rfl⟩ (lv_sub hl [0, 1, 2] rfl)
set_option maxHeartbeats 4000000 in
theorem sX9_compact_B213 {G : GG_} {p : Program} {l : Launch} {e : Env} {R : Room} {s : State} {m : MethodId} {args : Array Value} {below : List Frame} {meth : Method} {c : Code} (Y : MX_ G p R s m args meth c cX9_compact 4 RX9 (some Jvm.ClassFile.FieldType.int) 9 223 0 0 "compact") {post : Int32 → Hp → Prop} {rc213 : Int32 → Hp → Prop} {x0 : Nat} {x1 : Int32} {x3 : Int32} {σ : Hp} (hrc213 : ∀ (x3 : Int32) (σ : Hp), rc213 x3 σ → WG_ G p l e R s m args below meth c (MQ below (QI_ G post) args s 0 0 (FR_ G)) BN_ 4 213 [(0, rv_ x0), (1, .int x1), (3, .int x3)] [] σ) (hf : wX9_compact_B213 post rc213 x0 x1 x3 σ) : WG_ G p l e R s m args below meth c (MQ below (QI_ G post) args s 0 0 (FR_ G)) BN_ 4 213 [(0, rv_ x0), (1, .int x1), (3, .int x3)] [] σ := by
  have ⟨X, hlk, hr, hRf, hRl, hRc, hnm⟩ := Y
  have ⟨⟨hx, hb, _, hown, hts⟩, _, _⟩ := X
  intro H locs cells slots ls hP hL hB hl
  obtain ⟨rfl, rfl⟩ := hB
  unfold wX9_compact_B213 at hf
  refine lv_iload_n hx hb dX9_compact_213 rfl (lv_at hl 2 rfl) ?_
  refine p_aload_n hx hb dX9_compact_214 rfl (lv_at hl 0 rfl) ?_
  obtain ⟨ht14, hf⟩ := hf
  refine p_gI X cf8_ (k := 10) (by decide) rfl hP ht14 q1305 (fun _ h => h) dX9_compact_215 ?_
  refine lv_icmp_ge (tgt := 265) hx hb dX9_compact_218 (by decide) (fun c15 => ?_) (fun c15 => ?_)
  · have hf := hf.1 c15
    refine p_aload_n hx hb dX9_compact_265 rfl (lv_at hl 0 rfl) ?_
    refine lv_iload_n hx hb dX9_compact_266 rfl (lv_at hl 1 rfl) ?_
    refine p_pI X cf8_ (k := 2) (by decide) rfl hP hL ht14 (p_ow hP ht14 rfl) q1297 (fun _ h => h) (Or.inl rfl) rfl rfl dX9_compact_267 (fun H locs hP hL => ?_)
    refine p_nmP hP (fun σ16 hσ16 hP => ?_)
    have hf := hf σ16 hσ16
    have ht14 : tg_ σ16 x0 = 9 := by rw [hσ16]; exact ht14
    refine lv_iconst (v := 0) hx hb dX9_compact_270 (by decide) ?_
    have hl := lv_sub hl [0] rfl
    refine p_istore_n (i := 3) hx hb dX9_compact_271 rfl hl (by decide) ⟨⟨ne_ rfl, Or.inl (ne_ rfl)⟩, trivial⟩ (fun ls hl => ?_)
    exact sX9_compact_L272 Y hf _ _ _ _ _ hP hL ⟨rfl, rfl⟩ (lv_sub hl [1, 0] rfl)
  · have hf := hf.2 c15
    refine p_aload_n hx hb dX9_compact_221 rfl (lv_at hl 0 rfl) ?_
    refine p_gR X cf8_ (k := 17) (by decide) rfl hP ht14 q1312 (fun _ h => h) dX9_compact_222 ?_
    refine lv_iload_n hx hb dX9_compact_225 rfl (lv_at hl 2 rfl) ?_
    refine p_aload_n hx hb dX9_compact_226 rfl (lv_at hl 0 rfl) ?_
    refine p_gR X cf8_ (k := 11) (by decide) rfl hP ht14 q1306 (fun _ h => h) dX9_compact_227 ?_
    refine lv_iload_n hx hb dX9_compact_230 rfl (lv_at hl 2 rfl) ?_
    obtain ⟨ht17, hf⟩ := hf
    obtain ⟨hi18, hf⟩ := hf
    refine p_zald X hP ht17 hi18 dX9_compact_231 ?_
    refine lv_if_eq (tgt := 257) hx hb dX9_compact_232 (by decide) (fun c19 => ?_) (fun c19 => ?_)
    · have hf := hf.1 c19
      exact sX9_compact_L257 Y hrc213 hf _ _ _ _ _ hP hL ⟨rfl, rfl⟩ (lv_sub hl [0, 1, 2] rfl)
    · have hf := hf.2 c19
      refine p_aload_n hx hb dX9_compact_235 rfl (lv_at hl 0 rfl) ?_
      refine p_gR X cf8_ (k := 12) (by decide) rfl hP ht14 q1307 (fun _ h => h) dX9_compact_236 ?_
      refine lv_iload_n hx hb dX9_compact_239 rfl (lv_at hl 2 rfl) ?_
      obtain ⟨ht20, hf⟩ := hf
      obtain ⟨hi21, hf⟩ := hf
      refine p_zald X hP ht20 hi21 dX9_compact_240 ?_
      refine lv_if_ne (tgt := 257) hx hb dX9_compact_241 (by decide) (fun c22 => ?_) (fun c22 => ?_)
      · have hf := hf.1 c22
        exact sX9_compact_L257 Y hrc213 hf _ _ _ _ _ hP hL ⟨rfl, rfl⟩ (lv_sub hl [0, 1, 2] rfl)
      · have hf := hf.2 c22
        refine p_aload_n hx hb dX9_compact_244 rfl (lv_at hl 0 rfl) ?_
        refine p_gR X cf8_ (k := 15) (by decide) rfl hP ht14 q1310 (fun _ h => h) dX9_compact_245 ?_
        refine lv_iload_n hx hb dX9_compact_248 rfl (lv_at hl 2 rfl) ?_
        obtain ⟨ht23, hf⟩ := hf
        obtain ⟨hi24, hf⟩ := hf
        refine p_iald X hP ht23 hi24 dX9_compact_249 ?_
        refine lv_if_le (tgt := 257) hx hb dX9_compact_250 (by decide) (fun c25 => ?_) (fun c25 => ?_)
        · have hf := hf.1 c25
          exact sX9_compact_L257 Y hrc213 hf _ _ _ _ _ hP hL ⟨rfl, rfl⟩ (lv_sub hl [0, 1, 2] rfl)
        · have hf := hf.2 c25
          refine lv_iconst (v := 1) hx hb dX9_compact_253 (by decide) ?_
          refine lv_goto (tgt := 258) hx hb dX9_compact_254 (by decide) ?_
          exact sX9_compact_L258 Y hrc213 hf _ _ _ _ _ hP hL ⟨rfl, rfl⟩ (lv_sub hl [0, 1, 2] rfl)
set_option maxHeartbeats 4000000 in
theorem sX9_compact_L213 {G : GG_} {p : Program} {l : Launch} {e : Env} {R : Room} {s : State} {m : MethodId} {args : Array Value} {below : List Frame} {meth : Method} {c : Code} (Y : MX_ G p R s m args meth c cX9_compact 4 RX9 (some Jvm.ClassFile.FieldType.int) 9 223 0 0 "compact") {post : Int32 → Hp → Prop} {x0 : Nat} {x1 : Int32} {x3 : Int32} {σ : Hp} (hf : wX9_compact_L213 post x0 x1 x3 σ) : WG_ G p l e R s m args below meth c (MQ below (QI_ G post) args s 0 0 (FR_ G)) BN_ 4 213 [(0, rv_ x0), (1, .int x1), (3, .int x3)] [] σ := by
  unfold wX9_compact_L213 at hf
  obtain ⟨I, μ, h0, hI⟩ := hf
  have key : ∀ (n : Nat) (x3 : Int32) (σ : Hp), I x3 σ → μ x3 σ < n → WG_ G p l e R s m args below meth c (MQ below (QI_ G post) args s 0 0 (FR_ G)) BN_ 4 213 [(0, rv_ x0), (1, .int x1), (3, .int x3)] [] σ := by
    intro n
    induction n with
    | zero => intro x3 σ _ h; exact absurd h (Nat.not_lt_zero _)
    | succ n ih => intro x3 σ hi hn; exact sX9_compact_B213 Y (fun x3' σ' h => ih x3' σ' h.1 (Nat.lt_of_lt_of_le h.2 (Nat.le_of_lt_succ hn))) (hI x3 σ hi)
  exact key _ _ _ h0 (Nat.lt_succ_self _)
set_option maxHeartbeats 4000000 in
theorem sX9_compact_B183 {G : GG_} {p : Program} {l : Launch} {e : Env} {R : Room} {s : State} {m : MethodId} {args : Array Value} {below : List Frame} {meth : Method} {c : Code} (Y : MX_ G p R s m args meth c cX9_compact 4 RX9 (some Jvm.ClassFile.FieldType.int) 9 223 0 0 "compact") {post : Int32 → Hp → Prop} {rc183 : Int32 → Hp → Prop} {x0 : Nat} {x2 : Int32} {x3 : Int32} {σ : Hp} (hrc183 : ∀ (x3 : Int32) (σ : Hp), rc183 x3 σ → WG_ G p l e R s m args below meth c (MQ below (QI_ G post) args s 0 0 (FR_ G)) BN_ 4 183 [(0, rv_ x0), (2, .int x2), (3, .int x3)] [] σ) (hf : wX9_compact_B183 post rc183 x0 x2 x3 σ) : WG_ G p l e R s m args below meth c (MQ below (QI_ G post) args s 0 0 (FR_ G)) BN_ 4 183 [(0, rv_ x0), (2, .int x2), (3, .int x3)] [] σ := by
  have ⟨X, hlk, hr, hRf, hRl, hRc, hnm⟩ := Y
  have ⟨⟨hx, hb, _, hown, hts⟩, _, _⟩ := X
  intro H locs cells slots ls hP hL hB hl
  obtain ⟨rfl, rfl⟩ := hB
  unfold wX9_compact_B183 at hf
  refine lv_iload_n hx hb dX9_compact_183 rfl (lv_at hl 2 rfl) ?_
  refine p_aload_n hx hb dX9_compact_184 rfl (lv_at hl 0 rfl) ?_
  obtain ⟨ht26, hf⟩ := hf
  refine p_gI X cf8_ (k := 10) (by decide) rfl hP ht26 q1305 (fun _ h => h) dX9_compact_185 ?_
  refine lv_icmp_ge (tgt := 209) hx hb dX9_compact_188 (by decide) (fun c27 => ?_) (fun c27 => ?_)
  · have hf := hf.1 c27
    refine lv_iload_n hx hb dX9_compact_209 rfl (lv_at hl 1 rfl) ?_
    exact p_iret X hlk hP hL (Nat.le_refl _) (Nat.le_refl _) hr dX9_compact_210 hf
  · have hf := hf.2 c27
    refine p_aload_n hx hb dX9_compact_191 rfl (lv_at hl 0 rfl) ?_
    refine p_gR X cf8_ (k := 18) (by decide) rfl hP ht26 q1313 (fun _ h => h) dX9_compact_192 ?_
    refine lv_iload_n hx hb dX9_compact_195 rfl (lv_at hl 2 rfl) ?_
    refine p_aload_n hx hb dX9_compact_196 rfl (lv_at hl 0 rfl) ?_
    refine p_gR X cf8_ (k := 19) (by decide) rfl hP ht26 q1314 (fun _ h => h) dX9_compact_197 ?_
    refine lv_iload_n hx hb dX9_compact_200 rfl (lv_at hl 2 rfl) ?_
    obtain ⟨ht28, hf⟩ := hf
    obtain ⟨hi29, hf⟩ := hf
    refine p_iald X hP ht28 hi29 dX9_compact_201 ?_
    obtain ⟨ht30, hf⟩ := hf
    obtain ⟨hlo31, hf⟩ := hf
    obtain ⟨hi32, hf⟩ := hf
    refine p_iast X hP hL ht30 hlo31 hi32 dX9_compact_202 (fun H locs hP hL => ?_)
    refine p_nmP hP (fun σ33 hσ33 hP => ?_)
    have hf := hf σ33 hσ33
    have ht26 : tg_ σ33 x0 = 9 := by rw [hσ33]; exact ht26
    have hl := lv_sub hl [2, 0, 1] rfl
    refine p_iincc (i := 3) (k := 1) hx hb (by decide) dX9_compact_203 hl (by decide) ⟨⟨ne_ rfl, Or.inl (ne_ rfl)⟩, ⟨⟨ne_ rfl, Or.inr rfl⟩, trivial⟩⟩ (fun y34 hy34 ls hl => ?_)
    have hf := hf y34 hy34
    refine lv_goto (tgt := 183) hx hb dX9_compact_206 (by decide) ?_
    exact hrc183 _ _ hf _ _ _ _ _ hP hL ⟨rfl, rfl⟩ (lv_sub hl [1, 2, 0] rfl)
set_option maxHeartbeats 4000000 in
theorem sX9_compact_L183 {G : GG_} {p : Program} {l : Launch} {e : Env} {R : Room} {s : State} {m : MethodId} {args : Array Value} {below : List Frame} {meth : Method} {c : Code} (Y : MX_ G p R s m args meth c cX9_compact 4 RX9 (some Jvm.ClassFile.FieldType.int) 9 223 0 0 "compact") {post : Int32 → Hp → Prop} {x0 : Nat} {x2 : Int32} {x3 : Int32} {σ : Hp} (hf : wX9_compact_L183 post x0 x2 x3 σ) : WG_ G p l e R s m args below meth c (MQ below (QI_ G post) args s 0 0 (FR_ G)) BN_ 4 183 [(0, rv_ x0), (2, .int x2), (3, .int x3)] [] σ := by
  unfold wX9_compact_L183 at hf
  obtain ⟨I, μ, h0, hI⟩ := hf
  have key : ∀ (n : Nat) (x3 : Int32) (σ : Hp), I x3 σ → μ x3 σ < n → WG_ G p l e R s m args below meth c (MQ below (QI_ G post) args s 0 0 (FR_ G)) BN_ 4 183 [(0, rv_ x0), (2, .int x2), (3, .int x3)] [] σ := by
    intro n
    induction n with
    | zero => intro x3 σ _ h; exact absurd h (Nat.not_lt_zero _)
    | succ n ih => intro x3 σ hi hn; exact sX9_compact_B183 Y (fun x3' σ' h => ih x3' σ' h.1 (Nat.lt_of_lt_of_le h.2 (Nat.le_of_lt_succ hn))) (hI x3 σ hi)
  exact key _ _ _ h0 (Nat.lt_succ_self _)
set_option maxHeartbeats 4000000 in
theorem sX9_compact_L176 {G : GG_} {p : Program} {l : Launch} {e : Env} {R : Room} {s : State} {m : MethodId} {args : Array Value} {below : List Frame} {meth : Method} {c : Code} (Y : MX_ G p R s m args meth c cX9_compact 4 RX9 (some Jvm.ClassFile.FieldType.int) 9 223 0 0 "compact") {post : Int32 → Hp → Prop} {x0 : Nat} {x1 : Int32} {x2 : Int32} {σ : Hp} (hf : wX9_compact_L176 post x0 x1 x2 σ) : WG_ G p l e R s m args below meth c (MQ below (QI_ G post) args s 0 0 (FR_ G)) BN_ 4 176 [(0, rv_ x0), (1, .int x1), (2, .int x2)] [] σ := by
  have ⟨X, hlk, hr, hRf, hRl, hRc, hnm⟩ := Y
  have ⟨⟨hx, hb, _, hown, hts⟩, _, _⟩ := X
  intro H locs cells slots ls hP hL hB hl
  obtain ⟨rfl, rfl⟩ := hB
  unfold wX9_compact_L176 at hf
  refine lv_iload_n hx hb dX9_compact_176 rfl (lv_at hl 2 rfl) ?_
  refine lv_iconst (v := 1) hx hb dX9_compact_177 (by decide) ?_
  refine lv_icmp_eq (tgt := 211) hx hb dX9_compact_178 (by decide) (fun c35 => ?_) (fun c35 => ?_)
  · have hf := hf.1 c35
    refine lv_iconst (v := 1) hx hb dX9_compact_211 (by decide) ?_
    have hl := lv_sub hl [0, 1] rfl
    refine p_istore_n (i := 3) hx hb dX9_compact_212 rfl hl (by decide) ⟨⟨ne_ rfl, Or.inl (ne_ rfl)⟩, ⟨⟨ne_ rfl, Or.inl (ne_ rfl)⟩, trivial⟩⟩ (fun ls hl => ?_)
    exact sX9_compact_L213 Y hf _ _ _ _ _ hP hL ⟨rfl, rfl⟩ (lv_sub hl [1, 2, 0] rfl)
  · have hf := hf.2 c35
    refine lv_iconst (v := 0) hx hb dX9_compact_181 (by decide) ?_
    have hl := lv_sub hl [0, 2] rfl
    refine p_istore_n (i := 3) hx hb dX9_compact_182 rfl hl (by decide) ⟨⟨ne_ rfl, Or.inl (ne_ rfl)⟩, ⟨⟨ne_ rfl, Or.inr rfl⟩, trivial⟩⟩ (fun ls hl => ?_)
    exact sX9_compact_L183 Y hf _ _ _ _ _ hP hL ⟨rfl, rfl⟩ (lv_sub hl [1, 2, 0] rfl)
set_option maxHeartbeats 4000000 in
theorem sX9_compact_L165 {G : GG_} {p : Program} {l : Launch} {e : Env} {R : Room} {s : State} {m : MethodId} {args : Array Value} {below : List Frame} {meth : Method} {c : Code} (Y : MX_ G p R s m args meth c cX9_compact 4 RX9 (some Jvm.ClassFile.FieldType.int) 9 223 0 0 "compact") {post : Int32 → Hp → Prop} {x0 : Nat} {x1 : Int32} {x2 : Int32} {σ : Hp} (hf : wX9_compact_L165 post x0 x1 x2 σ) : WG_ G p l e R s m args below meth c (MQ below (QI_ G post) args s 0 0 (FR_ G)) BN_ 4 165 [(0, rv_ x0), (1, .int x1), (2, .int x2)] [] σ := by
  have ⟨X, hlk, hr, hRf, hRl, hRc, hnm⟩ := Y
  have ⟨⟨hx, hb, _, hown, hts⟩, _, _⟩ := X
  intro H locs cells slots ls hP hL hB hl
  obtain ⟨rfl, rfl⟩ := hB
  unfold wX9_compact_L165 at hf
  refine lv_iload_n hx hb dX9_compact_165 rfl (lv_at hl 2 rfl) ?_
  refine lv_if_ne (tgt := 176) hx hb dX9_compact_166 (by decide) (fun c36 => ?_) (fun c36 => ?_)
  · have hf := hf.1 c36
    exact sX9_compact_L176 Y hf _ _ _ _ _ hP hL ⟨rfl, rfl⟩ (lv_sub hl [0, 1, 2] rfl)
  · have hf := hf.2 c36
    refine p_aload_n hx hb dX9_compact_169 rfl (lv_at hl 0 rfl) ?_
    refine lv_iload_n hx hb dX9_compact_170 rfl (lv_at hl 1 rfl) ?_
    refine lv_iconst (v := 1) hx hb dX9_compact_171 (by decide) ?_
    obtain ⟨ht37, hf⟩ := hf
    refine p_calli hL (p_runV X cf8_ hP ht37 (metX9_session l G _ _ _ _ _ X.2.2 hf) (cwV 2 hts (lw_V q1516 q1518 qs54 q106 q1519) rfl rfl rfl (by decide +kernel) ⟨Nat.le_trans (Nat.le_of_ble_eq_true rfl) hRf, Nat.le_trans (Nat.le_of_ble_eq_true rfl) hRl⟩) rfl hl.1 rfl (by decide) dX9_compact_172 ⟨Nat.zero_le _, Nat.zero_le _⟩) (fun r38 σ39 H locs hf hP hL => ?_)
    have hl := lv_sub hl [0, 1] rfl
    refine p_istore_n (i := 2) hx hb dX9_compact_175 rfl hl (by decide) ⟨⟨ne_ rfl, Or.inl (ne_ rfl)⟩, ⟨⟨ne_ rfl, Or.inr rfl⟩, trivial⟩⟩ (fun ls hl => ?_)
    exact sX9_compact_L176 Y hf _ _ _ _ _ hP hL ⟨rfl, rfl⟩ (lv_sub hl [1, 2, 0] rfl)
set_option maxHeartbeats 4000000 in
theorem sX9_compact_L159 {G : GG_} {p : Program} {l : Launch} {e : Env} {R : Room} {s : State} {m : MethodId} {args : Array Value} {below : List Frame} {meth : Method} {c : Code} (Y : MX_ G p R s m args meth c cX9_compact 4 RX9 (some Jvm.ClassFile.FieldType.int) 9 223 0 0 "compact") {post : Int32 → Hp → Prop} {rc107 : Int32 → Int32 → Hp → Prop} {x0 : Nat} {x1 : Int32} {x2 : Int32} {x3 : Int32} {σ : Hp} (hrc107 : ∀ (x2 : Int32) (x3 : Int32) (σ : Hp), rc107 x2 x3 σ → WG_ G p l e R s m args below meth c (MQ below (QI_ G post) args s 0 0 (FR_ G)) BN_ 4 107 [(0, rv_ x0), (1, .int x1), (2, .int x2), (3, .int x3)] [] σ) (hf : wX9_compact_L159 post rc107 x0 x1 x2 x3 σ) : WG_ G p l e R s m args below meth c (MQ below (QI_ G post) args s 0 0 (FR_ G)) BN_ 4 159 [(0, rv_ x0), (1, .int x1), (2, .int x2), (3, .int x3)] [] σ := by
  have ⟨X, hlk, hr, hRf, hRl, hRc, hnm⟩ := Y
  have ⟨⟨hx, hb, _, hown, hts⟩, _, _⟩ := X
  intro H locs cells slots ls hP hL hB hl
  obtain ⟨rfl, rfl⟩ := hB
  unfold wX9_compact_L159 at hf
  have hl := lv_sub hl [3, 0, 1, 2] rfl
  refine p_iincc (i := 3) (k := 1) hx hb (by decide) dX9_compact_159 hl (by decide) ⟨⟨ne_ rfl, Or.inl (ne_ rfl)⟩, ⟨⟨ne_ rfl, Or.inl (ne_ rfl)⟩, ⟨⟨ne_ rfl, Or.inr rfl⟩, trivial⟩⟩⟩ (fun y40 hy40 ls hl => ?_)
  have hf := hf y40 hy40
  refine lv_goto (tgt := 107) hx hb dX9_compact_162 (by decide) ?_
  exact hrc107 _ _ _ hf _ _ _ _ _ hP hL ⟨rfl, rfl⟩ (lv_sub hl [1, 2, 3, 0] rfl)
set_option maxHeartbeats 4000000 in
theorem sX9_compact_B107 {G : GG_} {p : Program} {l : Launch} {e : Env} {R : Room} {s : State} {m : MethodId} {args : Array Value} {below : List Frame} {meth : Method} {c : Code} (Y : MX_ G p R s m args meth c cX9_compact 4 RX9 (some Jvm.ClassFile.FieldType.int) 9 223 0 0 "compact") {post : Int32 → Hp → Prop} {rc107 : Int32 → Int32 → Hp → Prop} {x0 : Nat} {x1 : Int32} {x2 : Int32} {x3 : Int32} {σ : Hp} (hrc107 : ∀ (x2 : Int32) (x3 : Int32) (σ : Hp), rc107 x2 x3 σ → WG_ G p l e R s m args below meth c (MQ below (QI_ G post) args s 0 0 (FR_ G)) BN_ 4 107 [(0, rv_ x0), (1, .int x1), (2, .int x2), (3, .int x3)] [] σ) (hf : wX9_compact_B107 post rc107 x0 x1 x2 x3 σ) : WG_ G p l e R s m args below meth c (MQ below (QI_ G post) args s 0 0 (FR_ G)) BN_ 4 107 [(0, rv_ x0), (1, .int x1), (2, .int x2), (3, .int x3)] [] σ := by
  have ⟨X, hlk, hr, hRf, hRl, hRc, hnm⟩ := Y
  have ⟨⟨hx, hb, _, hown, hts⟩, _, _⟩ := X
  intro H locs cells slots ls hP hL hB hl
  obtain ⟨rfl, rfl⟩ := hB
  unfold wX9_compact_B107 at hf
  refine lv_iload_n hx hb dX9_compact_107 rfl (lv_at hl 3 rfl) ?_
  refine p_aload_n hx hb dX9_compact_108 rfl (lv_at hl 0 rfl) ?_
  obtain ⟨ht41, hf⟩ := hf
  refine p_gI X cf8_ (k := 10) (by decide) rfl hP ht41 q1305 (fun _ h => h) dX9_compact_109 ?_
  refine lv_icmp_ge (tgt := 165) hx hb dX9_compact_112 (by decide) (fun c42 => ?_) (fun c42 => ?_)
  · have hf := hf.1 c42
    exact sX9_compact_L165 Y hf _ _ _ _ _ hP hL ⟨rfl, rfl⟩ (lv_sub hl [0, 1, 2] rfl)
  · have hf := hf.2 c42
    refine lv_iload_n hx hb dX9_compact_115 rfl (lv_at hl 2 rfl) ?_
    refine lv_if_ne (tgt := 165) hx hb dX9_compact_116 (by decide) (fun c43 => ?_) (fun c43 => ?_)
    · have hf := hf.1 c43
      exact sX9_compact_L165 Y hf _ _ _ _ _ hP hL ⟨rfl, rfl⟩ (lv_sub hl [0, 1, 2] rfl)
    · have hf := hf.2 c43
      refine p_aload_n hx hb dX9_compact_119 rfl (lv_at hl 0 rfl) ?_
      refine p_gR X cf8_ (k := 11) (by decide) rfl hP ht41 q1306 (fun _ h => h) dX9_compact_120 ?_
      refine lv_iload_n hx hb dX9_compact_123 rfl (lv_at hl 3 rfl) ?_
      obtain ⟨ht44, hf⟩ := hf
      obtain ⟨hi45, hf⟩ := hf
      refine p_zald X hP ht44 hi45 dX9_compact_124 ?_
      refine lv_if_eq (tgt := 159) hx hb dX9_compact_125 (by decide) (fun c46 => ?_) (fun c46 => ?_)
      · have hf := hf.1 c46
        exact sX9_compact_L159 Y hrc107 hf _ _ _ _ _ hP hL ⟨rfl, rfl⟩ (lv_sub hl [0, 1, 2, 3] rfl)
      · have hf := hf.2 c46
        refine p_aload_n hx hb dX9_compact_128 rfl (lv_at hl 0 rfl) ?_
        refine p_gR X cf8_ (k := 12) (by decide) rfl hP ht41 q1307 (fun _ h => h) dX9_compact_129 ?_
        refine lv_iload_n hx hb dX9_compact_132 rfl (lv_at hl 3 rfl) ?_
        obtain ⟨ht47, hf⟩ := hf
        obtain ⟨hi48, hf⟩ := hf
        refine p_zald X hP ht47 hi48 dX9_compact_133 ?_
        refine lv_if_ne (tgt := 159) hx hb dX9_compact_134 (by decide) (fun c49 => ?_) (fun c49 => ?_)
        · have hf := hf.1 c49
          exact sX9_compact_L159 Y hrc107 hf _ _ _ _ _ hP hL ⟨rfl, rfl⟩ (lv_sub hl [0, 1, 2, 3] rfl)
        · have hf := hf.2 c49
          refine p_aload_n hx hb dX9_compact_137 rfl (lv_at hl 0 rfl) ?_
          refine p_gR X cf8_ (k := 15) (by decide) rfl hP ht41 q1310 (fun _ h => h) dX9_compact_138 ?_
          refine lv_iload_n hx hb dX9_compact_141 rfl (lv_at hl 3 rfl) ?_
          obtain ⟨ht50, hf⟩ := hf
          obtain ⟨hi51, hf⟩ := hf
          refine p_iald X hP ht50 hi51 dX9_compact_142 ?_
          refine lv_if_le (tgt := 159) hx hb dX9_compact_143 (by decide) (fun c52 => ?_) (fun c52 => ?_)
          · have hf := hf.1 c52
            exact sX9_compact_L159 Y hrc107 hf _ _ _ _ _ hP hL ⟨rfl, rfl⟩ (lv_sub hl [0, 1, 2, 3] rfl)
          · have hf := hf.2 c52
            refine p_aload_n hx hb dX9_compact_146 rfl (lv_at hl 0 rfl) ?_
            refine lv_iload_n hx hb dX9_compact_147 rfl (lv_at hl 1 rfl) ?_
            refine lv_iload_n hx hb dX9_compact_148 rfl (lv_at hl 3 rfl) ?_
            refine p_aload_n hx hb dX9_compact_149 rfl (lv_at hl 0 rfl) ?_
            refine p_gR X cf8_ (k := 17) (by decide) rfl hP ht41 q1312 (fun _ h => h) dX9_compact_150 ?_
            refine lv_iload_n hx hb dX9_compact_153 rfl (lv_at hl 3 rfl) ?_
            obtain ⟨ht53, hf⟩ := hf
            obtain ⟨hi54, hf⟩ := hf
            refine p_zald X hP ht53 hi54 dX9_compact_154 ?_
            refine p_calli hL (p_runV X cf8_ hP ht41 (metX9_lay l G _ _ _ _ _ _ X.2.2 hf) (cwV 3 hts (lw_V q1496 q1498 qs49 q106 q1499) rfl rfl rfl (by decide +kernel) ⟨Nat.le_trans (Nat.le_of_ble_eq_true rfl) hRf, Nat.le_trans (Nat.le_of_ble_eq_true rfl) hRl⟩) rfl hl.1 rfl (by decide) dX9_compact_155 ⟨Nat.zero_le _, Nat.zero_le _⟩) (fun r55 σ56 H locs hf hP hL => ?_)
            have hl := lv_sub hl [0, 1, 3] rfl
            refine p_istore_n (i := 2) hx hb dX9_compact_158 rfl hl (by decide) ⟨⟨ne_ rfl, Or.inl (ne_ rfl)⟩, ⟨⟨ne_ rfl, Or.inr rfl⟩, ⟨⟨ne_ rfl, Or.inl (ne_ rfl)⟩, trivial⟩⟩⟩ (fun ls hl => ?_)
            exact sX9_compact_L159 Y hrc107 hf _ _ _ _ _ hP hL ⟨rfl, rfl⟩ (lv_sub hl [1, 2, 0, 3] rfl)
set_option maxHeartbeats 4000000 in
theorem sX9_compact_L107 {G : GG_} {p : Program} {l : Launch} {e : Env} {R : Room} {s : State} {m : MethodId} {args : Array Value} {below : List Frame} {meth : Method} {c : Code} (Y : MX_ G p R s m args meth c cX9_compact 4 RX9 (some Jvm.ClassFile.FieldType.int) 9 223 0 0 "compact") {post : Int32 → Hp → Prop} {x0 : Nat} {x1 : Int32} {x2 : Int32} {x3 : Int32} {σ : Hp} (hf : wX9_compact_L107 post x0 x1 x2 x3 σ) : WG_ G p l e R s m args below meth c (MQ below (QI_ G post) args s 0 0 (FR_ G)) BN_ 4 107 [(0, rv_ x0), (1, .int x1), (2, .int x2), (3, .int x3)] [] σ := by
  unfold wX9_compact_L107 at hf
  obtain ⟨I, μ, h0, hI⟩ := hf
  have key : ∀ (n : Nat) (x2 : Int32) (x3 : Int32) (σ : Hp), I x2 x3 σ → μ x2 x3 σ < n → WG_ G p l e R s m args below meth c (MQ below (QI_ G post) args s 0 0 (FR_ G)) BN_ 4 107 [(0, rv_ x0), (1, .int x1), (2, .int x2), (3, .int x3)] [] σ := by
    intro n
    induction n with
    | zero => intro x2 x3 σ _ h; exact absurd h (Nat.not_lt_zero _)
    | succ n ih => intro x2 x3 σ hi hn; exact sX9_compact_B107 Y (fun x2' x3' σ' h => ih x2' x3' σ' h.1 (Nat.lt_of_lt_of_le h.2 (Nat.le_of_lt_succ hn))) (hI x2 x3 σ hi)
  exact key _ _ _ _ h0 (Nat.lt_succ_self _)
set_option maxHeartbeats 4000000 in
theorem sX9_compact_B77 {G : GG_} {p : Program} {l : Launch} {e : Env} {R : Room} {s : State} {m : MethodId} {args : Array Value} {below : List Frame} {meth : Method} {c : Code} (Y : MX_ G p R s m args meth c cX9_compact 4 RX9 (some Jvm.ClassFile.FieldType.int) 9 223 0 0 "compact") {post : Int32 → Hp → Prop} {rc77 : Int32 → Hp → Prop} {x0 : Nat} {x1 : Int32} {x2 : Int32} {σ : Hp} (hrc77 : ∀ (x2 : Int32) (σ : Hp), rc77 x2 σ → WG_ G p l e R s m args below meth c (MQ below (QI_ G post) args s 0 0 (FR_ G)) BN_ 4 77 [(0, rv_ x0), (1, .int x1), (2, .int x2)] [] σ) (hf : wX9_compact_B77 post rc77 x0 x1 x2 σ) : WG_ G p l e R s m args below meth c (MQ below (QI_ G post) args s 0 0 (FR_ G)) BN_ 4 77 [(0, rv_ x0), (1, .int x1), (2, .int x2)] [] σ := by
  have ⟨X, hlk, hr, hRf, hRl, hRc, hnm⟩ := Y
  have ⟨⟨hx, hb, _, hown, hts⟩, _, _⟩ := X
  intro H locs cells slots ls hP hL hB hl
  obtain ⟨rfl, rfl⟩ := hB
  unfold wX9_compact_B77 at hf
  refine lv_iload_n hx hb dX9_compact_77 rfl (lv_at hl 2 rfl) ?_
  refine p_aload_n hx hb dX9_compact_78 rfl (lv_at hl 0 rfl) ?_
  obtain ⟨ht57, hf⟩ := hf
  refine p_gI X cf8_ (k := 10) (by decide) rfl hP ht57 q1305 (fun _ h => h) dX9_compact_79 ?_
  refine lv_icmp_ge (tgt := 103) hx hb dX9_compact_82 (by decide) (fun c58 => ?_) (fun c58 => ?_)
  · have hf := hf.1 c58
    refine lv_iconst (v := 0) hx hb dX9_compact_103 (by decide) ?_
    have hl := lv_sub hl [0, 1] rfl
    refine p_istore_n (i := 2) hx hb dX9_compact_104 rfl hl (by decide) ⟨⟨ne_ rfl, Or.inl (ne_ rfl)⟩, ⟨⟨ne_ rfl, Or.inr rfl⟩, trivial⟩⟩ (fun ls hl => ?_)
    refine lv_iconst (v := 1) hx hb dX9_compact_105 (by decide) ?_
    refine p_istore_n (i := 3) hx hb dX9_compact_106 rfl hl (by decide) ⟨⟨ne_ rfl, Or.inr rfl⟩, ⟨⟨ne_ rfl, Or.inl (ne_ rfl)⟩, ⟨⟨ne_ rfl, Or.inl (ne_ rfl)⟩, trivial⟩⟩⟩ (fun ls hl => ?_)
    exact sX9_compact_L107 Y hf _ _ _ _ _ hP hL ⟨rfl, rfl⟩ (lv_sub hl [2, 3, 1, 0] rfl)
  · have hf := hf.2 c58
    refine p_aload_n hx hb dX9_compact_85 rfl (lv_at hl 0 rfl) ?_
    refine p_gR X cf8_ (k := 19) (by decide) rfl hP ht57 q1314 (fun _ h => h) dX9_compact_86 ?_
    refine lv_iload_n hx hb dX9_compact_89 rfl (lv_at hl 2 rfl) ?_
    refine p_aload_n hx hb dX9_compact_90 rfl (lv_at hl 0 rfl) ?_
    refine p_gR X cf8_ (k := 18) (by decide) rfl hP ht57 q1313 (fun _ h => h) dX9_compact_91 ?_
    refine lv_iload_n hx hb dX9_compact_94 rfl (lv_at hl 2 rfl) ?_
    obtain ⟨ht59, hf⟩ := hf
    obtain ⟨hi60, hf⟩ := hf
    refine p_iald X hP ht59 hi60 dX9_compact_95 ?_
    obtain ⟨ht61, hf⟩ := hf
    obtain ⟨hlo62, hf⟩ := hf
    obtain ⟨hi63, hf⟩ := hf
    refine p_iast X hP hL ht61 hlo62 hi63 dX9_compact_96 (fun H locs hP hL => ?_)
    refine p_nmP hP (fun σ64 hσ64 hP => ?_)
    have hf := hf σ64 hσ64
    have ht57 : tg_ σ64 x0 = 9 := by rw [hσ64]; exact ht57
    have hl := lv_sub hl [2, 0, 1] rfl
    refine p_iincc (i := 2) (k := 1) hx hb (by decide) dX9_compact_97 hl (by decide) ⟨⟨ne_ rfl, Or.inl (ne_ rfl)⟩, ⟨⟨ne_ rfl, Or.inr rfl⟩, trivial⟩⟩ (fun y65 hy65 ls hl => ?_)
    have hf := hf y65 hy65
    refine lv_goto (tgt := 77) hx hb dX9_compact_100 (by decide) ?_
    exact hrc77 _ _ hf _ _ _ _ _ hP hL ⟨rfl, rfl⟩ (lv_sub hl [1, 2, 0] rfl)
set_option maxHeartbeats 4000000 in
theorem sX9_compact_L77 {G : GG_} {p : Program} {l : Launch} {e : Env} {R : Room} {s : State} {m : MethodId} {args : Array Value} {below : List Frame} {meth : Method} {c : Code} (Y : MX_ G p R s m args meth c cX9_compact 4 RX9 (some Jvm.ClassFile.FieldType.int) 9 223 0 0 "compact") {post : Int32 → Hp → Prop} {x0 : Nat} {x1 : Int32} {x2 : Int32} {σ : Hp} (hf : wX9_compact_L77 post x0 x1 x2 σ) : WG_ G p l e R s m args below meth c (MQ below (QI_ G post) args s 0 0 (FR_ G)) BN_ 4 77 [(0, rv_ x0), (1, .int x1), (2, .int x2)] [] σ := by
  unfold wX9_compact_L77 at hf
  obtain ⟨I, μ, h0, hI⟩ := hf
  have key : ∀ (n : Nat) (x2 : Int32) (σ : Hp), I x2 σ → μ x2 σ < n → WG_ G p l e R s m args below meth c (MQ below (QI_ G post) args s 0 0 (FR_ G)) BN_ 4 77 [(0, rv_ x0), (1, .int x1), (2, .int x2)] [] σ := by
    intro n
    induction n with
    | zero => intro x2 σ _ h; exact absurd h (Nat.not_lt_zero _)
    | succ n ih => intro x2 σ hi hn; exact sX9_compact_B77 Y (fun x2' σ' h => ih x2' σ' h.1 (Nat.lt_of_lt_of_le h.2 (Nat.le_of_lt_succ hn))) (hI x2 σ hi)
  exact key _ _ _ h0 (Nat.lt_succ_self _)
set_option maxHeartbeats 4000000 in
theorem sX9_compact_B50 {G : GG_} {p : Program} {l : Launch} {e : Env} {R : Room} {s : State} {m : MethodId} {args : Array Value} {below : List Frame} {meth : Method} {c : Code} (Y : MX_ G p R s m args meth c cX9_compact 4 RX9 (some Jvm.ClassFile.FieldType.int) 9 223 0 0 "compact") {post : Int32 → Hp → Prop} {rc50 : Int32 → Hp → Prop} {x0 : Nat} {x1 : Int32} {x2 : Int32} {σ : Hp} (hrc50 : ∀ (x2 : Int32) (σ : Hp), rc50 x2 σ → WG_ G p l e R s m args below meth c (MQ below (QI_ G post) args s 0 0 (FR_ G)) BN_ 4 50 [(0, rv_ x0), (1, .int x1), (2, .int x2)] [] σ) (hf : wX9_compact_B50 post rc50 x0 x1 x2 σ) : WG_ G p l e R s m args below meth c (MQ below (QI_ G post) args s 0 0 (FR_ G)) BN_ 4 50 [(0, rv_ x0), (1, .int x1), (2, .int x2)] [] σ := by
  have ⟨X, hlk, hr, hRf, hRl, hRc, hnm⟩ := Y
  have ⟨⟨hx, hb, _, hown, hts⟩, _, _⟩ := X
  intro H locs cells slots ls hP hL hB hl
  obtain ⟨rfl, rfl⟩ := hB
  unfold wX9_compact_B50 at hf
  refine lv_iload_n hx hb dX9_compact_50 rfl (lv_at hl 2 rfl) ?_
  refine lv_ldc hx hb hown (hts _ q1590) dX9_compact_51 ?_
  refine lv_icmp_ge (tgt := 75) hx hb dX9_compact_53 (by decide) (fun c66 => ?_) (fun c66 => ?_)
  · have hf := hf.1 c66
    refine lv_iconst (v := 0) hx hb dX9_compact_75 (by decide) ?_
    have hl := lv_sub hl [0, 1] rfl
    refine p_istore_n (i := 2) hx hb dX9_compact_76 rfl hl (by decide) ⟨⟨ne_ rfl, Or.inl (ne_ rfl)⟩, ⟨⟨ne_ rfl, Or.inr rfl⟩, trivial⟩⟩ (fun ls hl => ?_)
    exact sX9_compact_L77 Y hf _ _ _ _ _ hP hL ⟨rfl, rfl⟩ (lv_sub hl [1, 2, 0] rfl)
  · have hf := hf.2 c66
    refine p_aload_n hx hb dX9_compact_56 rfl (lv_at hl 0 rfl) ?_
    obtain ⟨ht67, hf⟩ := hf
    refine p_gR X cf8_ (k := 3) (by decide) rfl hP ht67 q1298 (fun _ h => h) dX9_compact_57 ?_
    refine lv_sipush (v := 2048) hx hb dX9_compact_60 (by decide) ?_
    refine lv_iload_n hx hb dX9_compact_63 rfl (lv_at hl 1 rfl) ?_
    refine lv_imul hx hb dX9_compact_64 ?_
    refine lv_iload_n hx hb dX9_compact_65 rfl (lv_at hl 2 rfl) ?_
    refine lv_iadd hx hb dX9_compact_66 ?_
    refine lv_iconst (v := 0) hx hb dX9_compact_67 (by decide) ?_
    obtain ⟨ht68, hf⟩ := hf
    obtain ⟨hlo69, hf⟩ := hf
    obtain ⟨hi70, hf⟩ := hf
    refine p_bast X hP hL ht68 hlo69 hi70 dX9_compact_68 (fun H locs hP hL => ?_)
    refine p_nmP hP (fun σ71 hσ71 hP => ?_)
    have hf := hf σ71 hσ71
    have ht67 : tg_ σ71 x0 = 9 := by rw [hσ71]; exact ht67
    have hl := lv_sub hl [2, 0, 1] rfl
    refine p_iincc (i := 2) (k := 1) hx hb (by decide) dX9_compact_69 hl (by decide) ⟨⟨ne_ rfl, Or.inl (ne_ rfl)⟩, ⟨⟨ne_ rfl, Or.inr rfl⟩, trivial⟩⟩ (fun y72 hy72 ls hl => ?_)
    have hf := hf y72 hy72
    refine lv_goto (tgt := 50) hx hb dX9_compact_72 (by decide) ?_
    exact hrc50 _ _ hf _ _ _ _ _ hP hL ⟨rfl, rfl⟩ (lv_sub hl [1, 2, 0] rfl)
set_option maxHeartbeats 4000000 in
theorem sX9_compact_L50 {G : GG_} {p : Program} {l : Launch} {e : Env} {R : Room} {s : State} {m : MethodId} {args : Array Value} {below : List Frame} {meth : Method} {c : Code} (Y : MX_ G p R s m args meth c cX9_compact 4 RX9 (some Jvm.ClassFile.FieldType.int) 9 223 0 0 "compact") {post : Int32 → Hp → Prop} {x0 : Nat} {x1 : Int32} {x2 : Int32} {σ : Hp} (hf : wX9_compact_L50 post x0 x1 x2 σ) : WG_ G p l e R s m args below meth c (MQ below (QI_ G post) args s 0 0 (FR_ G)) BN_ 4 50 [(0, rv_ x0), (1, .int x1), (2, .int x2)] [] σ := by
  unfold wX9_compact_L50 at hf
  obtain ⟨I, μ, h0, hI⟩ := hf
  have key : ∀ (n : Nat) (x2 : Int32) (σ : Hp), I x2 σ → μ x2 σ < n → WG_ G p l e R s m args below meth c (MQ below (QI_ G post) args s 0 0 (FR_ G)) BN_ 4 50 [(0, rv_ x0), (1, .int x1), (2, .int x2)] [] σ := by
    intro n
    induction n with
    | zero => intro x2 σ _ h; exact absurd h (Nat.not_lt_zero _)
    | succ n ih => intro x2 σ hi hn; exact sX9_compact_B50 Y (fun x2' σ' h => ih x2' σ' h.1 (Nat.lt_of_lt_of_le h.2 (Nat.le_of_lt_succ hn))) (hI x2 σ hi)
  exact key _ _ _ h0 (Nat.lt_succ_self _)
set_option maxHeartbeats 4000000 in
theorem sX9_compact_B26 {G : GG_} {p : Program} {l : Launch} {e : Env} {R : Room} {s : State} {m : MethodId} {args : Array Value} {below : List Frame} {meth : Method} {c : Code} (Y : MX_ G p R s m args meth c cX9_compact 4 RX9 (some Jvm.ClassFile.FieldType.int) 9 223 0 0 "compact") {post : Int32 → Hp → Prop} {rc26 : Int32 → Hp → Prop} {x0 : Nat} {x1 : Int32} {x2 : Int32} {σ : Hp} (hrc26 : ∀ (x2 : Int32) (σ : Hp), rc26 x2 σ → WG_ G p l e R s m args below meth c (MQ below (QI_ G post) args s 0 0 (FR_ G)) BN_ 4 26 [(0, rv_ x0), (1, .int x1), (2, .int x2)] [] σ) (hf : wX9_compact_B26 post rc26 x0 x1 x2 σ) : WG_ G p l e R s m args below meth c (MQ below (QI_ G post) args s 0 0 (FR_ G)) BN_ 4 26 [(0, rv_ x0), (1, .int x1), (2, .int x2)] [] σ := by
  have ⟨X, hlk, hr, hRf, hRl, hRc, hnm⟩ := Y
  have ⟨⟨hx, hb, _, hown, hts⟩, _, _⟩ := X
  intro H locs cells slots ls hP hL hB hl
  obtain ⟨rfl, rfl⟩ := hB
  unfold wX9_compact_B26 at hf
  refine lv_iload_n hx hb dX9_compact_26 rfl (lv_at hl 2 rfl) ?_
  refine lv_sipush (v := 200) hx hb dX9_compact_27 (by decide) ?_
  refine lv_icmp_ge (tgt := 48) hx hb dX9_compact_30 (by decide) (fun c73 => ?_) (fun c73 => ?_)
  · have hf := hf.1 c73
    refine lv_iconst (v := 0) hx hb dX9_compact_48 (by decide) ?_
    have hl := lv_sub hl [0, 1] rfl
    refine p_istore_n (i := 2) hx hb dX9_compact_49 rfl hl (by decide) ⟨⟨ne_ rfl, Or.inl (ne_ rfl)⟩, ⟨⟨ne_ rfl, Or.inr rfl⟩, trivial⟩⟩ (fun ls hl => ?_)
    exact sX9_compact_L50 Y hf _ _ _ _ _ hP hL ⟨rfl, rfl⟩ (lv_sub hl [1, 2, 0] rfl)
  · have hf := hf.2 c73
    refine p_aload_n hx hb dX9_compact_33 rfl (lv_at hl 0 rfl) ?_
    obtain ⟨ht74, hf⟩ := hf
    refine p_gR X cf8_ (k := 4) (by decide) rfl hP ht74 q1299 (fun _ h => h) dX9_compact_34 ?_
    refine lv_iload_n hx hb dX9_compact_37 rfl (lv_at hl 1 rfl) ?_
    refine lv_iload_n hx hb dX9_compact_38 rfl (lv_at hl 2 rfl) ?_
    refine lv_iadd hx hb dX9_compact_39 ?_
    refine lv_iconst (v := 0) hx hb dX9_compact_40 (by decide) ?_
    obtain ⟨ht75, hf⟩ := hf
    obtain ⟨hlo76, hf⟩ := hf
    obtain ⟨hi77, hf⟩ := hf
    refine p_bast X hP hL ht75 hlo76 hi77 dX9_compact_41 (fun H locs hP hL => ?_)
    refine p_nmP hP (fun σ78 hσ78 hP => ?_)
    have hf := hf σ78 hσ78
    have ht74 : tg_ σ78 x0 = 9 := by rw [hσ78]; exact ht74
    have hl := lv_sub hl [2, 0, 1] rfl
    refine p_iincc (i := 2) (k := 1) hx hb (by decide) dX9_compact_42 hl (by decide) ⟨⟨ne_ rfl, Or.inl (ne_ rfl)⟩, ⟨⟨ne_ rfl, Or.inr rfl⟩, trivial⟩⟩ (fun y79 hy79 ls hl => ?_)
    have hf := hf y79 hy79
    refine lv_goto (tgt := 26) hx hb dX9_compact_45 (by decide) ?_
    exact hrc26 _ _ hf _ _ _ _ _ hP hL ⟨rfl, rfl⟩ (lv_sub hl [1, 2, 0] rfl)
set_option maxHeartbeats 4000000 in
theorem sX9_compact_L26 {G : GG_} {p : Program} {l : Launch} {e : Env} {R : Room} {s : State} {m : MethodId} {args : Array Value} {below : List Frame} {meth : Method} {c : Code} (Y : MX_ G p R s m args meth c cX9_compact 4 RX9 (some Jvm.ClassFile.FieldType.int) 9 223 0 0 "compact") {post : Int32 → Hp → Prop} {x0 : Nat} {x1 : Int32} {x2 : Int32} {σ : Hp} (hf : wX9_compact_L26 post x0 x1 x2 σ) : WG_ G p l e R s m args below meth c (MQ below (QI_ G post) args s 0 0 (FR_ G)) BN_ 4 26 [(0, rv_ x0), (1, .int x1), (2, .int x2)] [] σ := by
  unfold wX9_compact_L26 at hf
  obtain ⟨I, μ, h0, hI⟩ := hf
  have key : ∀ (n : Nat) (x2 : Int32) (σ : Hp), I x2 σ → μ x2 σ < n → WG_ G p l e R s m args below meth c (MQ below (QI_ G post) args s 0 0 (FR_ G)) BN_ 4 26 [(0, rv_ x0), (1, .int x1), (2, .int x2)] [] σ := by
    intro n
    induction n with
    | zero => intro x2 σ _ h; exact absurd h (Nat.not_lt_zero _)
    | succ n ih => intro x2 σ hi hn; exact sX9_compact_B26 Y (fun x2' σ' h => ih x2' σ' h.1 (Nat.lt_of_lt_of_le h.2 (Nat.le_of_lt_succ hn))) (hI x2 σ hi)
  exact key _ _ _ h0 (Nat.lt_succ_self _)
set_option maxHeartbeats 4000000 in
theorem sX9_compact {G : GG_} {p : Program} {l : Launch} {e : Env} {R : Room} {s : State} {m : MethodId} {args : Array Value} {below : List Frame} {meth : Method} {c : Code} (Y : MX_ G p R s m args meth c cX9_compact 4 RX9 (some Jvm.ClassFile.FieldType.int) 9 223 0 0 "compact") {post : Int32 → Hp → Prop} {x0 : Nat} {σ : Hp} (hf : wX9_compact x0 σ post) : WG_ G p l e R s m args below meth c (MQ below (QI_ G post) args s 0 0 (FR_ G)) BN_ 4 0 [(0, rv_ x0)] [] σ := by
  have ⟨X, hlk, hr, hRf, hRl, hRc, hnm⟩ := Y
  have ⟨⟨hx, hb, _, hown, hts⟩, _, _⟩ := X
  intro H locs cells slots ls hP hL hB hl
  obtain ⟨rfl, rfl⟩ := hB
  unfold wX9_compact at hf
  refine p_aload_n hx hb dX9_compact_0 rfl (lv_at hl 0 rfl) ?_
  refine lv_iconst (v := 0) hx hb dX9_compact_1 (by decide) ?_
  obtain ⟨ht80, hf⟩ := hf
  refine p_pI X cf8_ (k := 0) (by decide) rfl hP hL ht80 (p_ow hP ht80 rfl) q1295 (fun _ h => h) (Or.inl rfl) rfl rfl dX9_compact_2 (fun H locs hP hL => ?_)
  refine p_nmP hP (fun σ81 hσ81 hP => ?_)
  have hf := hf σ81 hσ81
  have ht80 : tg_ σ81 x0 = 9 := by rw [hσ81]; exact ht80
  refine p_aload_n hx hb dX9_compact_5 rfl (lv_at hl 0 rfl) ?_
  refine p_gI X cf8_ (k := 6) (by decide) rfl hP ht80 q1301 (fun _ h => h) dX9_compact_6 ?_
  refine lv_if_eq (tgt := 15) hx hb dX9_compact_9 (by decide) (fun c82 => ?_) (fun c82 => ?_)
  · have hf := hf.1 c82
    refine lv_sipush (v := 200) hx hb dX9_compact_15 (by decide) ?_
    refine p_aload_n hx hb dX9_compact_18 rfl (lv_at hl 0 rfl) ?_
    refine p_gI X cf8_ (k := 2) (by decide) rfl hP ht80 q1297 (fun _ h => h) dX9_compact_19 ?_
    refine lv_isub hx hb dX9_compact_22 ?_
    refine lv_topi (fun y83 hy83 => ?_)
    have hf := hf y83 hy83
    refine p_istore_n (i := 1) hx hb dX9_compact_23 rfl hl (by decide) ⟨⟨ne_ rfl, Or.inr (rv_cat _)⟩, trivial⟩ (fun ls hl => ?_)
    refine lv_iconst (v := 0) hx hb dX9_compact_24 (by decide) ?_
    refine p_istore_n (i := 2) hx hb dX9_compact_25 rfl hl (by decide) ⟨⟨ne_ rfl, Or.inr rfl⟩, ⟨⟨ne_ rfl, Or.inl (ne_ rfl)⟩, trivial⟩⟩ (fun ls hl => ?_)
    exact sX9_compact_L26 Y hf _ _ _ _ _ hP hL ⟨rfl, rfl⟩ (lv_sub hl [2, 1, 0] rfl)
  · have hf := hf.2 c82
    refine lv_bipush (v := (-4)) hx hb dX9_compact_12 (by decide) ?_
    exact p_iret X hlk hP hL (Nat.le_refl _) (Nat.le_refl _) hr dX9_compact_14 hf
set_option maxHeartbeats 4000000 in
theorem metX9_compact (l : Launch) (G : GG_) (x0 : Nat) (σ : Hp) (post : Int32 → Hp → Prop) (hG : GOK_ G) (hf : wX9_compact x0 σ post) : Met l yX9_compact (ws_ yX9_compact cX9_compact 4 (some Jvm.ClassFile.FieldType.int)) { frames := 9, cells := 0, slots := 0, locals := 223 } (PC_ G [rv_ x0] σ) (QI_ G post) 0 0 (FR_ G) := by
  refine Met.ofW (cc := cX9_compact) (maxL := 4) (ret := (some Jvm.ClassFile.FieldType.int)) (by decide) rfl ?_
  intro p e s m args below meth c s₁ B hml hv
  obtain ⟨rfl, hP, hW⟩ := hv
  have hts := atoms_spec (ws := ws_ yX9_compact cX9_compact 4 (some Jvm.ClassFile.FieldType.int)) B.pre
  have hts : ∀ w ∈ lw_all, w.before _ s = true := fun w h => hts w (List.mem_cons_of_mem _ h)
  rw [lg_entry_eq]
  have hl := en_entry [rv_ x0] [1] (n := 4) (ca_r ca_n) (by decide)
  exact sX9_compact ⟨⟨⟨B.exec, B.bytes, hml, findClass_of_methodNamed B.named, hts⟩, hW, hG⟩, B.notSynchronized, B.returns, Nat.le_refl _, Nat.le_refl _, ⟨rfl, rfl⟩, (name_of_methodNamed B.named B.method).1⟩ hf _ _ _ _ _ hP (LO_nil G) ⟨rfl, rfl⟩ hl
abbrev cX9_isWrittenSector : ByteArray := prog_11_method_6_code
def yX9_isWrittenSector : MethodName := ⟨RX9, "isWrittenSector", "(I)Z"⟩
theorem dX9_isWrittenSector_0 : decode cX9_isWrittenSector 0 = .ok (.iload_n 1, 1) := by decide +kernel
theorem dX9_isWrittenSector_1 : decode cX9_isWrittenSector 1 = .ok (.iconst 0, 1) := by decide +kernel
theorem dX9_isWrittenSector_2 : decode cX9_isWrittenSector 2 = .ok (.aload_n 0, 1) := by decide +kernel
theorem dX9_isWrittenSector_3 : decode cX9_isWrittenSector 3 = .ok (.getfield 99, 3) := by decide +kernel
theorem dX9_isWrittenSector_6 : decode cX9_isWrittenSector 6 = .ok (.iconst 1, 1) := by decide +kernel
theorem dX9_isWrittenSector_7 : decode cX9_isWrittenSector 7 = .ok (.isub, 1) := by decide +kernel
theorem dX9_isWrittenSector_8 : decode cX9_isWrittenSector 8 = .ok (.invokestatic 118, 3) := by decide +kernel
theorem dX9_isWrittenSector_11 : decode cX9_isWrittenSector 11 = .ok (.ifCond .eq 22, 3) := by decide +kernel
theorem dX9_isWrittenSector_14 : decode cX9_isWrittenSector 14 = .ok (.aload_n 0, 1) := by decide +kernel
theorem dX9_isWrittenSector_15 : decode cX9_isWrittenSector 15 = .ok (.getfield 14, 3) := by decide +kernel
theorem dX9_isWrittenSector_18 : decode cX9_isWrittenSector 18 = .ok (.aload_n 0, 1) := by decide +kernel
theorem dX9_isWrittenSector_19 : decode cX9_isWrittenSector 19 = .ok (.getfield 115, 3) := by decide +kernel
theorem dX9_isWrittenSector_22 : decode cX9_isWrittenSector 22 = .ok (.iload_n 1, 1) := by decide +kernel
theorem dX9_isWrittenSector_23 : decode cX9_isWrittenSector 23 = .ok (.iadd, 1) := by decide +kernel
theorem dX9_isWrittenSector_24 : decode cX9_isWrittenSector 24 = .ok (.baload, 1) := by decide +kernel
theorem dX9_isWrittenSector_25 : decode cX9_isWrittenSector 25 = .ok (.iconst 1, 1) := by decide +kernel
theorem dX9_isWrittenSector_26 : decode cX9_isWrittenSector 26 = .ok (.if_icmp .ne 7, 3) := by decide +kernel
theorem dX9_isWrittenSector_29 : decode cX9_isWrittenSector 29 = .ok (.iconst 1, 1) := by decide +kernel
theorem dX9_isWrittenSector_30 : decode cX9_isWrittenSector 30 = .ok (.goto 4, 3) := by decide +kernel
theorem dX9_isWrittenSector_33 : decode cX9_isWrittenSector 33 = .ok (.iconst 0, 1) := by decide +kernel
theorem dX9_isWrittenSector_34 : decode cX9_isWrittenSector 34 = .ok (.ireturn, 1) := by decide +kernel
/-- WriteOnceDiscModel.isWrittenSector(I)Z -/
def wX9_isWrittenSector (x0 : Nat) (x1 : Int32) (σ : Hp) (post : Int32 → Prop) : Prop :=
(tg_ σ x0 = 9 ∧ (wX9_in x1 (0 : Int32) ((fI_ σ 8 1 x0) - (1 : Int32)) σ (fun r2 => ((r2 = 0 →
  post (0 : Int32)) ∧
 (¬ r2 = 0 →
  (tg_ σ (fR_ σ 8 4 x0) = 100 ∧ (vp_in ((fI_ σ 8 2 x0) + x1) (ln_ σ (fR_ σ 8 4 x0)) ∧ ((¬ (aI_ σ (fR_ σ 8 4 x0) (((fI_ σ 8 2 x0) + x1)).toNatClampNeg) = (1 : Int32) →
   post (0 : Int32)) ∧
  ((aI_ σ (fR_ σ 8 4 x0) (((fI_ σ 8 2 x0) + x1)).toNatClampNeg) = (1 : Int32) →
   post (1 : Int32))))))))))
set_option maxHeartbeats 4000000 in
theorem sX9_isWrittenSector {G : GG_} {p : Program} {l : Launch} {e : Env} {R : Room} {s : State} {m : MethodId} {args : Array Value} {below : List Frame} {meth : Method} {c : Code} (Y : MX_ G p R s m args meth c cX9_isWrittenSector 2 RX9 (some Jvm.ClassFile.FieldType.boolean) 2 42 0 0 "isWrittenSector") {post : Int32 → Prop} {x0 : Nat} {x1 : Int32} {σ : Hp} (hf : wX9_isWrittenSector x0 x1 σ post) : WG_ G p l e R s m args below meth c (MQ below (QI_ G (fun r τ => τ = σ ∧ post r)) args s 0 0 (FR_ G)) BN_ 2 0 [(0, rv_ x0), (1, .int x1)] [] σ := by
  have ⟨X, hlk, hr, hRf, hRl, hRc, hnm⟩ := Y
  have ⟨⟨hx, hb, _, hown, hts⟩, _, _⟩ := X
  intro H locs cells slots ls hP hL hB hl
  obtain ⟨rfl, rfl⟩ := hB
  unfold wX9_isWrittenSector at hf
  refine lv_iload_n hx hb dX9_isWrittenSector_0 rfl (lv_at hl 1 rfl) ?_
  refine lv_iconst (v := 0) hx hb dX9_isWrittenSector_1 (by decide) ?_
  refine p_aload_n hx hb dX9_isWrittenSector_2 rfl (lv_at hl 0 rfl) ?_
  obtain ⟨ht1, hf⟩ := hf
  refine p_gI X cf8_ (k := 1) (by decide) rfl hP ht1 q1296 (fun _ h => h) dX9_isWrittenSector_3 ?_
  refine lv_iconst (v := 1) hx hb dX9_isWrittenSector_6 (by decide) ?_
  refine lv_isub hx hb dX9_isWrittenSector_7 ?_
  refine p_calli hL (p_runS X hP (metX9_in l G _ _ _ _ _ X.2.2 hf) (va_cwS 3 hts (lw_S q1427 q1428 q106 q1429) rfl rfl rfl (by decide +kernel) ⟨Nat.le_trans (Nat.le_of_ble_eq_true rfl) hRf, Nat.le_trans (Nat.le_of_ble_eq_true rfl) hRl⟩) rfl hl.1 rfl (by decide) dX9_isWrittenSector_8 ⟨Nat.zero_le _, Nat.zero_le _⟩) (fun r2 σ₁ H locs hf hP hL => ?_)
  obtain ⟨e₁, hf⟩ := hf
  rw [e₁] at hP
  refine lv_if_eq (tgt := 33) hx hb dX9_isWrittenSector_11 (by decide) (fun c3 => ?_) (fun c3 => ?_)
  · have hf := hf.1 c3
    refine lv_iconst (v := 0) hx hb dX9_isWrittenSector_33 (by decide) ?_
    exact p_zret X hlk hP hL (Nat.le_refl _) (Nat.le_refl _) hr nr_0 dX9_isWrittenSector_34 ⟨rfl, hf⟩
  · have hf := hf.2 c3
    refine p_aload_n hx hb dX9_isWrittenSector_14 rfl (lv_at hl 0 rfl) ?_
    refine p_gR X cf8_ (k := 4) (by decide) rfl hP ht1 q1299 (fun _ h => h) dX9_isWrittenSector_15 ?_
    refine p_aload_n hx hb dX9_isWrittenSector_18 rfl (lv_at hl 0 rfl) ?_
    refine p_gI X cf8_ (k := 2) (by decide) rfl hP ht1 q1297 (fun _ h => h) dX9_isWrittenSector_19 ?_
    refine lv_iload_n hx hb dX9_isWrittenSector_22 rfl (lv_at hl 1 rfl) ?_
    refine lv_iadd hx hb dX9_isWrittenSector_23 ?_
    obtain ⟨ht4, hf⟩ := hf
    obtain ⟨hi5, hf⟩ := hf
    refine p_bald X hP ht4 hi5 dX9_isWrittenSector_24 ?_
    refine lv_iconst (v := 1) hx hb dX9_isWrittenSector_25 (by decide) ?_
    refine lv_icmp_ne (tgt := 33) hx hb dX9_isWrittenSector_26 (by decide) (fun c6 => ?_) (fun c6 => ?_)
    · have hf := hf.1 c6
      refine lv_iconst (v := 0) hx hb dX9_isWrittenSector_33 (by decide) ?_
      exact p_zret X hlk hP hL (Nat.le_refl _) (Nat.le_refl _) hr nr_0 dX9_isWrittenSector_34 ⟨rfl, hf⟩
    · have hf := hf.2 c6
      refine lv_iconst (v := 1) hx hb dX9_isWrittenSector_29 (by decide) ?_
      refine lv_goto (tgt := 34) hx hb dX9_isWrittenSector_30 (by decide) ?_
      exact p_zret X hlk hP hL (Nat.le_refl _) (Nat.le_refl _) hr nr_1 dX9_isWrittenSector_34 ⟨rfl, hf⟩
set_option maxHeartbeats 4000000 in
theorem metX9_isWrittenSector (l : Launch) (G : GG_) (x0 : Nat) (x1 : Int32) (σ : Hp) (post : Int32 → Prop) (hG : GOK_ G) (hf : wX9_isWrittenSector x0 x1 σ post) : Met l yX9_isWrittenSector (ws_ yX9_isWrittenSector cX9_isWrittenSector 2 (some Jvm.ClassFile.FieldType.boolean)) { frames := 2, cells := 0, slots := 0, locals := 42 } (PC_ G [rv_ x0, .int x1] σ) (QI_ G (fun r τ => τ = σ ∧ post r)) 0 0 (FR_ G) := by
  refine Met.ofW (cc := cX9_isWrittenSector) (maxL := 2) (ret := (some Jvm.ClassFile.FieldType.boolean)) (by decide) rfl ?_
  intro p e s m args below meth c s₁ B hml hv
  obtain ⟨rfl, hP, hW⟩ := hv
  have hts := atoms_spec (ws := ws_ yX9_isWrittenSector cX9_isWrittenSector 2 (some Jvm.ClassFile.FieldType.boolean)) B.pre
  have hts : ∀ w ∈ lw_all, w.before _ s = true := fun w h => hts w (List.mem_cons_of_mem _ h)
  rw [lg_entry_eq]
  have hl := en_entry [rv_ x0, .int x1] [1, 1] (n := 2) (ca_r (ca_i ca_n)) (by decide)
  exact sX9_isWrittenSector ⟨⟨⟨B.exec, B.bytes, hml, findClass_of_methodNamed B.named, hts⟩, hW, hG⟩, B.notSynchronized, B.returns, Nat.le_refl _, Nat.le_refl _, ⟨rfl, rfl⟩, (name_of_methodNamed B.named B.method).1⟩ hf _ _ _ _ _ hP (LO_nil G) ⟨rfl, rfl⟩ hl
abbrev cX9_lowAt : ByteArray := prog_11_method_49_code
def yX9_lowAt : MethodName := ⟨RX9, "lowAt", "(II)I"⟩
theorem dX9_lowAt_0 : decode cX9_lowAt 0 = .ok (.iconst 0, 1) := by decide +kernel
theorem dX9_lowAt_1 : decode cX9_lowAt 1 = .ok (.istore_n 3, 1) := by decide +kernel
theorem dX9_lowAt_2 : decode cX9_lowAt 2 = .ok (.iload_n 2, 1) := by decide +kernel
theorem dX9_lowAt_3 : decode cX9_lowAt 3 = .ok (.iconst 1, 1) := by decide +kernel
theorem dX9_lowAt_4 : decode cX9_lowAt 4 = .ok (.isub, 1) := by decide +kernel
theorem dX9_lowAt_5 : decode cX9_lowAt 5 = .ok (.istore 4, 2) := by decide +kernel
theorem dX9_lowAt_7 : decode cX9_lowAt 7 = .ok (.iload 4, 2) := by decide +kernel
theorem dX9_lowAt_9 : decode cX9_lowAt 9 = .ok (.ifCond .lt 23, 3) := by decide +kernel
theorem dX9_lowAt_12 : decode cX9_lowAt 12 = .ok (.iload_n 3, 1) := by decide +kernel
theorem dX9_lowAt_13 : decode cX9_lowAt 13 = .ok (.bipush 8, 2) := by decide +kernel
theorem dX9_lowAt_15 : decode cX9_lowAt 15 = .ok (.ishl, 1) := by decide +kernel
theorem dX9_lowAt_16 : decode cX9_lowAt 16 = .ok (.aload_n 0, 1) := by decide +kernel
theorem dX9_lowAt_17 : decode cX9_lowAt 17 = .ok (.iload_n 1, 1) := by decide +kernel
theorem dX9_lowAt_18 : decode cX9_lowAt 18 = .ok (.iload 4, 2) := by decide +kernel
theorem dX9_lowAt_20 : decode cX9_lowAt 20 = .ok (.iadd, 1) := by decide +kernel
theorem dX9_lowAt_21 : decode cX9_lowAt 21 = .ok (.invokevirtual 225, 3) := by decide +kernel
theorem dX9_lowAt_24 : decode cX9_lowAt 24 = .ok (.ior, 1) := by decide +kernel
theorem dX9_lowAt_25 : decode cX9_lowAt 25 = .ok (.istore_n 3, 1) := by decide +kernel
theorem dX9_lowAt_26 : decode cX9_lowAt 26 = .ok (.iinc 4 (-1), 3) := by decide +kernel
theorem dX9_lowAt_29 : decode cX9_lowAt 29 = .ok (.goto (-22), 3) := by decide +kernel
theorem dX9_lowAt_32 : decode cX9_lowAt 32 = .ok (.iload_n 3, 1) := by decide +kernel
theorem dX9_lowAt_33 : decode cX9_lowAt 33 = .ok (.ireturn, 1) := by decide +kernel
/-- WriteOnceDiscModel.lowAt(II)I -/
def wX9_lowAt_B7 (post : Int32 → Prop) (rc7 : Int32 → Int32 → Prop) (x0 : Nat) (x1 : Int32) (x3 : Int32) (x4 : Int32) (σ : Hp) : Prop :=
((x4 < 0 →
  post x3) ∧
 (¬ x4 < 0 →
  (tg_ σ x0 = 9 ∧ (wX9_get x0 (x1 + x4) σ (fun r3 => (∀ y4 : Int32, y4 = ((x3 <<< ((8 : Int32) &&& 31)) ||| r3) → (∀ y5 : Int32, y5 = x4 + (-1) → rc7 y4 y5)))))))
def wX9_lowAt_L7 (post : Int32 → Prop) (x0 : Nat) (x1 : Int32) (x3 : Int32) (x4 : Int32) (σ : Hp) : Prop :=
 ∃ (I : Int32 → Int32 → Prop) (μ : Int32 → Int32 → Nat), I x3 x4 ∧ ∀ (x3 : Int32) (x4 : Int32), I x3 x4 → wX9_lowAt_B7 post (fun x3' x4' => I x3' x4' ∧ μ x3' x4' < μ x3 x4) x0 x1 x3 x4 σ
def wX9_lowAt (x0 : Nat) (x1 : Int32) (x2 : Int32) (σ : Hp) (post : Int32 → Prop) : Prop :=
(∀ y6 : Int32, y6 = (x2 - (1 : Int32)) → wX9_lowAt_L7 post x0 x1 (0 : Int32) y6 σ)
set_option maxHeartbeats 4000000 in
theorem sX9_lowAt_B7 {G : GG_} {p : Program} {l : Launch} {e : Env} {R : Room} {s : State} {m : MethodId} {args : Array Value} {below : List Frame} {meth : Method} {c : Code} (Y : MX_ G p R s m args meth c cX9_lowAt 5 RX9 (some Jvm.ClassFile.FieldType.int) 2 41 0 0 "lowAt") {post : Int32 → Prop} {rc7 : Int32 → Int32 → Prop} {x0 : Nat} {x1 : Int32} {x3 : Int32} {x4 : Int32} {σ : Hp} (hrc7 : ∀ (x3 : Int32) (x4 : Int32), rc7 x3 x4 → WG_ G p l e R s m args below meth c (MQ below (QI_ G (fun r τ => τ = σ ∧ post r)) args s 0 0 (FR_ G)) BN_ 5 7 [(0, rv_ x0), (1, .int x1), (3, .int x3), (4, .int x4)] [] σ) (hf : wX9_lowAt_B7 post rc7 x0 x1 x3 x4 σ) : WG_ G p l e R s m args below meth c (MQ below (QI_ G (fun r τ => τ = σ ∧ post r)) args s 0 0 (FR_ G)) BN_ 5 7 [(0, rv_ x0), (1, .int x1), (3, .int x3), (4, .int x4)] [] σ := by
  have ⟨X, hlk, hr, hRf, hRl, hRc, hnm⟩ := Y
  have ⟨⟨hx, hb, _, hown, hts⟩, _, _⟩ := X
  intro H locs cells slots ls hP hL hB hl
  obtain ⟨rfl, rfl⟩ := hB
  unfold wX9_lowAt_B7 at hf
  refine lv_iload hx hb dX9_lowAt_7 (lv_at hl 3 rfl) ?_
  refine lv_if_lt (tgt := 32) hx hb dX9_lowAt_9 (by decide) (fun c1 => ?_) (fun c1 => ?_)
  · have hf := hf.1 c1
    refine lv_iload_n hx hb dX9_lowAt_32 rfl (lv_at hl 2 rfl) ?_
    exact p_iret X hlk hP hL (Nat.le_refl _) (Nat.le_refl _) hr dX9_lowAt_33 ⟨rfl, hf⟩
  · have hf := hf.2 c1
    refine lv_iload_n hx hb dX9_lowAt_12 rfl (lv_at hl 2 rfl) ?_
    refine lv_bipush (v := 8) hx hb dX9_lowAt_13 (by decide) ?_
    refine lv_ishl hx hb dX9_lowAt_15 ?_
    refine p_aload_n hx hb dX9_lowAt_16 rfl (lv_at hl 0 rfl) ?_
    refine lv_iload_n hx hb dX9_lowAt_17 rfl (lv_at hl 1 rfl) ?_
    refine lv_iload hx hb dX9_lowAt_18 (lv_at hl 3 rfl) ?_
    refine lv_iadd hx hb dX9_lowAt_20 ?_
    obtain ⟨ht2, hf⟩ := hf
    refine p_calli hL (p_runV X cf8_ hP ht2 (metX9_get l G _ _ _ _ X.2.2 hf) (cwV 1 hts (lw_V q1508 q1510 qs52 q106 q1511) rfl rfl rfl (by decide +kernel) ⟨Nat.le_trans (Nat.le_of_ble_eq_true rfl) hRf, Nat.le_trans (Nat.le_of_ble_eq_true rfl) hRl⟩) rfl hl.1 rfl (by rw [(ca_i ca_n)]; decide) dX9_lowAt_21 ⟨Nat.zero_le _, Nat.zero_le _⟩) (fun r3 σ₁ H locs hf hP hL => ?_)
    obtain ⟨e₁, hf⟩ := hf
    rw [e₁] at hP
    refine lv_ior hx hb dX9_lowAt_24 ?_
    have hl := lv_sub hl [0, 1, 3] rfl
    refine lv_topi (fun y4 hy4 => ?_)
    have hf := hf y4 hy4
    refine p_istore_n (i := 3) hx hb dX9_lowAt_25 rfl hl (by decide) ⟨⟨ne_ rfl, Or.inl (ne_ rfl)⟩, ⟨⟨ne_ rfl, Or.inl (ne_ rfl)⟩, ⟨⟨ne_ rfl, Or.inl (ne_ rfl)⟩, trivial⟩⟩⟩ (fun ls hl => ?_)
    have hl := lv_sub hl [3, 0, 1, 2] rfl
    refine p_iincc (i := 4) (k := (-1)) hx hb (by decide) dX9_lowAt_26 hl (by decide) ⟨⟨ne_ rfl, Or.inr rfl⟩, ⟨⟨ne_ rfl, Or.inl (ne_ rfl)⟩, ⟨⟨ne_ rfl, Or.inl (ne_ rfl)⟩, trivial⟩⟩⟩ (fun y5 hy5 ls hl => ?_)
    have hf := hf y5 hy5
    refine lv_goto (tgt := 7) hx hb dX9_lowAt_29 (by decide) ?_
    exact hrc7 _ _ hf _ _ _ _ _ hP hL ⟨rfl, rfl⟩ (lv_sub hl [2, 3, 1, 0] rfl)
set_option maxHeartbeats 4000000 in
theorem sX9_lowAt_L7 {G : GG_} {p : Program} {l : Launch} {e : Env} {R : Room} {s : State} {m : MethodId} {args : Array Value} {below : List Frame} {meth : Method} {c : Code} (Y : MX_ G p R s m args meth c cX9_lowAt 5 RX9 (some Jvm.ClassFile.FieldType.int) 2 41 0 0 "lowAt") {post : Int32 → Prop} {x0 : Nat} {x1 : Int32} {x3 : Int32} {x4 : Int32} {σ : Hp} (hf : wX9_lowAt_L7 post x0 x1 x3 x4 σ) : WG_ G p l e R s m args below meth c (MQ below (QI_ G (fun r τ => τ = σ ∧ post r)) args s 0 0 (FR_ G)) BN_ 5 7 [(0, rv_ x0), (1, .int x1), (3, .int x3), (4, .int x4)] [] σ := by
  unfold wX9_lowAt_L7 at hf
  obtain ⟨I, μ, h0, hI⟩ := hf
  have key : ∀ (n : Nat) (x3 : Int32) (x4 : Int32), I x3 x4 → μ x3 x4 < n → WG_ G p l e R s m args below meth c (MQ below (QI_ G (fun r τ => τ = σ ∧ post r)) args s 0 0 (FR_ G)) BN_ 5 7 [(0, rv_ x0), (1, .int x1), (3, .int x3), (4, .int x4)] [] σ := by
    intro n
    induction n with
    | zero => intro x3 x4 _ h; exact absurd h (Nat.not_lt_zero _)
    | succ n ih => intro x3 x4 hi hn; exact sX9_lowAt_B7 Y (fun x3' x4' h => ih x3' x4' h.1 (Nat.lt_of_lt_of_le h.2 (Nat.le_of_lt_succ hn))) (hI x3 x4 hi)
  exact key _ _ _ h0 (Nat.lt_succ_self _)
set_option maxHeartbeats 4000000 in
theorem sX9_lowAt {G : GG_} {p : Program} {l : Launch} {e : Env} {R : Room} {s : State} {m : MethodId} {args : Array Value} {below : List Frame} {meth : Method} {c : Code} (Y : MX_ G p R s m args meth c cX9_lowAt 5 RX9 (some Jvm.ClassFile.FieldType.int) 2 41 0 0 "lowAt") {post : Int32 → Prop} {x0 : Nat} {x1 : Int32} {x2 : Int32} {σ : Hp} (hf : wX9_lowAt x0 x1 x2 σ post) : WG_ G p l e R s m args below meth c (MQ below (QI_ G (fun r τ => τ = σ ∧ post r)) args s 0 0 (FR_ G)) BN_ 5 0 [(0, rv_ x0), (1, .int x1), (2, .int x2)] [] σ := by
  have ⟨X, hlk, hr, hRf, hRl, hRc, hnm⟩ := Y
  have ⟨⟨hx, hb, _, hown, hts⟩, _, _⟩ := X
  intro H locs cells slots ls hP hL hB hl
  obtain ⟨rfl, rfl⟩ := hB
  unfold wX9_lowAt at hf
  refine lv_iconst (v := 0) hx hb dX9_lowAt_0 (by decide) ?_
  refine p_istore_n (i := 3) hx hb dX9_lowAt_1 rfl hl (by decide) ⟨⟨ne_ rfl, Or.inl (ne_ rfl)⟩, ⟨⟨ne_ rfl, Or.inl (ne_ rfl)⟩, ⟨⟨ne_ rfl, Or.inr rfl⟩, trivial⟩⟩⟩ (fun ls hl => ?_)
  refine lv_iload_n hx hb dX9_lowAt_2 rfl (lv_at hl 3 rfl) ?_
  refine lv_iconst (v := 1) hx hb dX9_lowAt_3 (by decide) ?_
  refine lv_isub hx hb dX9_lowAt_4 ?_
  have hl := lv_sub hl [0, 1, 2] rfl
  refine lv_topi (fun y6 hy6 => ?_)
  have hf := hf y6 hy6
  refine p_istore (i := 4) hx hb dX9_lowAt_5 hl (by decide) ⟨⟨ne_ rfl, Or.inr rfl⟩, ⟨⟨ne_ rfl, Or.inl (ne_ rfl)⟩, ⟨⟨ne_ rfl, Or.inl (ne_ rfl)⟩, trivial⟩⟩⟩ (fun ls hl => ?_)
  exact sX9_lowAt_L7 Y hf _ _ _ _ _ hP hL ⟨rfl, rfl⟩ (lv_sub hl [2, 3, 1, 0] rfl)
set_option maxHeartbeats 4000000 in
theorem metX9_lowAt (l : Launch) (G : GG_) (x0 : Nat) (x1 : Int32) (x2 : Int32) (σ : Hp) (post : Int32 → Prop) (hG : GOK_ G) (hf : wX9_lowAt x0 x1 x2 σ post) : Met l yX9_lowAt (ws_ yX9_lowAt cX9_lowAt 5 (some Jvm.ClassFile.FieldType.int)) { frames := 2, cells := 0, slots := 0, locals := 41 } (PC_ G [rv_ x0, .int x1, .int x2] σ) (QI_ G (fun r τ => τ = σ ∧ post r)) 0 0 (FR_ G) := by
  refine Met.ofW (cc := cX9_lowAt) (maxL := 5) (ret := (some Jvm.ClassFile.FieldType.int)) (by decide) rfl ?_
  intro p e s m args below meth c s₁ B hml hv
  obtain ⟨rfl, hP, hW⟩ := hv
  have hts := atoms_spec (ws := ws_ yX9_lowAt cX9_lowAt 5 (some Jvm.ClassFile.FieldType.int)) B.pre
  have hts : ∀ w ∈ lw_all, w.before _ s = true := fun w h => hts w (List.mem_cons_of_mem _ h)
  rw [lg_entry_eq]
  have hl := en_entry [rv_ x0, .int x1, .int x2] [1, 1, 1] (n := 5) (ca_r (ca_i (ca_i ca_n))) (by decide)
  exact sX9_lowAt ⟨⟨⟨B.exec, B.bytes, hml, findClass_of_methodNamed B.named, hts⟩, hW, hG⟩, B.notSynchronized, B.returns, Nat.le_refl _, Nat.le_refl _, ⟨rfl, rfl⟩, (name_of_methodNamed B.named B.method).1⟩ hf _ _ _ _ _ hP (LO_nil G) ⟨rfl, rfl⟩ hl
abbrev cX9_isMark : ByteArray := prog_11_method_63_code
def yX9_isMark : MethodName := ⟨RX9, "isMark", "(I)Z"⟩
theorem dX9_isMark_0 : decode cX9_isMark 0 = .ok (.sipush 2048, 3) := by decide +kernel
theorem dX9_isMark_3 : decode cX9_isMark 3 = .ok (.iload_n 1, 1) := by decide +kernel
theorem dX9_isMark_4 : decode cX9_isMark 4 = .ok (.imul, 1) := by decide +kernel
theorem dX9_isMark_5 : decode cX9_isMark 5 = .ok (.istore_n 2, 1) := by decide +kernel
theorem dX9_isMark_6 : decode cX9_isMark 6 = .ok (.aload_n 0, 1) := by decide +kernel
theorem dX9_isMark_7 : decode cX9_isMark 7 = .ok (.iload_n 1, 1) := by decide +kernel
theorem dX9_isMark_8 : decode cX9_isMark 8 = .ok (.invokevirtual 260, 3) := by decide +kernel
theorem dX9_isMark_11 : decode cX9_isMark 11 = .ok (.ifCond .eq 49, 3) := by decide +kernel
theorem dX9_isMark_14 : decode cX9_isMark 14 = .ok (.aload_n 0, 1) := by decide +kernel
theorem dX9_isMark_15 : decode cX9_isMark 15 = .ok (.iload_n 2, 1) := by decide +kernel
theorem dX9_isMark_16 : decode cX9_isMark 16 = .ok (.invokevirtual 225, 3) := by decide +kernel
theorem dX9_isMark_19 : decode cX9_isMark 19 = .ok (.bipush 77, 2) := by decide +kernel
theorem dX9_isMark_21 : decode cX9_isMark 21 = .ok (.if_icmp .ne 39, 3) := by decide +kernel
theorem dX9_isMark_24 : decode cX9_isMark 24 = .ok (.aload_n 0, 1) := by decide +kernel
theorem dX9_isMark_25 : decode cX9_isMark 25 = .ok (.iload_n 2, 1) := by decide +kernel
theorem dX9_isMark_26 : decode cX9_isMark 26 = .ok (.iconst 1, 1) := by decide +kernel
theorem dX9_isMark_27 : decode cX9_isMark 27 = .ok (.iadd, 1) := by decide +kernel
theorem dX9_isMark_28 : decode cX9_isMark 28 = .ok (.invokevirtual 225, 3) := by decide +kernel
theorem dX9_isMark_31 : decode cX9_isMark 31 = .ok (.bipush 65, 2) := by decide +kernel
theorem dX9_isMark_33 : decode cX9_isMark 33 = .ok (.if_icmp .ne 27, 3) := by decide +kernel
theorem dX9_isMark_36 : decode cX9_isMark 36 = .ok (.aload_n 0, 1) := by decide +kernel
theorem dX9_isMark_37 : decode cX9_isMark 37 = .ok (.iload_n 2, 1) := by decide +kernel
theorem dX9_isMark_38 : decode cX9_isMark 38 = .ok (.iconst 2, 1) := by decide +kernel
theorem dX9_isMark_39 : decode cX9_isMark 39 = .ok (.iadd, 1) := by decide +kernel
theorem dX9_isMark_40 : decode cX9_isMark 40 = .ok (.invokevirtual 225, 3) := by decide +kernel
theorem dX9_isMark_43 : decode cX9_isMark 43 = .ok (.bipush 82, 2) := by decide +kernel
theorem dX9_isMark_45 : decode cX9_isMark 45 = .ok (.if_icmp .ne 15, 3) := by decide +kernel
theorem dX9_isMark_48 : decode cX9_isMark 48 = .ok (.aload_n 0, 1) := by decide +kernel
theorem dX9_isMark_49 : decode cX9_isMark 49 = .ok (.iload_n 2, 1) := by decide +kernel
theorem dX9_isMark_50 : decode cX9_isMark 50 = .ok (.iconst 3, 1) := by decide +kernel
theorem dX9_isMark_51 : decode cX9_isMark 51 = .ok (.iadd, 1) := by decide +kernel
theorem dX9_isMark_52 : decode cX9_isMark 52 = .ok (.invokevirtual 225, 3) := by decide +kernel
theorem dX9_isMark_55 : decode cX9_isMark 55 = .ok (.bipush 75, 2) := by decide +kernel
theorem dX9_isMark_57 : decode cX9_isMark 57 = .ok (.if_icmp .eq 5, 3) := by decide +kernel
theorem dX9_isMark_60 : decode cX9_isMark 60 = .ok (.iconst 0, 1) := by decide +kernel
theorem dX9_isMark_61 : decode cX9_isMark 61 = .ok (.ireturn, 1) := by decide +kernel
theorem dX9_isMark_62 : decode cX9_isMark 62 = .ok (.aload_n 0, 1) := by decide +kernel
theorem dX9_isMark_63 : decode cX9_isMark 63 = .ok (.iload_n 2, 1) := by decide +kernel
theorem dX9_isMark_64 : decode cX9_isMark 64 = .ok (.iconst 4, 1) := by decide +kernel
theorem dX9_isMark_65 : decode cX9_isMark 65 = .ok (.iadd, 1) := by decide +kernel
theorem dX9_isMark_66 : decode cX9_isMark 66 = .ok (.iconst 4, 1) := by decide +kernel
theorem dX9_isMark_67 : decode cX9_isMark 67 = .ok (.invokevirtual 266, 3) := by decide +kernel
theorem dX9_isMark_70 : decode cX9_isMark 70 = .ok (.istore_n 3, 1) := by decide +kernel
theorem dX9_isMark_71 : decode cX9_isMark 71 = .ok (.iload_n 3, 1) := by decide +kernel
theorem dX9_isMark_72 : decode cX9_isMark 72 = .ok (.ifCond .lt 24, 3) := by decide +kernel
theorem dX9_isMark_75 : decode cX9_isMark 75 = .ok (.iload_n 3, 1) := by decide +kernel
theorem dX9_isMark_76 : decode cX9_isMark 76 = .ok (.iload_n 1, 1) := by decide +kernel
theorem dX9_isMark_77 : decode cX9_isMark 77 = .ok (.if_icmp .ge 19, 3) := by decide +kernel
theorem dX9_isMark_80 : decode cX9_isMark 80 = .ok (.aload_n 0, 1) := by decide +kernel
theorem dX9_isMark_81 : decode cX9_isMark 81 = .ok (.iload_n 2, 1) := by decide +kernel
theorem dX9_isMark_82 : decode cX9_isMark 82 = .ok (.bipush 8, 2) := by decide +kernel
theorem dX9_isMark_84 : decode cX9_isMark 84 = .ok (.iadd, 1) := by decide +kernel
theorem dX9_isMark_85 : decode cX9_isMark 85 = .ok (.iconst 4, 1) := by decide +kernel
theorem dX9_isMark_86 : decode cX9_isMark 86 = .ok (.invokevirtual 266, 3) := by decide +kernel
theorem dX9_isMark_89 : decode cX9_isMark 89 = .ok (.ifCond .le 7, 3) := by decide +kernel
theorem dX9_isMark_92 : decode cX9_isMark 92 = .ok (.iconst 1, 1) := by decide +kernel
theorem dX9_isMark_93 : decode cX9_isMark 93 = .ok (.goto 4, 3) := by decide +kernel
theorem dX9_isMark_96 : decode cX9_isMark 96 = .ok (.iconst 0, 1) := by decide +kernel
theorem dX9_isMark_97 : decode cX9_isMark 97 = .ok (.ireturn, 1) := by decide +kernel
/-- WriteOnceDiscModel.isMark(I)Z -/
def wX9_isMark (x0 : Nat) (x1 : Int32) (σ : Hp) (post : Int32 → Prop) : Prop :=
(∀ y1 : Int32, y1 = ((2048 : Int32) * x1) → (tg_ σ x0 = 9 ∧ (wX9_isWrittenSector x0 x1 σ (fun r3 => ((r3 = 0 →
  post (0 : Int32)) ∧
 (¬ r3 = 0 →
  (wX9_get x0 y1 σ (fun r5 => ((¬ r5 = (77 : Int32) →
   post (0 : Int32)) ∧
  (r5 = (77 : Int32) →
   (wX9_get x0 (y1 + (1 : Int32)) σ (fun r7 => ((¬ r7 = (65 : Int32) →
    post (0 : Int32)) ∧
   (r7 = (65 : Int32) →
    (wX9_get x0 (y1 + (2 : Int32)) σ (fun r9 => ((¬ r9 = (82 : Int32) →
     post (0 : Int32)) ∧
    (r9 = (82 : Int32) →
     (wX9_get x0 (y1 + (3 : Int32)) σ (fun r11 => ((r11 = (75 : Int32) →
      (wX9_lowAt x0 (y1 + (4 : Int32)) (4 : Int32) σ (fun r13 => ((r13 < 0 →
       post (0 : Int32)) ∧
      (¬ r13 < 0 →
       ((x1 ≤ r13 →
        post (0 : Int32)) ∧
       (¬ x1 ≤ r13 →
        (wX9_lowAt x0 (y1 + (8 : Int32)) (4 : Int32) σ (fun r16 => ((r16 ≤ 0 →
         post (0 : Int32)) ∧
        (¬ r16 ≤ 0 →
         post (1 : Int32)))))))))))) ∧
     (¬ r11 = (75 : Int32) →
      post (0 : Int32)))))))))))))))))))))))
set_option maxHeartbeats 4000000 in
theorem sX9_isMark {G : GG_} {p : Program} {l : Launch} {e : Env} {R : Room} {s : State} {m : MethodId} {args : Array Value} {below : List Frame} {meth : Method} {c : Code} (Y : MX_ G p R s m args meth c cX9_isMark 4 RX9 (some Jvm.ClassFile.FieldType.boolean) 3 65 0 0 "isMark") {post : Int32 → Prop} {x0 : Nat} {x1 : Int32} {σ : Hp} (hf : wX9_isMark x0 x1 σ post) : WG_ G p l e R s m args below meth c (MQ below (QI_ G (fun r τ => τ = σ ∧ post r)) args s 0 0 (FR_ G)) BN_ 4 0 [(0, rv_ x0), (1, .int x1)] [] σ := by
  have ⟨X, hlk, hr, hRf, hRl, hRc, hnm⟩ := Y
  have ⟨⟨hx, hb, _, hown, hts⟩, _, _⟩ := X
  intro H locs cells slots ls hP hL hB hl
  obtain ⟨rfl, rfl⟩ := hB
  unfold wX9_isMark at hf
  refine lv_sipush (v := 2048) hx hb dX9_isMark_0 (by decide) ?_
  refine lv_iload_n hx hb dX9_isMark_3 rfl (lv_at hl 1 rfl) ?_
  refine lv_imul hx hb dX9_isMark_4 ?_
  refine lv_topi (fun y1 hy1 => ?_)
  have hf := hf y1 hy1
  refine p_istore_n (i := 2) hx hb dX9_isMark_5 rfl hl (by decide) ⟨⟨ne_ rfl, Or.inl (ne_ rfl)⟩, ⟨⟨ne_ rfl, Or.inr rfl⟩, trivial⟩⟩ (fun ls hl => ?_)
  refine p_aload_n hx hb dX9_isMark_6 rfl (lv_at hl 1 rfl) ?_
  refine lv_iload_n hx hb dX9_isMark_7 rfl (lv_at hl 2 rfl) ?_
  obtain ⟨ht2, hf⟩ := hf
  refine p_calli hL (p_runV X cf8_ hP ht2 (metX9_isWrittenSector l G _ _ _ _ X.2.2 hf) (cwV 1 hts (lw_V q1603 q1605 qs69 q106 q1606) rfl rfl rfl (by decide +kernel) ⟨Nat.le_trans (Nat.le_of_ble_eq_true rfl) hRf, Nat.le_trans (Nat.le_of_ble_eq_true rfl) hRl⟩) rfl hl.1 rfl (by decide) dX9_isMark_8 ⟨Nat.zero_le _, Nat.zero_le _⟩) (fun r3 σ₁ H locs hf hP hL => ?_)
  obtain ⟨e₁, hf⟩ := hf
  rw [e₁] at hP
  refine lv_if_eq (tgt := 60) hx hb dX9_isMark_11 (by decide) (fun c4 => ?_) (fun c4 => ?_)
  · have hf := hf.1 c4
    refine lv_iconst (v := 0) hx hb dX9_isMark_60 (by decide) ?_
    exact p_zret X hlk hP hL (Nat.le_refl _) (Nat.le_refl _) hr nr_0 dX9_isMark_61 ⟨rfl, hf⟩
  · have hf := hf.2 c4
    refine p_aload_n hx hb dX9_isMark_14 rfl (lv_at hl 1 rfl) ?_
    refine lv_iload_n hx hb dX9_isMark_15 rfl (lv_at hl 0 rfl) ?_
    refine p_calli hL (p_runV X cf8_ hP ht2 (metX9_get l G _ _ _ _ X.2.2 hf) (cwV 1 hts (lw_V q1508 q1510 qs52 q106 q1511) rfl rfl rfl (by decide +kernel) ⟨Nat.le_trans (Nat.le_of_ble_eq_true rfl) hRf, Nat.le_trans (Nat.le_of_ble_eq_true rfl) hRl⟩) rfl hl.1 rfl (by decide) dX9_isMark_16 ⟨Nat.zero_le _, Nat.zero_le _⟩) (fun r5 σ₁ H locs hf hP hL => ?_)
    obtain ⟨e₁, hf⟩ := hf
    rw [e₁] at hP
    refine lv_bipush (v := 77) hx hb dX9_isMark_19 (by decide) ?_
    refine lv_icmp_ne (tgt := 60) hx hb dX9_isMark_21 (by decide) (fun c6 => ?_) (fun c6 => ?_)
    · have hf := hf.1 c6
      refine lv_iconst (v := 0) hx hb dX9_isMark_60 (by decide) ?_
      exact p_zret X hlk hP hL (Nat.le_refl _) (Nat.le_refl _) hr nr_0 dX9_isMark_61 ⟨rfl, hf⟩
    · have hf := hf.2 c6
      refine p_aload_n hx hb dX9_isMark_24 rfl (lv_at hl 1 rfl) ?_
      refine lv_iload_n hx hb dX9_isMark_25 rfl (lv_at hl 0 rfl) ?_
      refine lv_iconst (v := 1) hx hb dX9_isMark_26 (by decide) ?_
      refine lv_iadd hx hb dX9_isMark_27 ?_
      refine p_calli hL (p_runV X cf8_ hP ht2 (metX9_get l G _ _ _ _ X.2.2 hf) (cwV 1 hts (lw_V q1508 q1510 qs52 q106 q1511) rfl rfl rfl (by decide +kernel) ⟨Nat.le_trans (Nat.le_of_ble_eq_true rfl) hRf, Nat.le_trans (Nat.le_of_ble_eq_true rfl) hRl⟩) rfl hl.1 rfl (by decide) dX9_isMark_28 ⟨Nat.zero_le _, Nat.zero_le _⟩) (fun r7 σ₁ H locs hf hP hL => ?_)
      obtain ⟨e₁, hf⟩ := hf
      rw [e₁] at hP
      refine lv_bipush (v := 65) hx hb dX9_isMark_31 (by decide) ?_
      refine lv_icmp_ne (tgt := 60) hx hb dX9_isMark_33 (by decide) (fun c8 => ?_) (fun c8 => ?_)
      · have hf := hf.1 c8
        refine lv_iconst (v := 0) hx hb dX9_isMark_60 (by decide) ?_
        exact p_zret X hlk hP hL (Nat.le_refl _) (Nat.le_refl _) hr nr_0 dX9_isMark_61 ⟨rfl, hf⟩
      · have hf := hf.2 c8
        refine p_aload_n hx hb dX9_isMark_36 rfl (lv_at hl 1 rfl) ?_
        refine lv_iload_n hx hb dX9_isMark_37 rfl (lv_at hl 0 rfl) ?_
        refine lv_iconst (v := 2) hx hb dX9_isMark_38 (by decide) ?_
        refine lv_iadd hx hb dX9_isMark_39 ?_
        refine p_calli hL (p_runV X cf8_ hP ht2 (metX9_get l G _ _ _ _ X.2.2 hf) (cwV 1 hts (lw_V q1508 q1510 qs52 q106 q1511) rfl rfl rfl (by decide +kernel) ⟨Nat.le_trans (Nat.le_of_ble_eq_true rfl) hRf, Nat.le_trans (Nat.le_of_ble_eq_true rfl) hRl⟩) rfl hl.1 rfl (by decide) dX9_isMark_40 ⟨Nat.zero_le _, Nat.zero_le _⟩) (fun r9 σ₁ H locs hf hP hL => ?_)
        obtain ⟨e₁, hf⟩ := hf
        rw [e₁] at hP
        refine lv_bipush (v := 82) hx hb dX9_isMark_43 (by decide) ?_
        refine lv_icmp_ne (tgt := 60) hx hb dX9_isMark_45 (by decide) (fun c10 => ?_) (fun c10 => ?_)
        · have hf := hf.1 c10
          refine lv_iconst (v := 0) hx hb dX9_isMark_60 (by decide) ?_
          exact p_zret X hlk hP hL (Nat.le_refl _) (Nat.le_refl _) hr nr_0 dX9_isMark_61 ⟨rfl, hf⟩
        · have hf := hf.2 c10
          refine p_aload_n hx hb dX9_isMark_48 rfl (lv_at hl 1 rfl) ?_
          refine lv_iload_n hx hb dX9_isMark_49 rfl (lv_at hl 0 rfl) ?_
          refine lv_iconst (v := 3) hx hb dX9_isMark_50 (by decide) ?_
          refine lv_iadd hx hb dX9_isMark_51 ?_
          refine p_calli hL (p_runV X cf8_ hP ht2 (metX9_get l G _ _ _ _ X.2.2 hf) (cwV 1 hts (lw_V q1508 q1510 qs52 q106 q1511) rfl rfl rfl (by decide +kernel) ⟨Nat.le_trans (Nat.le_of_ble_eq_true rfl) hRf, Nat.le_trans (Nat.le_of_ble_eq_true rfl) hRl⟩) rfl hl.1 rfl (by decide) dX9_isMark_52 ⟨Nat.zero_le _, Nat.zero_le _⟩) (fun r11 σ₁ H locs hf hP hL => ?_)
          obtain ⟨e₁, hf⟩ := hf
          rw [e₁] at hP
          refine lv_bipush (v := 75) hx hb dX9_isMark_55 (by decide) ?_
          refine lv_icmp_eq (tgt := 62) hx hb dX9_isMark_57 (by decide) (fun c12 => ?_) (fun c12 => ?_)
          · have hf := hf.1 c12
            refine p_aload_n hx hb dX9_isMark_62 rfl (lv_at hl 1 rfl) ?_
            refine lv_iload_n hx hb dX9_isMark_63 rfl (lv_at hl 0 rfl) ?_
            refine lv_iconst (v := 4) hx hb dX9_isMark_64 (by decide) ?_
            refine lv_iadd hx hb dX9_isMark_65 ?_
            refine lv_iconst (v := 4) hx hb dX9_isMark_66 (by decide) ?_
            refine p_calli hL (p_runV X cf8_ hP ht2 (metX9_lowAt l G _ _ _ _ _ X.2.2 hf) (cwV 2 hts (lw_V q1607 q1609 qs70 q106 q1610) rfl rfl rfl (by decide +kernel) ⟨Nat.le_trans (Nat.le_of_ble_eq_true rfl) hRf, Nat.le_trans (Nat.le_of_ble_eq_true rfl) hRl⟩) rfl hl.1 rfl (by decide) dX9_isMark_67 ⟨Nat.zero_le _, Nat.zero_le _⟩) (fun r13 σ₁ H locs hf hP hL => ?_)
            obtain ⟨e₁, hf⟩ := hf
            rw [e₁] at hP
            refine p_istore_n (i := 3) hx hb dX9_isMark_70 rfl hl (by decide) ⟨⟨ne_ rfl, Or.inr rfl⟩, ⟨⟨ne_ rfl, Or.inl (ne_ rfl)⟩, ⟨⟨ne_ rfl, Or.inl (ne_ rfl)⟩, trivial⟩⟩⟩ (fun ls hl => ?_)
            refine lv_iload_n hx hb dX9_isMark_71 rfl (lv_at hl 0 rfl) ?_
            refine lv_if_lt (tgt := 96) hx hb dX9_isMark_72 (by decide) (fun c14 => ?_) (fun c14 => ?_)
            · have hf := hf.1 c14
              refine lv_iconst (v := 0) hx hb dX9_isMark_96 (by decide) ?_
              exact p_zret X hlk hP hL (Nat.le_refl _) (Nat.le_refl _) hr nr_0 dX9_isMark_97 ⟨rfl, hf⟩
            · have hf := hf.2 c14
              refine lv_iload_n hx hb dX9_isMark_75 rfl (lv_at hl 0 rfl) ?_
              refine lv_iload_n hx hb dX9_isMark_76 rfl (lv_at hl 3 rfl) ?_
              refine lv_icmp_ge (tgt := 96) hx hb dX9_isMark_77 (by decide) (fun c15 => ?_) (fun c15 => ?_)
              · have hf := hf.1 c15
                refine lv_iconst (v := 0) hx hb dX9_isMark_96 (by decide) ?_
                exact p_zret X hlk hP hL (Nat.le_refl _) (Nat.le_refl _) hr nr_0 dX9_isMark_97 ⟨rfl, hf⟩
              · have hf := hf.2 c15
                refine p_aload_n hx hb dX9_isMark_80 rfl (lv_at hl 2 rfl) ?_
                refine lv_iload_n hx hb dX9_isMark_81 rfl (lv_at hl 1 rfl) ?_
                refine lv_bipush (v := 8) hx hb dX9_isMark_82 (by decide) ?_
                refine lv_iadd hx hb dX9_isMark_84 ?_
                refine lv_iconst (v := 4) hx hb dX9_isMark_85 (by decide) ?_
                refine p_calli hL (p_runV X cf8_ hP ht2 (metX9_lowAt l G _ _ _ _ _ X.2.2 hf) (cwV 2 hts (lw_V q1607 q1609 qs70 q106 q1610) rfl rfl rfl (by decide +kernel) ⟨Nat.le_trans (Nat.le_of_ble_eq_true rfl) hRf, Nat.le_trans (Nat.le_of_ble_eq_true rfl) hRl⟩) rfl hl.1 rfl (by decide) dX9_isMark_86 ⟨Nat.zero_le _, Nat.zero_le _⟩) (fun r16 σ₁ H locs hf hP hL => ?_)
                obtain ⟨e₁, hf⟩ := hf
                rw [e₁] at hP
                refine lv_if_le (tgt := 96) hx hb dX9_isMark_89 (by decide) (fun c17 => ?_) (fun c17 => ?_)
                · have hf := hf.1 c17
                  refine lv_iconst (v := 0) hx hb dX9_isMark_96 (by decide) ?_
                  exact p_zret X hlk hP hL (Nat.le_refl _) (Nat.le_refl _) hr nr_0 dX9_isMark_97 ⟨rfl, hf⟩
                · have hf := hf.2 c17
                  refine lv_iconst (v := 1) hx hb dX9_isMark_92 (by decide) ?_
                  refine lv_goto (tgt := 97) hx hb dX9_isMark_93 (by decide) ?_
                  exact p_zret X hlk hP hL (Nat.le_refl _) (Nat.le_refl _) hr nr_1 dX9_isMark_97 ⟨rfl, hf⟩
          · have hf := hf.2 c12
            refine lv_iconst (v := 0) hx hb dX9_isMark_60 (by decide) ?_
            exact p_zret X hlk hP hL (Nat.le_refl _) (Nat.le_refl _) hr nr_0 dX9_isMark_61 ⟨rfl, hf⟩
set_option maxHeartbeats 4000000 in
theorem metX9_isMark (l : Launch) (G : GG_) (x0 : Nat) (x1 : Int32) (σ : Hp) (post : Int32 → Prop) (hG : GOK_ G) (hf : wX9_isMark x0 x1 σ post) : Met l yX9_isMark (ws_ yX9_isMark cX9_isMark 4 (some Jvm.ClassFile.FieldType.boolean)) { frames := 3, cells := 0, slots := 0, locals := 65 } (PC_ G [rv_ x0, .int x1] σ) (QI_ G (fun r τ => τ = σ ∧ post r)) 0 0 (FR_ G) := by
  refine Met.ofW (cc := cX9_isMark) (maxL := 4) (ret := (some Jvm.ClassFile.FieldType.boolean)) (by decide) rfl ?_
  intro p e s m args below meth c s₁ B hml hv
  obtain ⟨rfl, hP, hW⟩ := hv
  have hts := atoms_spec (ws := ws_ yX9_isMark cX9_isMark 4 (some Jvm.ClassFile.FieldType.boolean)) B.pre
  have hts : ∀ w ∈ lw_all, w.before _ s = true := fun w h => hts w (List.mem_cons_of_mem _ h)
  rw [lg_entry_eq]
  have hl := en_entry [rv_ x0, .int x1] [1, 1] (n := 4) (ca_r (ca_i ca_n)) (by decide)
  exact sX9_isMark ⟨⟨⟨B.exec, B.bytes, hml, findClass_of_methodNamed B.named, hts⟩, hW, hG⟩, B.notSynchronized, B.returns, Nat.le_refl _, Nat.le_refl _, ⟨rfl, rfl⟩, (name_of_methodNamed B.named B.method).1⟩ hf _ _ _ _ _ hP (LO_nil G) ⟨rfl, rfl⟩ hl
abbrev cX9_markAt : ByteArray := prog_11_method_64_code
def yX9_markAt : MethodName := ⟨RX9, "markAt", "(I)I"⟩
theorem dX9_markAt_0 : decode cX9_markAt 0 = .ok (.iload_n 1, 1) := by decide +kernel
theorem dX9_markAt_1 : decode cX9_markAt 1 = .ok (.istore_n 2, 1) := by decide +kernel
theorem dX9_markAt_2 : decode cX9_markAt 2 = .ok (.iconst 0, 1) := by decide +kernel
theorem dX9_markAt_3 : decode cX9_markAt 3 = .ok (.istore_n 3, 1) := by decide +kernel
theorem dX9_markAt_4 : decode cX9_markAt 4 = .ok (.iload_n 3, 1) := by decide +kernel
theorem dX9_markAt_5 : decode cX9_markAt 5 = .ok (.aload_n 0, 1) := by decide +kernel
theorem dX9_markAt_6 : decode cX9_markAt 6 = .ok (.getfield 99, 3) := by decide +kernel
theorem dX9_markAt_9 : decode cX9_markAt 9 = .ok (.if_icmp .ge 33, 3) := by decide +kernel
theorem dX9_markAt_12 : decode cX9_markAt 12 = .ok (.iload_n 1, 1) := by decide +kernel
theorem dX9_markAt_13 : decode cX9_markAt 13 = .ok (.ifCond .lt 29, 3) := by decide +kernel
theorem dX9_markAt_16 : decode cX9_markAt 16 = .ok (.aload_n 0, 1) := by decide +kernel
theorem dX9_markAt_17 : decode cX9_markAt 17 = .ok (.iload_n 3, 1) := by decide +kernel
theorem dX9_markAt_18 : decode cX9_markAt 18 = .ok (.invokevirtual 311, 3) := by decide +kernel
theorem dX9_markAt_21 : decode cX9_markAt 21 = .ok (.ifCond .ne 6, 3) := by decide +kernel
theorem dX9_markAt_24 : decode cX9_markAt 24 = .ok (.goto 12, 3) := by decide +kernel
theorem dX9_markAt_27 : decode cX9_markAt 27 = .ok (.iload_n 2, 1) := by decide +kernel
theorem dX9_markAt_28 : decode cX9_markAt 28 = .ok (.ifCond .ne 5, 3) := by decide +kernel
theorem dX9_markAt_31 : decode cX9_markAt 31 = .ok (.iload_n 3, 1) := by decide +kernel
theorem dX9_markAt_32 : decode cX9_markAt 32 = .ok (.ireturn, 1) := by decide +kernel
theorem dX9_markAt_33 : decode cX9_markAt 33 = .ok (.iinc 2 (-1), 3) := by decide +kernel
theorem dX9_markAt_36 : decode cX9_markAt 36 = .ok (.iinc 3 1, 3) := by decide +kernel
theorem dX9_markAt_39 : decode cX9_markAt 39 = .ok (.goto (-35), 3) := by decide +kernel
theorem dX9_markAt_42 : decode cX9_markAt 42 = .ok (.iconst (-1), 1) := by decide +kernel
theorem dX9_markAt_43 : decode cX9_markAt 43 = .ok (.ireturn, 1) := by decide +kernel
/-- WriteOnceDiscModel.markAt(I)I -/
def wX9_markAt_L36 (post : Int32 → Prop) (rc4 : Int32 → Int32 → Prop) (x0 : Nat) (x1 : Int32) (x2 : Int32) (x3 : Int32) (σ : Hp) : Prop :=
(∀ y1 : Int32, y1 = x3 + 1 → rc4 x2 y1)
def wX9_markAt_B4 (post : Int32 → Prop) (rc4 : Int32 → Int32 → Prop) (x0 : Nat) (x1 : Int32) (x2 : Int32) (x3 : Int32) (σ : Hp) : Prop :=
(tg_ σ x0 = 9 ∧ (((fI_ σ 8 1 x0) ≤ x3 →
  post (-1 : Int32)) ∧
 (¬ (fI_ σ 8 1 x0) ≤ x3 →
  ((x1 < 0 →
   post (-1 : Int32)) ∧
  (¬ x1 < 0 →
   (wX9_isMark x0 x3 σ (fun r5 => ((¬ r5 = 0 →
    ((¬ x2 = 0 →
     (∀ y8 : Int32, y8 = x2 + (-1) → wX9_markAt_L36 post rc4 x0 x1 y8 x3 σ)) ∧
    (x2 = 0 →
     post x3))) ∧
   (r5 = 0 →
    wX9_markAt_L36 post rc4 x0 x1 x2 x3 σ)))))))))
def wX9_markAt_L4 (post : Int32 → Prop) (x0 : Nat) (x1 : Int32) (x2 : Int32) (x3 : Int32) (σ : Hp) : Prop :=
 ∃ (I : Int32 → Int32 → Prop) (μ : Int32 → Int32 → Nat), I x2 x3 ∧ ∀ (x2 : Int32) (x3 : Int32), I x2 x3 → wX9_markAt_B4 post (fun x2' x3' => I x2' x3' ∧ μ x2' x3' < μ x2 x3) x0 x1 x2 x3 σ
def wX9_markAt (x0 : Nat) (x1 : Int32) (σ : Hp) (post : Int32 → Prop) : Prop :=
wX9_markAt_L4 post x0 x1 x1 (0 : Int32) σ
set_option maxHeartbeats 4000000 in
theorem sX9_markAt_L36 {G : GG_} {p : Program} {l : Launch} {e : Env} {R : Room} {s : State} {m : MethodId} {args : Array Value} {below : List Frame} {meth : Method} {c : Code} (Y : MX_ G p R s m args meth c cX9_markAt 4 RX9 (some Jvm.ClassFile.FieldType.int) 4 88 0 0 "markAt") {post : Int32 → Prop} {rc4 : Int32 → Int32 → Prop} {x0 : Nat} {x1 : Int32} {x2 : Int32} {x3 : Int32} {σ : Hp} (hrc4 : ∀ (x2 : Int32) (x3 : Int32), rc4 x2 x3 → WG_ G p l e R s m args below meth c (MQ below (QI_ G (fun r τ => τ = σ ∧ post r)) args s 0 0 (FR_ G)) BN_ 4 4 [(0, rv_ x0), (1, .int x1), (2, .int x2), (3, .int x3)] [] σ) (hf : wX9_markAt_L36 post rc4 x0 x1 x2 x3 σ) : WG_ G p l e R s m args below meth c (MQ below (QI_ G (fun r τ => τ = σ ∧ post r)) args s 0 0 (FR_ G)) BN_ 4 36 [(0, rv_ x0), (1, .int x1), (2, .int x2), (3, .int x3)] [] σ := by
  have ⟨X, hlk, hr, hRf, hRl, hRc, hnm⟩ := Y
  have ⟨⟨hx, hb, _, hown, hts⟩, _, _⟩ := X
  intro H locs cells slots ls hP hL hB hl
  obtain ⟨rfl, rfl⟩ := hB
  unfold wX9_markAt_L36 at hf
  have hl := lv_sub hl [3, 0, 1, 2] rfl
  refine p_iincc (i := 3) (k := 1) hx hb (by decide) dX9_markAt_36 hl (by decide) ⟨⟨ne_ rfl, Or.inl (ne_ rfl)⟩, ⟨⟨ne_ rfl, Or.inl (ne_ rfl)⟩, ⟨⟨ne_ rfl, Or.inr rfl⟩, trivial⟩⟩⟩ (fun y1 hy1 ls hl => ?_)
  have hf := hf y1 hy1
  refine lv_goto (tgt := 4) hx hb dX9_markAt_39 (by decide) ?_
  exact hrc4 _ _ hf _ _ _ _ _ hP hL ⟨rfl, rfl⟩ (lv_sub hl [1, 2, 3, 0] rfl)
set_option maxHeartbeats 4000000 in
theorem sX9_markAt_B4 {G : GG_} {p : Program} {l : Launch} {e : Env} {R : Room} {s : State} {m : MethodId} {args : Array Value} {below : List Frame} {meth : Method} {c : Code} (Y : MX_ G p R s m args meth c cX9_markAt 4 RX9 (some Jvm.ClassFile.FieldType.int) 4 88 0 0 "markAt") {post : Int32 → Prop} {rc4 : Int32 → Int32 → Prop} {x0 : Nat} {x1 : Int32} {x2 : Int32} {x3 : Int32} {σ : Hp} (hrc4 : ∀ (x2 : Int32) (x3 : Int32), rc4 x2 x3 → WG_ G p l e R s m args below meth c (MQ below (QI_ G (fun r τ => τ = σ ∧ post r)) args s 0 0 (FR_ G)) BN_ 4 4 [(0, rv_ x0), (1, .int x1), (2, .int x2), (3, .int x3)] [] σ) (hf : wX9_markAt_B4 post rc4 x0 x1 x2 x3 σ) : WG_ G p l e R s m args below meth c (MQ below (QI_ G (fun r τ => τ = σ ∧ post r)) args s 0 0 (FR_ G)) BN_ 4 4 [(0, rv_ x0), (1, .int x1), (2, .int x2), (3, .int x3)] [] σ := by
  have ⟨X, hlk, hr, hRf, hRl, hRc, hnm⟩ := Y
  have ⟨⟨hx, hb, _, hown, hts⟩, _, _⟩ := X
  intro H locs cells slots ls hP hL hB hl
  obtain ⟨rfl, rfl⟩ := hB
  unfold wX9_markAt_B4 at hf
  refine lv_iload_n hx hb dX9_markAt_4 rfl (lv_at hl 3 rfl) ?_
  refine p_aload_n hx hb dX9_markAt_5 rfl (lv_at hl 0 rfl) ?_
  obtain ⟨ht2, hf⟩ := hf
  refine p_gI X cf8_ (k := 1) (by decide) rfl hP ht2 q1296 (fun _ h => h) dX9_markAt_6 ?_
  refine lv_icmp_ge (tgt := 42) hx hb dX9_markAt_9 (by decide) (fun c3 => ?_) (fun c3 => ?_)
  · have hf := hf.1 c3
    refine lv_iconst (v := (-1)) hx hb dX9_markAt_42 (by decide) ?_
    exact p_iret X hlk hP hL (Nat.le_refl _) (Nat.le_refl _) hr dX9_markAt_43 ⟨rfl, hf⟩
  · have hf := hf.2 c3
    refine lv_iload_n hx hb dX9_markAt_12 rfl (lv_at hl 1 rfl) ?_
    refine lv_if_lt (tgt := 42) hx hb dX9_markAt_13 (by decide) (fun c4 => ?_) (fun c4 => ?_)
    · have hf := hf.1 c4
      refine lv_iconst (v := (-1)) hx hb dX9_markAt_42 (by decide) ?_
      exact p_iret X hlk hP hL (Nat.le_refl _) (Nat.le_refl _) hr dX9_markAt_43 ⟨rfl, hf⟩
    · have hf := hf.2 c4
      refine p_aload_n hx hb dX9_markAt_16 rfl (lv_at hl 0 rfl) ?_
      refine lv_iload_n hx hb dX9_markAt_17 rfl (lv_at hl 3 rfl) ?_
      refine p_calli hL (p_runV X cf8_ hP ht2 (metX9_isMark l G _ _ _ _ X.2.2 hf) (cwV 1 hts (lw_V q1599 q1601 qs68 q106 q1602) rfl rfl rfl (by decide +kernel) ⟨Nat.le_trans (Nat.le_of_ble_eq_true rfl) hRf, Nat.le_trans (Nat.le_of_ble_eq_true rfl) hRl⟩) rfl hl.1 rfl (by decide) dX9_markAt_18 ⟨Nat.zero_le _, Nat.zero_le _⟩) (fun r5 σ₁ H locs hf hP hL => ?_)
      obtain ⟨e₁, hf⟩ := hf
      rw [e₁] at hP
      refine lv_if_ne (tgt := 27) hx hb dX9_markAt_21 (by decide) (fun c6 => ?_) (fun c6 => ?_)
      · have hf := hf.1 c6
        refine lv_iload_n hx hb dX9_markAt_27 rfl (lv_at hl 2 rfl) ?_
        refine lv_if_ne (tgt := 33) hx hb dX9_markAt_28 (by decide) (fun c7 => ?_) (fun c7 => ?_)
        · have hf := hf.1 c7
          have hl := lv_sub hl [2, 0, 1, 3] rfl
          refine p_iincc (i := 2) (k := (-1)) hx hb (by decide) dX9_markAt_33 hl (by decide) ⟨⟨ne_ rfl, Or.inl (ne_ rfl)⟩, ⟨⟨ne_ rfl, Or.inr rfl⟩, ⟨⟨ne_ rfl, Or.inl (ne_ rfl)⟩, trivial⟩⟩⟩ (fun y8 hy8 ls hl => ?_)
          have hf := hf y8 hy8
          exact sX9_markAt_L36 Y hrc4 hf _ _ _ _ _ hP hL ⟨rfl, rfl⟩ (lv_sub hl [1, 2, 0, 3] rfl)
        · have hf := hf.2 c7
          refine lv_iload_n hx hb dX9_markAt_31 rfl (lv_at hl 3 rfl) ?_
          exact p_iret X hlk hP hL (Nat.le_refl _) (Nat.le_refl _) hr dX9_markAt_32 ⟨rfl, hf⟩
      · have hf := hf.2 c6
        refine lv_goto (tgt := 36) hx hb dX9_markAt_24 (by decide) ?_
        exact sX9_markAt_L36 Y hrc4 hf _ _ _ _ _ hP hL ⟨rfl, rfl⟩ (lv_sub hl [0, 1, 2, 3] rfl)
set_option maxHeartbeats 4000000 in
theorem sX9_markAt_L4 {G : GG_} {p : Program} {l : Launch} {e : Env} {R : Room} {s : State} {m : MethodId} {args : Array Value} {below : List Frame} {meth : Method} {c : Code} (Y : MX_ G p R s m args meth c cX9_markAt 4 RX9 (some Jvm.ClassFile.FieldType.int) 4 88 0 0 "markAt") {post : Int32 → Prop} {x0 : Nat} {x1 : Int32} {x2 : Int32} {x3 : Int32} {σ : Hp} (hf : wX9_markAt_L4 post x0 x1 x2 x3 σ) : WG_ G p l e R s m args below meth c (MQ below (QI_ G (fun r τ => τ = σ ∧ post r)) args s 0 0 (FR_ G)) BN_ 4 4 [(0, rv_ x0), (1, .int x1), (2, .int x2), (3, .int x3)] [] σ := by
  unfold wX9_markAt_L4 at hf
  obtain ⟨I, μ, h0, hI⟩ := hf
  have key : ∀ (n : Nat) (x2 : Int32) (x3 : Int32), I x2 x3 → μ x2 x3 < n → WG_ G p l e R s m args below meth c (MQ below (QI_ G (fun r τ => τ = σ ∧ post r)) args s 0 0 (FR_ G)) BN_ 4 4 [(0, rv_ x0), (1, .int x1), (2, .int x2), (3, .int x3)] [] σ := by
    intro n
    induction n with
    | zero => intro x2 x3 _ h; exact absurd h (Nat.not_lt_zero _)
    | succ n ih => intro x2 x3 hi hn; exact sX9_markAt_B4 Y (fun x2' x3' h => ih x2' x3' h.1 (Nat.lt_of_lt_of_le h.2 (Nat.le_of_lt_succ hn))) (hI x2 x3 hi)
  exact key _ _ _ h0 (Nat.lt_succ_self _)
set_option maxHeartbeats 4000000 in
theorem sX9_markAt {G : GG_} {p : Program} {l : Launch} {e : Env} {R : Room} {s : State} {m : MethodId} {args : Array Value} {below : List Frame} {meth : Method} {c : Code} (Y : MX_ G p R s m args meth c cX9_markAt 4 RX9 (some Jvm.ClassFile.FieldType.int) 4 88 0 0 "markAt") {post : Int32 → Prop} {x0 : Nat} {x1 : Int32} {σ : Hp} (hf : wX9_markAt x0 x1 σ post) : WG_ G p l e R s m args below meth c (MQ below (QI_ G (fun r τ => τ = σ ∧ post r)) args s 0 0 (FR_ G)) BN_ 4 0 [(0, rv_ x0), (1, .int x1)] [] σ := by
  have ⟨X, hlk, hr, hRf, hRl, hRc, hnm⟩ := Y
  have ⟨⟨hx, hb, _, hown, hts⟩, _, _⟩ := X
  intro H locs cells slots ls hP hL hB hl
  obtain ⟨rfl, rfl⟩ := hB
  unfold wX9_markAt at hf
  refine lv_iload_n hx hb dX9_markAt_0 rfl (lv_at hl 1 rfl) ?_
  refine p_istore_n (i := 2) hx hb dX9_markAt_1 rfl hl (by decide) ⟨⟨ne_ rfl, Or.inl (ne_ rfl)⟩, ⟨⟨ne_ rfl, Or.inr rfl⟩, trivial⟩⟩ (fun ls hl => ?_)
  refine lv_iconst (v := 0) hx hb dX9_markAt_2 (by decide) ?_
  refine p_istore_n (i := 3) hx hb dX9_markAt_3 rfl hl (by decide) ⟨⟨ne_ rfl, Or.inr rfl⟩, ⟨⟨ne_ rfl, Or.inl (ne_ rfl)⟩, ⟨⟨ne_ rfl, Or.inl (ne_ rfl)⟩, trivial⟩⟩⟩ (fun ls hl => ?_)
  exact sX9_markAt_L4 Y hf _ _ _ _ _ hP hL ⟨rfl, rfl⟩ (lv_sub hl [2, 3, 1, 0] rfl)
set_option maxHeartbeats 4000000 in
theorem metX9_markAt (l : Launch) (G : GG_) (x0 : Nat) (x1 : Int32) (σ : Hp) (post : Int32 → Prop) (hG : GOK_ G) (hf : wX9_markAt x0 x1 σ post) : Met l yX9_markAt (ws_ yX9_markAt cX9_markAt 4 (some Jvm.ClassFile.FieldType.int)) { frames := 4, cells := 0, slots := 0, locals := 88 } (PC_ G [rv_ x0, .int x1] σ) (QI_ G (fun r τ => τ = σ ∧ post r)) 0 0 (FR_ G) := by
  refine Met.ofW (cc := cX9_markAt) (maxL := 4) (ret := (some Jvm.ClassFile.FieldType.int)) (by decide) rfl ?_
  intro p e s m args below meth c s₁ B hml hv
  obtain ⟨rfl, hP, hW⟩ := hv
  have hts := atoms_spec (ws := ws_ yX9_markAt cX9_markAt 4 (some Jvm.ClassFile.FieldType.int)) B.pre
  have hts : ∀ w ∈ lw_all, w.before _ s = true := fun w h => hts w (List.mem_cons_of_mem _ h)
  rw [lg_entry_eq]
  have hl := en_entry [rv_ x0, .int x1] [1, 1] (n := 4) (ca_r (ca_i ca_n)) (by decide)
  exact sX9_markAt ⟨⟨⟨B.exec, B.bytes, hml, findClass_of_methodNamed B.named, hts⟩, hW, hG⟩, B.notSynchronized, B.returns, Nat.le_refl _, Nat.le_refl _, ⟨rfl, rfl⟩, (name_of_methodNamed B.named B.method).1⟩ hf _ _ _ _ _ hP (LO_nil G) ⟨rfl, rfl⟩ hl
abbrev cX9_no : ByteArray := prog_11_method_51_code
def yX9_no : MethodName := ⟨RX9, "no", "(I)Z"⟩
theorem dX9_no_0 : decode cX9_no 0 = .ok (.aload_n 0, 1) := by decide +kernel
theorem dX9_no_1 : decode cX9_no 1 = .ok (.iload_n 1, 1) := by decide +kernel
theorem dX9_no_2 : decode cX9_no 2 = .ok (.putfield 257, 3) := by decide +kernel
theorem dX9_no_5 : decode cX9_no 5 = .ok (.iconst 0, 1) := by decide +kernel
theorem dX9_no_6 : decode cX9_no 6 = .ok (.ireturn, 1) := by decide +kernel
/-- WriteOnceDiscModel.no(I)Z -/
def wX9_no (x0 : Nat) (x1 : Int32) (σ : Hp) (post : Int32 → Hp → Prop) : Prop :=
(tg_ σ x0 = 9 ∧ (∀ σ2, σ2 = sI_ σ 8 28 x0 x1 → post (0 : Int32) σ2))
set_option maxHeartbeats 4000000 in
theorem sX9_no {G : GG_} {p : Program} {l : Launch} {e : Env} {R : Room} {s : State} {m : MethodId} {args : Array Value} {below : List Frame} {meth : Method} {c : Code} (Y : MX_ G p R s m args meth c cX9_no 2 RX9 (some Jvm.ClassFile.FieldType.boolean) 1 20 0 0 "no") {post : Int32 → Hp → Prop} {x0 : Nat} {x1 : Int32} {σ : Hp} (hf : wX9_no x0 x1 σ post) : WG_ G p l e R s m args below meth c (MQ below (QI_ G post) args s 0 0 (FR_ G)) BN_ 2 0 [(0, rv_ x0), (1, .int x1)] [] σ := by
  have ⟨X, hlk, hr, hRf, hRl, hRc, hnm⟩ := Y
  have ⟨⟨hx, hb, _, hown, hts⟩, _, _⟩ := X
  intro H locs cells slots ls hP hL hB hl
  obtain ⟨rfl, rfl⟩ := hB
  unfold wX9_no at hf
  refine p_aload_n hx hb dX9_no_0 rfl (lv_at hl 0 rfl) ?_
  refine lv_iload_n hx hb dX9_no_1 rfl (lv_at hl 1 rfl) ?_
  obtain ⟨ht1, hf⟩ := hf
  refine p_pI X cf8_ (k := 28) (by decide) rfl hP hL ht1 (p_ow hP ht1 rfl) q1322 (fun _ h => h) (Or.inl rfl) rfl rfl dX9_no_2 (fun H locs hP hL => ?_)
  refine p_nmP hP (fun σ2 hσ2 hP => ?_)
  have hf := hf σ2 hσ2
  have ht1 : tg_ σ2 x0 = 9 := by rw [hσ2]; exact ht1
  refine lv_iconst (v := 0) hx hb dX9_no_5 (by decide) ?_
  exact p_zret X hlk hP hL (Nat.le_refl _) (Nat.le_refl _) hr nr_0 dX9_no_6 hf
set_option maxHeartbeats 4000000 in
theorem metX9_no (l : Launch) (G : GG_) (x0 : Nat) (x1 : Int32) (σ : Hp) (post : Int32 → Hp → Prop) (hG : GOK_ G) (hf : wX9_no x0 x1 σ post) : Met l yX9_no (ws_ yX9_no cX9_no 2 (some Jvm.ClassFile.FieldType.boolean)) { frames := 1, cells := 0, slots := 0, locals := 20 } (PC_ G [rv_ x0, .int x1] σ) (QI_ G post) 0 0 (FR_ G) := by
  refine Met.ofW (cc := cX9_no) (maxL := 2) (ret := (some Jvm.ClassFile.FieldType.boolean)) (by decide) rfl ?_
  intro p e s m args below meth c s₁ B hml hv
  obtain ⟨rfl, hP, hW⟩ := hv
  have hts := atoms_spec (ws := ws_ yX9_no cX9_no 2 (some Jvm.ClassFile.FieldType.boolean)) B.pre
  have hts : ∀ w ∈ lw_all, w.before _ s = true := fun w h => hts w (List.mem_cons_of_mem _ h)
  rw [lg_entry_eq]
  have hl := en_entry [rv_ x0, .int x1] [1, 1] (n := 2) (ca_r (ca_i ca_n)) (by decide)
  exact sX9_no ⟨⟨⟨B.exec, B.bytes, hml, findClass_of_methodNamed B.named, hts⟩, hW, hG⟩, B.notSynchronized, B.returns, Nat.le_refl _, Nat.le_refl _, ⟨rfl, rfl⟩, (name_of_methodNamed B.named B.method).1⟩ hf _ _ _ _ _ hP (LO_nil G) ⟨rfl, rfl⟩ hl
abbrev cX9_begins : ByteArray := prog_11_method_52_code
def yX9_begins : MethodName := ⟨RX9, "begins", "(II)Z"⟩
theorem dX9_begins_0 : decode cX9_begins 0 = .ok (.sipush 2048, 3) := by decide +kernel
theorem dX9_begins_3 : decode cX9_begins 3 = .ok (.iload_n 1, 1) := by decide +kernel
theorem dX9_begins_4 : decode cX9_begins 4 = .ok (.imul, 1) := by decide +kernel
theorem dX9_begins_5 : decode cX9_begins 5 = .ok (.istore_n 3, 1) := by decide +kernel
theorem dX9_begins_6 : decode cX9_begins 6 = .ok (.aload_n 0, 1) := by decide +kernel
theorem dX9_begins_7 : decode cX9_begins 7 = .ok (.iload_n 3, 1) := by decide +kernel
theorem dX9_begins_8 : decode cX9_begins 8 = .ok (.invokevirtual 225, 3) := by decide +kernel
theorem dX9_begins_11 : decode cX9_begins 11 = .ok (.iload_n 2, 1) := by decide +kernel
theorem dX9_begins_12 : decode cX9_begins 12 = .ok (.if_icmp .ne 79, 3) := by decide +kernel
theorem dX9_begins_15 : decode cX9_begins 15 = .ok (.aload_n 0, 1) := by decide +kernel
theorem dX9_begins_16 : decode cX9_begins 16 = .ok (.iload_n 3, 1) := by decide +kernel
theorem dX9_begins_17 : decode cX9_begins 17 = .ok (.iconst 1, 1) := by decide +kernel
theorem dX9_begins_18 : decode cX9_begins 18 = .ok (.iadd, 1) := by decide +kernel
theorem dX9_begins_19 : decode cX9_begins 19 = .ok (.invokevirtual 225, 3) := by decide +kernel
theorem dX9_begins_22 : decode cX9_begins 22 = .ok (.bipush 67, 2) := by decide +kernel
theorem dX9_begins_24 : decode cX9_begins 24 = .ok (.if_icmp .ne 67, 3) := by decide +kernel
theorem dX9_begins_27 : decode cX9_begins 27 = .ok (.aload_n 0, 1) := by decide +kernel
theorem dX9_begins_28 : decode cX9_begins 28 = .ok (.iload_n 3, 1) := by decide +kernel
theorem dX9_begins_29 : decode cX9_begins 29 = .ok (.iconst 2, 1) := by decide +kernel
theorem dX9_begins_30 : decode cX9_begins 30 = .ok (.iadd, 1) := by decide +kernel
theorem dX9_begins_31 : decode cX9_begins 31 = .ok (.invokevirtual 225, 3) := by decide +kernel
theorem dX9_begins_34 : decode cX9_begins 34 = .ok (.bipush 68, 2) := by decide +kernel
theorem dX9_begins_36 : decode cX9_begins 36 = .ok (.if_icmp .ne 55, 3) := by decide +kernel
theorem dX9_begins_39 : decode cX9_begins 39 = .ok (.aload_n 0, 1) := by decide +kernel
theorem dX9_begins_40 : decode cX9_begins 40 = .ok (.iload_n 3, 1) := by decide +kernel
theorem dX9_begins_41 : decode cX9_begins 41 = .ok (.iconst 3, 1) := by decide +kernel
theorem dX9_begins_42 : decode cX9_begins 42 = .ok (.iadd, 1) := by decide +kernel
theorem dX9_begins_43 : decode cX9_begins 43 = .ok (.invokevirtual 225, 3) := by decide +kernel
theorem dX9_begins_46 : decode cX9_begins 46 = .ok (.bipush 48, 2) := by decide +kernel
theorem dX9_begins_48 : decode cX9_begins 48 = .ok (.if_icmp .ne 43, 3) := by decide +kernel
theorem dX9_begins_51 : decode cX9_begins 51 = .ok (.aload_n 0, 1) := by decide +kernel
theorem dX9_begins_52 : decode cX9_begins 52 = .ok (.iload_n 3, 1) := by decide +kernel
theorem dX9_begins_53 : decode cX9_begins 53 = .ok (.iconst 4, 1) := by decide +kernel
theorem dX9_begins_54 : decode cX9_begins 54 = .ok (.iadd, 1) := by decide +kernel
theorem dX9_begins_55 : decode cX9_begins 55 = .ok (.invokevirtual 225, 3) := by decide +kernel
theorem dX9_begins_58 : decode cX9_begins 58 = .ok (.bipush 48, 2) := by decide +kernel
theorem dX9_begins_60 : decode cX9_begins 60 = .ok (.if_icmp .ne 31, 3) := by decide +kernel
theorem dX9_begins_63 : decode cX9_begins 63 = .ok (.aload_n 0, 1) := by decide +kernel
theorem dX9_begins_64 : decode cX9_begins 64 = .ok (.iload_n 3, 1) := by decide +kernel
theorem dX9_begins_65 : decode cX9_begins 65 = .ok (.iconst 5, 1) := by decide +kernel
theorem dX9_begins_66 : decode cX9_begins 66 = .ok (.iadd, 1) := by decide +kernel
theorem dX9_begins_67 : decode cX9_begins 67 = .ok (.invokevirtual 225, 3) := by decide +kernel
theorem dX9_begins_70 : decode cX9_begins 70 = .ok (.bipush 49, 2) := by decide +kernel
theorem dX9_begins_72 : decode cX9_begins 72 = .ok (.if_icmp .ne 19, 3) := by decide +kernel
theorem dX9_begins_75 : decode cX9_begins 75 = .ok (.aload_n 0, 1) := by decide +kernel
theorem dX9_begins_76 : decode cX9_begins 76 = .ok (.iload_n 3, 1) := by decide +kernel
theorem dX9_begins_77 : decode cX9_begins 77 = .ok (.bipush 6, 2) := by decide +kernel
theorem dX9_begins_79 : decode cX9_begins 79 = .ok (.iadd, 1) := by decide +kernel
theorem dX9_begins_80 : decode cX9_begins 80 = .ok (.invokevirtual 225, 3) := by decide +kernel
theorem dX9_begins_83 : decode cX9_begins 83 = .ok (.iconst 1, 1) := by decide +kernel
theorem dX9_begins_84 : decode cX9_begins 84 = .ok (.if_icmp .ne 7, 3) := by decide +kernel
theorem dX9_begins_87 : decode cX9_begins 87 = .ok (.iconst 1, 1) := by decide +kernel
theorem dX9_begins_88 : decode cX9_begins 88 = .ok (.goto 4, 3) := by decide +kernel
theorem dX9_begins_91 : decode cX9_begins 91 = .ok (.iconst 0, 1) := by decide +kernel
theorem dX9_begins_92 : decode cX9_begins 92 = .ok (.ireturn, 1) := by decide +kernel
/-- WriteOnceDiscModel.begins(II)Z -/
def wX9_begins (x0 : Nat) (x1 : Int32) (x2 : Int32) (σ : Hp) (post : Int32 → Prop) : Prop :=
(∀ y1 : Int32, y1 = ((2048 : Int32) * x1) → (tg_ σ x0 = 9 ∧ (wX9_get x0 y1 σ (fun r3 => ((¬ r3 = x2 →
  post (0 : Int32)) ∧
 (r3 = x2 →
  (wX9_get x0 (y1 + (1 : Int32)) σ (fun r5 => ((¬ r5 = (67 : Int32) →
   post (0 : Int32)) ∧
  (r5 = (67 : Int32) →
   (wX9_get x0 (y1 + (2 : Int32)) σ (fun r7 => ((¬ r7 = (68 : Int32) →
    post (0 : Int32)) ∧
   (r7 = (68 : Int32) →
    (wX9_get x0 (y1 + (3 : Int32)) σ (fun r9 => ((¬ r9 = (48 : Int32) →
     post (0 : Int32)) ∧
    (r9 = (48 : Int32) →
     (wX9_get x0 (y1 + (4 : Int32)) σ (fun r11 => ((¬ r11 = (48 : Int32) →
      post (0 : Int32)) ∧
     (r11 = (48 : Int32) →
      (wX9_get x0 (y1 + (5 : Int32)) σ (fun r13 => ((¬ r13 = (49 : Int32) →
       post (0 : Int32)) ∧
      (r13 = (49 : Int32) →
       (wX9_get x0 (y1 + (6 : Int32)) σ (fun r15 => ((¬ r15 = (1 : Int32) →
        post (0 : Int32)) ∧
       (r15 = (1 : Int32) →
        post (1 : Int32)))))))))))))))))))))))))))))))
set_option maxHeartbeats 4000000 in
theorem sX9_begins {G : GG_} {p : Program} {l : Launch} {e : Env} {R : Room} {s : State} {m : MethodId} {args : Array Value} {below : List Frame} {meth : Method} {c : Code} (Y : MX_ G p R s m args meth c cX9_begins 4 RX9 (some Jvm.ClassFile.FieldType.boolean) 2 41 0 0 "begins") {post : Int32 → Prop} {x0 : Nat} {x1 : Int32} {x2 : Int32} {σ : Hp} (hf : wX9_begins x0 x1 x2 σ post) : WG_ G p l e R s m args below meth c (MQ below (QI_ G (fun r τ => τ = σ ∧ post r)) args s 0 0 (FR_ G)) BN_ 4 0 [(0, rv_ x0), (1, .int x1), (2, .int x2)] [] σ := by
  have ⟨X, hlk, hr, hRf, hRl, hRc, hnm⟩ := Y
  have ⟨⟨hx, hb, _, hown, hts⟩, _, _⟩ := X
  intro H locs cells slots ls hP hL hB hl
  obtain ⟨rfl, rfl⟩ := hB
  unfold wX9_begins at hf
  refine lv_sipush (v := 2048) hx hb dX9_begins_0 (by decide) ?_
  refine lv_iload_n hx hb dX9_begins_3 rfl (lv_at hl 1 rfl) ?_
  refine lv_imul hx hb dX9_begins_4 ?_
  have hl := lv_sub hl [0, 2] rfl
  refine lv_topi (fun y1 hy1 => ?_)
  have hf := hf y1 hy1
  refine p_istore_n (i := 3) hx hb dX9_begins_5 rfl hl (by decide) ⟨⟨ne_ rfl, Or.inl (ne_ rfl)⟩, ⟨⟨ne_ rfl, Or.inr rfl⟩, trivial⟩⟩ (fun ls hl => ?_)
  refine p_aload_n hx hb dX9_begins_6 rfl (lv_at hl 1 rfl) ?_
  refine lv_iload_n hx hb dX9_begins_7 rfl (lv_at hl 0 rfl) ?_
  obtain ⟨ht2, hf⟩ := hf
  refine p_calli hL (p_runV X cf8_ hP ht2 (metX9_get l G _ _ _ _ X.2.2 hf) (cwV 1 hts (lw_V q1508 q1510 qs52 q106 q1511) rfl rfl rfl (by decide +kernel) ⟨Nat.le_trans (Nat.le_of_ble_eq_true rfl) hRf, Nat.le_trans (Nat.le_of_ble_eq_true rfl) hRl⟩) rfl hl.1 rfl (by decide) dX9_begins_8 ⟨Nat.zero_le _, Nat.zero_le _⟩) (fun r3 σ₁ H locs hf hP hL => ?_)
  obtain ⟨e₁, hf⟩ := hf
  rw [e₁] at hP
  refine lv_iload_n hx hb dX9_begins_11 rfl (lv_at hl 2 rfl) ?_
  refine lv_icmp_ne (tgt := 91) hx hb dX9_begins_12 (by decide) (fun c4 => ?_) (fun c4 => ?_)
  · have hf := hf.1 c4
    refine lv_iconst (v := 0) hx hb dX9_begins_91 (by decide) ?_
    exact p_zret X hlk hP hL (Nat.le_refl _) (Nat.le_refl _) hr nr_0 dX9_begins_92 ⟨rfl, hf⟩
  · have hf := hf.2 c4
    refine p_aload_n hx hb dX9_begins_15 rfl (lv_at hl 1 rfl) ?_
    refine lv_iload_n hx hb dX9_begins_16 rfl (lv_at hl 0 rfl) ?_
    refine lv_iconst (v := 1) hx hb dX9_begins_17 (by decide) ?_
    refine lv_iadd hx hb dX9_begins_18 ?_
    refine p_calli hL (p_runV X cf8_ hP ht2 (metX9_get l G _ _ _ _ X.2.2 hf) (cwV 1 hts (lw_V q1508 q1510 qs52 q106 q1511) rfl rfl rfl (by decide +kernel) ⟨Nat.le_trans (Nat.le_of_ble_eq_true rfl) hRf, Nat.le_trans (Nat.le_of_ble_eq_true rfl) hRl⟩) rfl hl.1 rfl (by decide) dX9_begins_19 ⟨Nat.zero_le _, Nat.zero_le _⟩) (fun r5 σ₁ H locs hf hP hL => ?_)
    obtain ⟨e₁, hf⟩ := hf
    rw [e₁] at hP
    refine lv_bipush (v := 67) hx hb dX9_begins_22 (by decide) ?_
    refine lv_icmp_ne (tgt := 91) hx hb dX9_begins_24 (by decide) (fun c6 => ?_) (fun c6 => ?_)
    · have hf := hf.1 c6
      refine lv_iconst (v := 0) hx hb dX9_begins_91 (by decide) ?_
      exact p_zret X hlk hP hL (Nat.le_refl _) (Nat.le_refl _) hr nr_0 dX9_begins_92 ⟨rfl, hf⟩
    · have hf := hf.2 c6
      refine p_aload_n hx hb dX9_begins_27 rfl (lv_at hl 1 rfl) ?_
      refine lv_iload_n hx hb dX9_begins_28 rfl (lv_at hl 0 rfl) ?_
      refine lv_iconst (v := 2) hx hb dX9_begins_29 (by decide) ?_
      refine lv_iadd hx hb dX9_begins_30 ?_
      refine p_calli hL (p_runV X cf8_ hP ht2 (metX9_get l G _ _ _ _ X.2.2 hf) (cwV 1 hts (lw_V q1508 q1510 qs52 q106 q1511) rfl rfl rfl (by decide +kernel) ⟨Nat.le_trans (Nat.le_of_ble_eq_true rfl) hRf, Nat.le_trans (Nat.le_of_ble_eq_true rfl) hRl⟩) rfl hl.1 rfl (by decide) dX9_begins_31 ⟨Nat.zero_le _, Nat.zero_le _⟩) (fun r7 σ₁ H locs hf hP hL => ?_)
      obtain ⟨e₁, hf⟩ := hf
      rw [e₁] at hP
      refine lv_bipush (v := 68) hx hb dX9_begins_34 (by decide) ?_
      refine lv_icmp_ne (tgt := 91) hx hb dX9_begins_36 (by decide) (fun c8 => ?_) (fun c8 => ?_)
      · have hf := hf.1 c8
        refine lv_iconst (v := 0) hx hb dX9_begins_91 (by decide) ?_
        exact p_zret X hlk hP hL (Nat.le_refl _) (Nat.le_refl _) hr nr_0 dX9_begins_92 ⟨rfl, hf⟩
      · have hf := hf.2 c8
        refine p_aload_n hx hb dX9_begins_39 rfl (lv_at hl 1 rfl) ?_
        refine lv_iload_n hx hb dX9_begins_40 rfl (lv_at hl 0 rfl) ?_
        refine lv_iconst (v := 3) hx hb dX9_begins_41 (by decide) ?_
        refine lv_iadd hx hb dX9_begins_42 ?_
        refine p_calli hL (p_runV X cf8_ hP ht2 (metX9_get l G _ _ _ _ X.2.2 hf) (cwV 1 hts (lw_V q1508 q1510 qs52 q106 q1511) rfl rfl rfl (by decide +kernel) ⟨Nat.le_trans (Nat.le_of_ble_eq_true rfl) hRf, Nat.le_trans (Nat.le_of_ble_eq_true rfl) hRl⟩) rfl hl.1 rfl (by decide) dX9_begins_43 ⟨Nat.zero_le _, Nat.zero_le _⟩) (fun r9 σ₁ H locs hf hP hL => ?_)
        obtain ⟨e₁, hf⟩ := hf
        rw [e₁] at hP
        refine lv_bipush (v := 48) hx hb dX9_begins_46 (by decide) ?_
        refine lv_icmp_ne (tgt := 91) hx hb dX9_begins_48 (by decide) (fun c10 => ?_) (fun c10 => ?_)
        · have hf := hf.1 c10
          refine lv_iconst (v := 0) hx hb dX9_begins_91 (by decide) ?_
          exact p_zret X hlk hP hL (Nat.le_refl _) (Nat.le_refl _) hr nr_0 dX9_begins_92 ⟨rfl, hf⟩
        · have hf := hf.2 c10
          refine p_aload_n hx hb dX9_begins_51 rfl (lv_at hl 1 rfl) ?_
          refine lv_iload_n hx hb dX9_begins_52 rfl (lv_at hl 0 rfl) ?_
          refine lv_iconst (v := 4) hx hb dX9_begins_53 (by decide) ?_
          refine lv_iadd hx hb dX9_begins_54 ?_
          refine p_calli hL (p_runV X cf8_ hP ht2 (metX9_get l G _ _ _ _ X.2.2 hf) (cwV 1 hts (lw_V q1508 q1510 qs52 q106 q1511) rfl rfl rfl (by decide +kernel) ⟨Nat.le_trans (Nat.le_of_ble_eq_true rfl) hRf, Nat.le_trans (Nat.le_of_ble_eq_true rfl) hRl⟩) rfl hl.1 rfl (by decide) dX9_begins_55 ⟨Nat.zero_le _, Nat.zero_le _⟩) (fun r11 σ₁ H locs hf hP hL => ?_)
          obtain ⟨e₁, hf⟩ := hf
          rw [e₁] at hP
          refine lv_bipush (v := 48) hx hb dX9_begins_58 (by decide) ?_
          refine lv_icmp_ne (tgt := 91) hx hb dX9_begins_60 (by decide) (fun c12 => ?_) (fun c12 => ?_)
          · have hf := hf.1 c12
            refine lv_iconst (v := 0) hx hb dX9_begins_91 (by decide) ?_
            exact p_zret X hlk hP hL (Nat.le_refl _) (Nat.le_refl _) hr nr_0 dX9_begins_92 ⟨rfl, hf⟩
          · have hf := hf.2 c12
            refine p_aload_n hx hb dX9_begins_63 rfl (lv_at hl 1 rfl) ?_
            refine lv_iload_n hx hb dX9_begins_64 rfl (lv_at hl 0 rfl) ?_
            refine lv_iconst (v := 5) hx hb dX9_begins_65 (by decide) ?_
            refine lv_iadd hx hb dX9_begins_66 ?_
            refine p_calli hL (p_runV X cf8_ hP ht2 (metX9_get l G _ _ _ _ X.2.2 hf) (cwV 1 hts (lw_V q1508 q1510 qs52 q106 q1511) rfl rfl rfl (by decide +kernel) ⟨Nat.le_trans (Nat.le_of_ble_eq_true rfl) hRf, Nat.le_trans (Nat.le_of_ble_eq_true rfl) hRl⟩) rfl hl.1 rfl (by decide) dX9_begins_67 ⟨Nat.zero_le _, Nat.zero_le _⟩) (fun r13 σ₁ H locs hf hP hL => ?_)
            obtain ⟨e₁, hf⟩ := hf
            rw [e₁] at hP
            refine lv_bipush (v := 49) hx hb dX9_begins_70 (by decide) ?_
            refine lv_icmp_ne (tgt := 91) hx hb dX9_begins_72 (by decide) (fun c14 => ?_) (fun c14 => ?_)
            · have hf := hf.1 c14
              refine lv_iconst (v := 0) hx hb dX9_begins_91 (by decide) ?_
              exact p_zret X hlk hP hL (Nat.le_refl _) (Nat.le_refl _) hr nr_0 dX9_begins_92 ⟨rfl, hf⟩
            · have hf := hf.2 c14
              refine p_aload_n hx hb dX9_begins_75 rfl (lv_at hl 1 rfl) ?_
              refine lv_iload_n hx hb dX9_begins_76 rfl (lv_at hl 0 rfl) ?_
              refine lv_bipush (v := 6) hx hb dX9_begins_77 (by decide) ?_
              refine lv_iadd hx hb dX9_begins_79 ?_
              refine p_calli hL (p_runV X cf8_ hP ht2 (metX9_get l G _ _ _ _ X.2.2 hf) (cwV 1 hts (lw_V q1508 q1510 qs52 q106 q1511) rfl rfl rfl (by decide +kernel) ⟨Nat.le_trans (Nat.le_of_ble_eq_true rfl) hRf, Nat.le_trans (Nat.le_of_ble_eq_true rfl) hRl⟩) rfl hl.1 rfl (by decide) dX9_begins_80 ⟨Nat.zero_le _, Nat.zero_le _⟩) (fun r15 σ₁ H locs hf hP hL => ?_)
              obtain ⟨e₁, hf⟩ := hf
              rw [e₁] at hP
              refine lv_iconst (v := 1) hx hb dX9_begins_83 (by decide) ?_
              refine lv_icmp_ne (tgt := 91) hx hb dX9_begins_84 (by decide) (fun c16 => ?_) (fun c16 => ?_)
              · have hf := hf.1 c16
                refine lv_iconst (v := 0) hx hb dX9_begins_91 (by decide) ?_
                exact p_zret X hlk hP hL (Nat.le_refl _) (Nat.le_refl _) hr nr_0 dX9_begins_92 ⟨rfl, hf⟩
              · have hf := hf.2 c16
                refine lv_iconst (v := 1) hx hb dX9_begins_87 (by decide) ?_
                refine lv_goto (tgt := 92) hx hb dX9_begins_88 (by decide) ?_
                exact p_zret X hlk hP hL (Nat.le_refl _) (Nat.le_refl _) hr nr_1 dX9_begins_92 ⟨rfl, hf⟩
set_option maxHeartbeats 4000000 in
theorem metX9_begins (l : Launch) (G : GG_) (x0 : Nat) (x1 : Int32) (x2 : Int32) (σ : Hp) (post : Int32 → Prop) (hG : GOK_ G) (hf : wX9_begins x0 x1 x2 σ post) : Met l yX9_begins (ws_ yX9_begins cX9_begins 4 (some Jvm.ClassFile.FieldType.boolean)) { frames := 2, cells := 0, slots := 0, locals := 41 } (PC_ G [rv_ x0, .int x1, .int x2] σ) (QI_ G (fun r τ => τ = σ ∧ post r)) 0 0 (FR_ G) := by
  refine Met.ofW (cc := cX9_begins) (maxL := 4) (ret := (some Jvm.ClassFile.FieldType.boolean)) (by decide) rfl ?_
  intro p e s m args below meth c s₁ B hml hv
  obtain ⟨rfl, hP, hW⟩ := hv
  have hts := atoms_spec (ws := ws_ yX9_begins cX9_begins 4 (some Jvm.ClassFile.FieldType.boolean)) B.pre
  have hts : ∀ w ∈ lw_all, w.before _ s = true := fun w h => hts w (List.mem_cons_of_mem _ h)
  rw [lg_entry_eq]
  have hl := en_entry [rv_ x0, .int x1, .int x2] [1, 1, 1] (n := 4) (ca_r (ca_i (ca_i ca_n))) (by decide)
  exact sX9_begins ⟨⟨⟨B.exec, B.bytes, hml, findClass_of_methodNamed B.named, hts⟩, hW, hG⟩, B.notSynchronized, B.returns, Nat.le_refl _, Nat.le_refl _, ⟨rfl, rfl⟩, (name_of_methodNamed B.named B.method).1⟩ hf _ _ _ _ _ hP (LO_nil G) ⟨rfl, rfl⟩ hl
abbrev cX9_highAt : ByteArray := prog_11_method_50_code
def yX9_highAt : MethodName := ⟨RX9, "highAt", "(II)I"⟩
theorem dX9_highAt_0 : decode cX9_highAt 0 = .ok (.iconst 0, 1) := by decide +kernel
theorem dX9_highAt_1 : decode cX9_highAt 1 = .ok (.istore_n 3, 1) := by decide +kernel
theorem dX9_highAt_2 : decode cX9_highAt 2 = .ok (.iconst 0, 1) := by decide +kernel
theorem dX9_highAt_3 : decode cX9_highAt 3 = .ok (.istore 4, 2) := by decide +kernel
theorem dX9_highAt_5 : decode cX9_highAt 5 = .ok (.iload 4, 2) := by decide +kernel
theorem dX9_highAt_7 : decode cX9_highAt 7 = .ok (.iload_n 2, 1) := by decide +kernel
theorem dX9_highAt_8 : decode cX9_highAt 8 = .ok (.if_icmp .ge 23, 3) := by decide +kernel
theorem dX9_highAt_11 : decode cX9_highAt 11 = .ok (.iload_n 3, 1) := by decide +kernel
theorem dX9_highAt_12 : decode cX9_highAt 12 = .ok (.bipush 8, 2) := by decide +kernel
theorem dX9_highAt_14 : decode cX9_highAt 14 = .ok (.ishl, 1) := by decide +kernel
theorem dX9_highAt_15 : decode cX9_highAt 15 = .ok (.aload_n 0, 1) := by decide +kernel
theorem dX9_highAt_16 : decode cX9_highAt 16 = .ok (.iload_n 1, 1) := by decide +kernel
theorem dX9_highAt_17 : decode cX9_highAt 17 = .ok (.iload 4, 2) := by decide +kernel
theorem dX9_highAt_19 : decode cX9_highAt 19 = .ok (.iadd, 1) := by decide +kernel
theorem dX9_highAt_20 : decode cX9_highAt 20 = .ok (.invokevirtual 225, 3) := by decide +kernel
theorem dX9_highAt_23 : decode cX9_highAt 23 = .ok (.ior, 1) := by decide +kernel
theorem dX9_highAt_24 : decode cX9_highAt 24 = .ok (.istore_n 3, 1) := by decide +kernel
theorem dX9_highAt_25 : decode cX9_highAt 25 = .ok (.iinc 4 1, 3) := by decide +kernel
theorem dX9_highAt_28 : decode cX9_highAt 28 = .ok (.goto (-23), 3) := by decide +kernel
theorem dX9_highAt_31 : decode cX9_highAt 31 = .ok (.iload_n 3, 1) := by decide +kernel
theorem dX9_highAt_32 : decode cX9_highAt 32 = .ok (.ireturn, 1) := by decide +kernel
/-- WriteOnceDiscModel.highAt(II)I -/
def wX9_highAt_B5 (post : Int32 → Prop) (rc5 : Int32 → Int32 → Prop) (x0 : Nat) (x1 : Int32) (x2 : Int32) (x3 : Int32) (x4 : Int32) (σ : Hp) : Prop :=
((x2 ≤ x4 →
  post x3) ∧
 (¬ x2 ≤ x4 →
  (tg_ σ x0 = 9 ∧ (wX9_get x0 (x1 + x4) σ (fun r3 => (∀ y4 : Int32, y4 = ((x3 <<< ((8 : Int32) &&& 31)) ||| r3) → (∀ y5 : Int32, y5 = x4 + 1 → rc5 y4 y5)))))))
def wX9_highAt_L5 (post : Int32 → Prop) (x0 : Nat) (x1 : Int32) (x2 : Int32) (x3 : Int32) (x4 : Int32) (σ : Hp) : Prop :=
 ∃ (I : Int32 → Int32 → Prop) (μ : Int32 → Int32 → Nat), I x3 x4 ∧ ∀ (x3 : Int32) (x4 : Int32), I x3 x4 → wX9_highAt_B5 post (fun x3' x4' => I x3' x4' ∧ μ x3' x4' < μ x3 x4) x0 x1 x2 x3 x4 σ
def wX9_highAt (x0 : Nat) (x1 : Int32) (x2 : Int32) (σ : Hp) (post : Int32 → Prop) : Prop :=
wX9_highAt_L5 post x0 x1 x2 (0 : Int32) (0 : Int32) σ
set_option maxHeartbeats 4000000 in
theorem sX9_highAt_B5 {G : GG_} {p : Program} {l : Launch} {e : Env} {R : Room} {s : State} {m : MethodId} {args : Array Value} {below : List Frame} {meth : Method} {c : Code} (Y : MX_ G p R s m args meth c cX9_highAt 5 RX9 (some Jvm.ClassFile.FieldType.int) 2 41 0 0 "highAt") {post : Int32 → Prop} {rc5 : Int32 → Int32 → Prop} {x0 : Nat} {x1 : Int32} {x2 : Int32} {x3 : Int32} {x4 : Int32} {σ : Hp} (hrc5 : ∀ (x3 : Int32) (x4 : Int32), rc5 x3 x4 → WG_ G p l e R s m args below meth c (MQ below (QI_ G (fun r τ => τ = σ ∧ post r)) args s 0 0 (FR_ G)) BN_ 5 5 [(0, rv_ x0), (1, .int x1), (2, .int x2), (3, .int x3), (4, .int x4)] [] σ) (hf : wX9_highAt_B5 post rc5 x0 x1 x2 x3 x4 σ) : WG_ G p l e R s m args below meth c (MQ below (QI_ G (fun r τ => τ = σ ∧ post r)) args s 0 0 (FR_ G)) BN_ 5 5 [(0, rv_ x0), (1, .int x1), (2, .int x2), (3, .int x3), (4, .int x4)] [] σ := by
  have ⟨X, hlk, hr, hRf, hRl, hRc, hnm⟩ := Y
  have ⟨⟨hx, hb, _, hown, hts⟩, _, _⟩ := X
  intro H locs cells slots ls hP hL hB hl
  obtain ⟨rfl, rfl⟩ := hB
  unfold wX9_highAt_B5 at hf
  refine lv_iload hx hb dX9_highAt_5 (lv_at hl 4 rfl) ?_
  refine lv_iload_n hx hb dX9_highAt_7 rfl (lv_at hl 2 rfl) ?_
  refine lv_icmp_ge (tgt := 31) hx hb dX9_highAt_8 (by decide) (fun c1 => ?_) (fun c1 => ?_)
  · have hf := hf.1 c1
    refine lv_iload_n hx hb dX9_highAt_31 rfl (lv_at hl 3 rfl) ?_
    exact p_iret X hlk hP hL (Nat.le_refl _) (Nat.le_refl _) hr dX9_highAt_32 ⟨rfl, hf⟩
  · have hf := hf.2 c1
    refine lv_iload_n hx hb dX9_highAt_11 rfl (lv_at hl 3 rfl) ?_
    refine lv_bipush (v := 8) hx hb dX9_highAt_12 (by decide) ?_
    refine lv_ishl hx hb dX9_highAt_14 ?_
    refine p_aload_n hx hb dX9_highAt_15 rfl (lv_at hl 0 rfl) ?_
    refine lv_iload_n hx hb dX9_highAt_16 rfl (lv_at hl 1 rfl) ?_
    refine lv_iload hx hb dX9_highAt_17 (lv_at hl 4 rfl) ?_
    refine lv_iadd hx hb dX9_highAt_19 ?_
    obtain ⟨ht2, hf⟩ := hf
    refine p_calli hL (p_runV X cf8_ hP ht2 (metX9_get l G _ _ _ _ X.2.2 hf) (cwV 1 hts (lw_V q1508 q1510 qs52 q106 q1511) rfl rfl rfl (by decide +kernel) ⟨Nat.le_trans (Nat.le_of_ble_eq_true rfl) hRf, Nat.le_trans (Nat.le_of_ble_eq_true rfl) hRl⟩) rfl hl.1 rfl (by rw [(ca_i ca_n)]; decide) dX9_highAt_20 ⟨Nat.zero_le _, Nat.zero_le _⟩) (fun r3 σ₁ H locs hf hP hL => ?_)
    obtain ⟨e₁, hf⟩ := hf
    rw [e₁] at hP
    refine lv_ior hx hb dX9_highAt_23 ?_
    have hl := lv_sub hl [0, 1, 2, 4] rfl
    refine lv_topi (fun y4 hy4 => ?_)
    have hf := hf y4 hy4
    refine p_istore_n (i := 3) hx hb dX9_highAt_24 rfl hl (by decide) ⟨⟨ne_ rfl, Or.inl (ne_ rfl)⟩, ⟨⟨ne_ rfl, Or.inl (ne_ rfl)⟩, ⟨⟨ne_ rfl, Or.inr rfl⟩, ⟨⟨ne_ rfl, Or.inl (ne_ rfl)⟩, trivial⟩⟩⟩⟩ (fun ls hl => ?_)
    have hl := lv_sub hl [4, 0, 1, 2, 3] rfl
    refine p_iincc (i := 4) (k := 1) hx hb (by decide) dX9_highAt_25 hl (by decide) ⟨⟨ne_ rfl, Or.inr rfl⟩, ⟨⟨ne_ rfl, Or.inl (ne_ rfl)⟩, ⟨⟨ne_ rfl, Or.inl (ne_ rfl)⟩, ⟨⟨ne_ rfl, Or.inl (ne_ rfl)⟩, trivial⟩⟩⟩⟩ (fun y5 hy5 ls hl => ?_)
    have hf := hf y5 hy5
    refine lv_goto (tgt := 5) hx hb dX9_highAt_28 (by decide) ?_
    exact hrc5 _ _ hf _ _ _ _ _ hP hL ⟨rfl, rfl⟩ (lv_sub hl [2, 3, 4, 1, 0] rfl)
set_option maxHeartbeats 4000000 in
theorem sX9_highAt_L5 {G : GG_} {p : Program} {l : Launch} {e : Env} {R : Room} {s : State} {m : MethodId} {args : Array Value} {below : List Frame} {meth : Method} {c : Code} (Y : MX_ G p R s m args meth c cX9_highAt 5 RX9 (some Jvm.ClassFile.FieldType.int) 2 41 0 0 "highAt") {post : Int32 → Prop} {x0 : Nat} {x1 : Int32} {x2 : Int32} {x3 : Int32} {x4 : Int32} {σ : Hp} (hf : wX9_highAt_L5 post x0 x1 x2 x3 x4 σ) : WG_ G p l e R s m args below meth c (MQ below (QI_ G (fun r τ => τ = σ ∧ post r)) args s 0 0 (FR_ G)) BN_ 5 5 [(0, rv_ x0), (1, .int x1), (2, .int x2), (3, .int x3), (4, .int x4)] [] σ := by
  unfold wX9_highAt_L5 at hf
  obtain ⟨I, μ, h0, hI⟩ := hf
  have key : ∀ (n : Nat) (x3 : Int32) (x4 : Int32), I x3 x4 → μ x3 x4 < n → WG_ G p l e R s m args below meth c (MQ below (QI_ G (fun r τ => τ = σ ∧ post r)) args s 0 0 (FR_ G)) BN_ 5 5 [(0, rv_ x0), (1, .int x1), (2, .int x2), (3, .int x3), (4, .int x4)] [] σ := by
    intro n
    induction n with
    | zero => intro x3 x4 _ h; exact absurd h (Nat.not_lt_zero _)
    | succ n ih => intro x3 x4 hi hn; exact sX9_highAt_B5 Y (fun x3' x4' h => ih x3' x4' h.1 (Nat.lt_of_lt_of_le h.2 (Nat.le_of_lt_succ hn))) (hI x3 x4 hi)
  exact key _ _ _ h0 (Nat.lt_succ_self _)
set_option maxHeartbeats 4000000 in
theorem sX9_highAt {G : GG_} {p : Program} {l : Launch} {e : Env} {R : Room} {s : State} {m : MethodId} {args : Array Value} {below : List Frame} {meth : Method} {c : Code} (Y : MX_ G p R s m args meth c cX9_highAt 5 RX9 (some Jvm.ClassFile.FieldType.int) 2 41 0 0 "highAt") {post : Int32 → Prop} {x0 : Nat} {x1 : Int32} {x2 : Int32} {σ : Hp} (hf : wX9_highAt x0 x1 x2 σ post) : WG_ G p l e R s m args below meth c (MQ below (QI_ G (fun r τ => τ = σ ∧ post r)) args s 0 0 (FR_ G)) BN_ 5 0 [(0, rv_ x0), (1, .int x1), (2, .int x2)] [] σ := by
  have ⟨X, hlk, hr, hRf, hRl, hRc, hnm⟩ := Y
  have ⟨⟨hx, hb, _, hown, hts⟩, _, _⟩ := X
  intro H locs cells slots ls hP hL hB hl
  obtain ⟨rfl, rfl⟩ := hB
  unfold wX9_highAt at hf
  refine lv_iconst (v := 0) hx hb dX9_highAt_0 (by decide) ?_
  refine p_istore_n (i := 3) hx hb dX9_highAt_1 rfl hl (by decide) ⟨⟨ne_ rfl, Or.inl (ne_ rfl)⟩, ⟨⟨ne_ rfl, Or.inl (ne_ rfl)⟩, ⟨⟨ne_ rfl, Or.inr rfl⟩, trivial⟩⟩⟩ (fun ls hl => ?_)
  refine lv_iconst (v := 0) hx hb dX9_highAt_2 (by decide) ?_
  refine p_istore (i := 4) hx hb dX9_highAt_3 hl (by decide) ⟨⟨ne_ rfl, Or.inr rfl⟩, ⟨⟨ne_ rfl, Or.inl (ne_ rfl)⟩, ⟨⟨ne_ rfl, Or.inl (ne_ rfl)⟩, ⟨⟨ne_ rfl, Or.inl (ne_ rfl)⟩, trivial⟩⟩⟩⟩ (fun ls hl => ?_)
  exact sX9_highAt_L5 Y hf _ _ _ _ _ hP hL ⟨rfl, rfl⟩ (lv_sub hl [2, 3, 4, 1, 0] rfl)
set_option maxHeartbeats 4000000 in
theorem metX9_highAt (l : Launch) (G : GG_) (x0 : Nat) (x1 : Int32) (x2 : Int32) (σ : Hp) (post : Int32 → Prop) (hG : GOK_ G) (hf : wX9_highAt x0 x1 x2 σ post) : Met l yX9_highAt (ws_ yX9_highAt cX9_highAt 5 (some Jvm.ClassFile.FieldType.int)) { frames := 2, cells := 0, slots := 0, locals := 41 } (PC_ G [rv_ x0, .int x1, .int x2] σ) (QI_ G (fun r τ => τ = σ ∧ post r)) 0 0 (FR_ G) := by
  refine Met.ofW (cc := cX9_highAt) (maxL := 5) (ret := (some Jvm.ClassFile.FieldType.int)) (by decide) rfl ?_
  intro p e s m args below meth c s₁ B hml hv
  obtain ⟨rfl, hP, hW⟩ := hv
  have hts := atoms_spec (ws := ws_ yX9_highAt cX9_highAt 5 (some Jvm.ClassFile.FieldType.int)) B.pre
  have hts : ∀ w ∈ lw_all, w.before _ s = true := fun w h => hts w (List.mem_cons_of_mem _ h)
  rw [lg_entry_eq]
  have hl := en_entry [rv_ x0, .int x1, .int x2] [1, 1, 1] (n := 5) (ca_r (ca_i (ca_i ca_n))) (by decide)
  exact sX9_highAt ⟨⟨⟨B.exec, B.bytes, hml, findClass_of_methodNamed B.named, hts⟩, hW, hG⟩, B.notSynchronized, B.returns, Nat.le_refl _, Nat.le_refl _, ⟨rfl, rfl⟩, (name_of_methodNamed B.named B.method).1⟩ hf _ _ _ _ _ hP (LO_nil G) ⟨rfl, rfl⟩ hl
abbrev cX9_isName : ByteArray := prog_11_method_54_code
def yX9_isName : MethodName := ⟨RX9, "isName", "(II)Z"⟩
theorem dX9_isName_0 : decode cX9_isName 0 = .ok (.iload_n 2, 1) := by decide +kernel
theorem dX9_isName_1 : decode cX9_isName 1 = .ok (.iconst 1, 1) := by decide +kernel
theorem dX9_isName_2 : decode cX9_isName 2 = .ok (.bipush 8, 2) := by decide +kernel
theorem dX9_isName_4 : decode cX9_isName 4 = .ok (.invokestatic 118, 3) := by decide +kernel
theorem dX9_isName_7 : decode cX9_isName 7 = .ok (.istore_n 3, 1) := by decide +kernel
theorem dX9_isName_8 : decode cX9_isName 8 = .ok (.iconst 0, 1) := by decide +kernel
theorem dX9_isName_9 : decode cX9_isName 9 = .ok (.istore 4, 2) := by decide +kernel
theorem dX9_isName_11 : decode cX9_isName 11 = .ok (.iload 4, 2) := by decide +kernel
theorem dX9_isName_13 : decode cX9_isName 13 = .ok (.iload_n 2, 1) := by decide +kernel
theorem dX9_isName_14 : decode cX9_isName 14 = .ok (.if_icmp .ge 25, 3) := by decide +kernel
theorem dX9_isName_17 : decode cX9_isName 17 = .ok (.iload_n 3, 1) := by decide +kernel
theorem dX9_isName_18 : decode cX9_isName 18 = .ok (.ifCond .eq 21, 3) := by decide +kernel
theorem dX9_isName_21 : decode cX9_isName 21 = .ok (.aload_n 0, 1) := by decide +kernel
theorem dX9_isName_22 : decode cX9_isName 22 = .ok (.iload_n 1, 1) := by decide +kernel
theorem dX9_isName_23 : decode cX9_isName 23 = .ok (.iload 4, 2) := by decide +kernel
theorem dX9_isName_25 : decode cX9_isName 25 = .ok (.iadd, 1) := by decide +kernel
theorem dX9_isName_26 : decode cX9_isName 26 = .ok (.invokevirtual 225, 3) := by decide +kernel
theorem dX9_isName_29 : decode cX9_isName 29 = .ok (.invokestatic 131, 3) := by decide +kernel
theorem dX9_isName_32 : decode cX9_isName 32 = .ok (.istore_n 3, 1) := by decide +kernel
theorem dX9_isName_33 : decode cX9_isName 33 = .ok (.iinc 4 1, 3) := by decide +kernel
theorem dX9_isName_36 : decode cX9_isName 36 = .ok (.goto (-25), 3) := by decide +kernel
theorem dX9_isName_39 : decode cX9_isName 39 = .ok (.iload_n 3, 1) := by decide +kernel
theorem dX9_isName_40 : decode cX9_isName 40 = .ok (.ireturn, 1) := by decide +kernel
/-- WriteOnceDiscModel.isName(II)Z -/
def wX9_isName_B11 (post : Int32 → Prop) (rc11 : Int32 → Int32 → Prop) (x0 : Nat) (x1 : Int32) (x2 : Int32) (x3 : Int32) (x4 : Int32) (σ : Hp) : Prop :=
((x2 ≤ x4 →
  (nr_ .boolean x3 ∧ post x3)) ∧
 (¬ x2 ≤ x4 →
  ((x3 = 0 →
   (nr_ .boolean x3 ∧ post x3)) ∧
  (¬ x3 = 0 →
   (tg_ σ x0 = 9 ∧ (wX9_get x0 (x1 + x4) σ (fun r6 => (wX9_isLetter r6 σ (fun r7 => (∀ y8 : Int32, y8 = x4 + 1 → rc11 r7 y8))))))))))
def wX9_isName_L11 (post : Int32 → Prop) (x0 : Nat) (x1 : Int32) (x2 : Int32) (x3 : Int32) (x4 : Int32) (σ : Hp) : Prop :=
 ∃ (I : Int32 → Int32 → Prop) (μ : Int32 → Int32 → Nat), I x3 x4 ∧ ∀ (x3 : Int32) (x4 : Int32), I x3 x4 → wX9_isName_B11 post (fun x3' x4' => I x3' x4' ∧ μ x3' x4' < μ x3 x4) x0 x1 x2 x3 x4 σ
def wX9_isName (x0 : Nat) (x1 : Int32) (x2 : Int32) (σ : Hp) (post : Int32 → Prop) : Prop :=
(wX9_in x2 (1 : Int32) (8 : Int32) σ (fun r9 => wX9_isName_L11 post x0 x1 x2 r9 (0 : Int32) σ))
set_option maxHeartbeats 4000000 in
theorem sX9_isName_B11 {G : GG_} {p : Program} {l : Launch} {e : Env} {R : Room} {s : State} {m : MethodId} {args : Array Value} {below : List Frame} {meth : Method} {c : Code} (Y : MX_ G p R s m args meth c cX9_isName 5 RX9 (some Jvm.ClassFile.FieldType.boolean) 2 42 0 0 "isName") {post : Int32 → Prop} {rc11 : Int32 → Int32 → Prop} {x0 : Nat} {x1 : Int32} {x2 : Int32} {x3 : Int32} {x4 : Int32} {σ : Hp} (hrc11 : ∀ (x3 : Int32) (x4 : Int32), rc11 x3 x4 → WG_ G p l e R s m args below meth c (MQ below (QI_ G (fun r τ => τ = σ ∧ post r)) args s 0 0 (FR_ G)) BN_ 5 11 [(0, rv_ x0), (1, .int x1), (2, .int x2), (3, .int x3), (4, .int x4)] [] σ) (hf : wX9_isName_B11 post rc11 x0 x1 x2 x3 x4 σ) : WG_ G p l e R s m args below meth c (MQ below (QI_ G (fun r τ => τ = σ ∧ post r)) args s 0 0 (FR_ G)) BN_ 5 11 [(0, rv_ x0), (1, .int x1), (2, .int x2), (3, .int x3), (4, .int x4)] [] σ := by
  have ⟨X, hlk, hr, hRf, hRl, hRc, hnm⟩ := Y
  have ⟨⟨hx, hb, _, hown, hts⟩, _, _⟩ := X
  intro H locs cells slots ls hP hL hB hl
  obtain ⟨rfl, rfl⟩ := hB
  unfold wX9_isName_B11 at hf
  refine lv_iload hx hb dX9_isName_11 (lv_at hl 4 rfl) ?_
  refine lv_iload_n hx hb dX9_isName_13 rfl (lv_at hl 2 rfl) ?_
  refine lv_icmp_ge (tgt := 39) hx hb dX9_isName_14 (by decide) (fun c1 => ?_) (fun c1 => ?_)
  · have hf := hf.1 c1
    refine lv_iload_n hx hb dX9_isName_39 rfl (lv_at hl 3 rfl) ?_
    obtain ⟨hn2, hf⟩ := hf
    exact p_zret X hlk hP hL (Nat.le_refl _) (Nat.le_refl _) hr hn2 dX9_isName_40 ⟨rfl, hf⟩
  · have hf := hf.2 c1
    refine lv_iload_n hx hb dX9_isName_17 rfl (lv_at hl 3 rfl) ?_
    refine lv_if_eq (tgt := 39) hx hb dX9_isName_18 (by decide) (fun c3 => ?_) (fun c3 => ?_)
    · have hf := hf.1 c3
      refine lv_iload_n hx hb dX9_isName_39 rfl (lv_at hl 3 rfl) ?_
      obtain ⟨hn4, hf⟩ := hf
      exact p_zret X hlk hP hL (Nat.le_refl _) (Nat.le_refl _) hr hn4 dX9_isName_40 ⟨rfl, hf⟩
    · have hf := hf.2 c3
      refine p_aload_n hx hb dX9_isName_21 rfl (lv_at hl 0 rfl) ?_
      refine lv_iload_n hx hb dX9_isName_22 rfl (lv_at hl 1 rfl) ?_
      refine lv_iload hx hb dX9_isName_23 (lv_at hl 4 rfl) ?_
      refine lv_iadd hx hb dX9_isName_25 ?_
      obtain ⟨ht5, hf⟩ := hf
      refine p_calli hL (p_runV X cf8_ hP ht5 (metX9_get l G _ _ _ _ X.2.2 hf) (cwV 1 hts (lw_V q1508 q1510 qs52 q106 q1511) rfl rfl rfl (by decide +kernel) ⟨Nat.le_trans (Nat.le_of_ble_eq_true rfl) hRf, Nat.le_trans (Nat.le_of_ble_eq_true rfl) hRl⟩) rfl hl.1 rfl (by decide) dX9_isName_26 ⟨Nat.zero_le _, Nat.zero_le _⟩) (fun r6 σ₁ H locs hf hP hL => ?_)
      obtain ⟨e₁, hf⟩ := hf
      rw [e₁] at hP
      refine p_calli hL (p_runS X hP (metX9_isLetter l G _ _ _ X.2.2 hf) (va_cwS 1 hts (lw_S q1446 q1447 q106 q1448) rfl rfl rfl (by decide +kernel) ⟨Nat.le_trans (Nat.le_of_ble_eq_true rfl) hRf, Nat.le_trans (Nat.le_of_ble_eq_true rfl) hRl⟩) rfl hl.1 rfl (by decide) dX9_isName_29 ⟨Nat.zero_le _, Nat.zero_le _⟩) (fun r7 σ₁ H locs hf hP hL => ?_)
      obtain ⟨e₁, hf⟩ := hf
      rw [e₁] at hP
      have hl := lv_sub hl [0, 1, 2, 4] rfl
      refine p_istore_n (i := 3) hx hb dX9_isName_32 rfl hl (by decide) ⟨⟨ne_ rfl, Or.inl (ne_ rfl)⟩, ⟨⟨ne_ rfl, Or.inl (ne_ rfl)⟩, ⟨⟨ne_ rfl, Or.inr rfl⟩, ⟨⟨ne_ rfl, Or.inl (ne_ rfl)⟩, trivial⟩⟩⟩⟩ (fun ls hl => ?_)
      have hl := lv_sub hl [4, 0, 1, 2, 3] rfl
      refine p_iincc (i := 4) (k := 1) hx hb (by decide) dX9_isName_33 hl (by decide) ⟨⟨ne_ rfl, Or.inr rfl⟩, ⟨⟨ne_ rfl, Or.inl (ne_ rfl)⟩, ⟨⟨ne_ rfl, Or.inl (ne_ rfl)⟩, ⟨⟨ne_ rfl, Or.inl (ne_ rfl)⟩, trivial⟩⟩⟩⟩ (fun y8 hy8 ls hl => ?_)
      have hf := hf y8 hy8
      refine lv_goto (tgt := 11) hx hb dX9_isName_36 (by decide) ?_
      exact hrc11 _ _ hf _ _ _ _ _ hP hL ⟨rfl, rfl⟩ (lv_sub hl [2, 3, 4, 1, 0] rfl)
set_option maxHeartbeats 4000000 in
theorem sX9_isName_L11 {G : GG_} {p : Program} {l : Launch} {e : Env} {R : Room} {s : State} {m : MethodId} {args : Array Value} {below : List Frame} {meth : Method} {c : Code} (Y : MX_ G p R s m args meth c cX9_isName 5 RX9 (some Jvm.ClassFile.FieldType.boolean) 2 42 0 0 "isName") {post : Int32 → Prop} {x0 : Nat} {x1 : Int32} {x2 : Int32} {x3 : Int32} {x4 : Int32} {σ : Hp} (hf : wX9_isName_L11 post x0 x1 x2 x3 x4 σ) : WG_ G p l e R s m args below meth c (MQ below (QI_ G (fun r τ => τ = σ ∧ post r)) args s 0 0 (FR_ G)) BN_ 5 11 [(0, rv_ x0), (1, .int x1), (2, .int x2), (3, .int x3), (4, .int x4)] [] σ := by
  unfold wX9_isName_L11 at hf
  obtain ⟨I, μ, h0, hI⟩ := hf
  have key : ∀ (n : Nat) (x3 : Int32) (x4 : Int32), I x3 x4 → μ x3 x4 < n → WG_ G p l e R s m args below meth c (MQ below (QI_ G (fun r τ => τ = σ ∧ post r)) args s 0 0 (FR_ G)) BN_ 5 11 [(0, rv_ x0), (1, .int x1), (2, .int x2), (3, .int x3), (4, .int x4)] [] σ := by
    intro n
    induction n with
    | zero => intro x3 x4 _ h; exact absurd h (Nat.not_lt_zero _)
    | succ n ih => intro x3 x4 hi hn; exact sX9_isName_B11 Y (fun x3' x4' h => ih x3' x4' h.1 (Nat.lt_of_lt_of_le h.2 (Nat.le_of_lt_succ hn))) (hI x3 x4 hi)
  exact key _ _ _ h0 (Nat.lt_succ_self _)
set_option maxHeartbeats 4000000 in
theorem sX9_isName {G : GG_} {p : Program} {l : Launch} {e : Env} {R : Room} {s : State} {m : MethodId} {args : Array Value} {below : List Frame} {meth : Method} {c : Code} (Y : MX_ G p R s m args meth c cX9_isName 5 RX9 (some Jvm.ClassFile.FieldType.boolean) 2 42 0 0 "isName") {post : Int32 → Prop} {x0 : Nat} {x1 : Int32} {x2 : Int32} {σ : Hp} (hf : wX9_isName x0 x1 x2 σ post) : WG_ G p l e R s m args below meth c (MQ below (QI_ G (fun r τ => τ = σ ∧ post r)) args s 0 0 (FR_ G)) BN_ 5 0 [(0, rv_ x0), (1, .int x1), (2, .int x2)] [] σ := by
  have ⟨X, hlk, hr, hRf, hRl, hRc, hnm⟩ := Y
  have ⟨⟨hx, hb, _, hown, hts⟩, _, _⟩ := X
  intro H locs cells slots ls hP hL hB hl
  obtain ⟨rfl, rfl⟩ := hB
  unfold wX9_isName at hf
  refine lv_iload_n hx hb dX9_isName_0 rfl (lv_at hl 2 rfl) ?_
  refine lv_iconst (v := 1) hx hb dX9_isName_1 (by decide) ?_
  refine lv_bipush (v := 8) hx hb dX9_isName_2 (by decide) ?_
  refine p_calli hL (p_runS X hP (metX9_in l G _ _ _ _ _ X.2.2 hf) (va_cwS 3 hts (lw_S q1427 q1428 q106 q1429) rfl rfl rfl (by decide +kernel) ⟨Nat.le_trans (Nat.le_of_ble_eq_true rfl) hRf, Nat.le_trans (Nat.le_of_ble_eq_true rfl) hRl⟩) rfl hl.1 rfl (by decide) dX9_isName_4 ⟨Nat.zero_le _, Nat.zero_le _⟩) (fun r9 σ₁ H locs hf hP hL => ?_)
  obtain ⟨e₁, hf⟩ := hf
  rw [e₁] at hP
  refine p_istore_n (i := 3) hx hb dX9_isName_7 rfl hl (by decide) ⟨⟨ne_ rfl, Or.inl (ne_ rfl)⟩, ⟨⟨ne_ rfl, Or.inl (ne_ rfl)⟩, ⟨⟨ne_ rfl, Or.inr rfl⟩, trivial⟩⟩⟩ (fun ls hl => ?_)
  refine lv_iconst (v := 0) hx hb dX9_isName_8 (by decide) ?_
  refine p_istore (i := 4) hx hb dX9_isName_9 hl (by decide) ⟨⟨ne_ rfl, Or.inr rfl⟩, ⟨⟨ne_ rfl, Or.inl (ne_ rfl)⟩, ⟨⟨ne_ rfl, Or.inl (ne_ rfl)⟩, ⟨⟨ne_ rfl, Or.inl (ne_ rfl)⟩, trivial⟩⟩⟩⟩ (fun ls hl => ?_)
  exact sX9_isName_L11 Y hf _ _ _ _ _ hP hL ⟨rfl, rfl⟩ (lv_sub hl [2, 3, 4, 1, 0] rfl)
set_option maxHeartbeats 4000000 in
theorem metX9_isName (l : Launch) (G : GG_) (x0 : Nat) (x1 : Int32) (x2 : Int32) (σ : Hp) (post : Int32 → Prop) (hG : GOK_ G) (hf : wX9_isName x0 x1 x2 σ post) : Met l yX9_isName (ws_ yX9_isName cX9_isName 5 (some Jvm.ClassFile.FieldType.boolean)) { frames := 2, cells := 0, slots := 0, locals := 42 } (PC_ G [rv_ x0, .int x1, .int x2] σ) (QI_ G (fun r τ => τ = σ ∧ post r)) 0 0 (FR_ G) := by
  refine Met.ofW (cc := cX9_isName) (maxL := 5) (ret := (some Jvm.ClassFile.FieldType.boolean)) (by decide) rfl ?_
  intro p e s m args below meth c s₁ B hml hv
  obtain ⟨rfl, hP, hW⟩ := hv
  have hts := atoms_spec (ws := ws_ yX9_isName cX9_isName 5 (some Jvm.ClassFile.FieldType.boolean)) B.pre
  have hts : ∀ w ∈ lw_all, w.before _ s = true := fun w h => hts w (List.mem_cons_of_mem _ h)
  rw [lg_entry_eq]
  have hl := en_entry [rv_ x0, .int x1, .int x2] [1, 1, 1] (n := 5) (ca_r (ca_i (ca_i ca_n))) (by decide)
  exact sX9_isName ⟨⟨⟨B.exec, B.bytes, hml, findClass_of_methodNamed B.named, hts⟩, hW, hG⟩, B.notSynchronized, B.returns, Nat.le_refl _, Nat.le_refl _, ⟨rfl, rfl⟩, (name_of_methodNamed B.named B.method).1⟩ hf _ _ _ _ _ hP (LO_nil G) ⟨rfl, rfl⟩ hl
abbrev cX9_areWritten : ByteArray := prog_11_method_53_code
def yX9_areWritten : MethodName := ⟨RX9, "areWritten", "(IJ)Z"⟩
theorem dX9_areWritten_0 : decode cX9_areWritten 0 = .ok (.iload_n 1, 1) := by decide +kernel
theorem dX9_areWritten_1 : decode cX9_areWritten 1 = .ok (.ifCond .lt 16, 3) := by decide +kernel
theorem dX9_areWritten_4 : decode cX9_areWritten 4 = .ok (.iload_n 1, 1) := by decide +kernel
theorem dX9_areWritten_5 : decode cX9_areWritten 5 = .ok (.i2l, 1) := by decide +kernel
theorem dX9_areWritten_6 : decode cX9_areWritten 6 = .ok (.lload_n 2, 1) := by decide +kernel
theorem dX9_areWritten_7 : decode cX9_areWritten 7 = .ok (.ladd, 1) := by decide +kernel
theorem dX9_areWritten_8 : decode cX9_areWritten 8 = .ok (.aload_n 0, 1) := by decide +kernel
theorem dX9_areWritten_9 : decode cX9_areWritten 9 = .ok (.getfield 99, 3) := by decide +kernel
theorem dX9_areWritten_12 : decode cX9_areWritten 12 = .ok (.i2l, 1) := by decide +kernel
theorem dX9_areWritten_13 : decode cX9_areWritten 13 = .ok (.lcmp, 1) := by decide +kernel
theorem dX9_areWritten_14 : decode cX9_areWritten 14 = .ok (.ifCond .le 5, 3) := by decide +kernel
theorem dX9_areWritten_17 : decode cX9_areWritten 17 = .ok (.iconst 0, 1) := by decide +kernel
theorem dX9_areWritten_18 : decode cX9_areWritten 18 = .ok (.ireturn, 1) := by decide +kernel
theorem dX9_areWritten_19 : decode cX9_areWritten 19 = .ok (.iload_n 1, 1) := by decide +kernel
theorem dX9_areWritten_20 : decode cX9_areWritten 20 = .ok (.istore 4, 2) := by decide +kernel
theorem dX9_areWritten_22 : decode cX9_areWritten 22 = .ok (.iload 4, 2) := by decide +kernel
theorem dX9_areWritten_24 : decode cX9_areWritten 24 = .ok (.i2l, 1) := by decide +kernel
theorem dX9_areWritten_25 : decode cX9_areWritten 25 = .ok (.iload_n 1, 1) := by decide +kernel
theorem dX9_areWritten_26 : decode cX9_areWritten 26 = .ok (.i2l, 1) := by decide +kernel
theorem dX9_areWritten_27 : decode cX9_areWritten 27 = .ok (.lload_n 2, 1) := by decide +kernel
theorem dX9_areWritten_28 : decode cX9_areWritten 28 = .ok (.ladd, 1) := by decide +kernel
theorem dX9_areWritten_29 : decode cX9_areWritten 29 = .ok (.lcmp, 1) := by decide +kernel
theorem dX9_areWritten_30 : decode cX9_areWritten 30 = .ok (.ifCond .ge 20, 3) := by decide +kernel
theorem dX9_areWritten_33 : decode cX9_areWritten 33 = .ok (.aload_n 0, 1) := by decide +kernel
theorem dX9_areWritten_34 : decode cX9_areWritten 34 = .ok (.iload 4, 2) := by decide +kernel
theorem dX9_areWritten_36 : decode cX9_areWritten 36 = .ok (.invokevirtual 260, 3) := by decide +kernel
theorem dX9_areWritten_39 : decode cX9_areWritten 39 = .ok (.ifCond .ne 5, 3) := by decide +kernel
theorem dX9_areWritten_42 : decode cX9_areWritten 42 = .ok (.iconst 0, 1) := by decide +kernel
theorem dX9_areWritten_43 : decode cX9_areWritten 43 = .ok (.ireturn, 1) := by decide +kernel
theorem dX9_areWritten_44 : decode cX9_areWritten 44 = .ok (.iinc 4 1, 3) := by decide +kernel
theorem dX9_areWritten_47 : decode cX9_areWritten 47 = .ok (.goto (-25), 3) := by decide +kernel
theorem dX9_areWritten_50 : decode cX9_areWritten 50 = .ok (.iconst 1, 1) := by decide +kernel
theorem dX9_areWritten_51 : decode cX9_areWritten 51 = .ok (.ireturn, 1) := by decide +kernel
/-- WriteOnceDiscModel.areWritten(IJ)Z -/
def wX9_areWritten_B22 (post : Int32 → Prop) (rc22 : Int32 → Prop) (x0 : Nat) (x1 : Int32) (x2 : Int64) (x4 : Int32) (σ : Hp) : Prop :=
((0 ≤ (lg_cmp (x4).toInt64 ((x1).toInt64 + x2)) →
  post (1 : Int32)) ∧
 (¬ 0 ≤ (lg_cmp (x4).toInt64 ((x1).toInt64 + x2)) →
  (tg_ σ x0 = 9 ∧ (wX9_isWrittenSector x0 x4 σ (fun r3 => ((¬ r3 = 0 →
   (∀ y5 : Int32, y5 = x4 + 1 → rc22 y5)) ∧
  (r3 = 0 →
   post (0 : Int32))))))))
def wX9_areWritten_L22 (post : Int32 → Prop) (x0 : Nat) (x1 : Int32) (x2 : Int64) (x4 : Int32) (σ : Hp) : Prop :=
 ∃ (I : Int32 → Prop) (μ : Int32 → Nat), I x4 ∧ ∀ (x4 : Int32), I x4 → wX9_areWritten_B22 post (fun x4' => I x4' ∧ μ x4' < μ x4) x0 x1 x2 x4 σ
def wX9_areWritten (x0 : Nat) (x1 : Int32) (x2 : Int64) (σ : Hp) (post : Int32 → Prop) : Prop :=
((x1 < 0 →
  post (0 : Int32)) ∧
 (¬ x1 < 0 →
  (tg_ σ x0 = 9 ∧ (((lg_cmp ((x1).toInt64 + x2) ((fI_ σ 8 1 x0)).toInt64) ≤ 0 →
   wX9_areWritten_L22 post x0 x1 x2 x1 σ) ∧
  (¬ (lg_cmp ((x1).toInt64 + x2) ((fI_ σ 8 1 x0)).toInt64) ≤ 0 →
   post (0 : Int32))))))
set_option maxHeartbeats 4000000 in
theorem sX9_areWritten_B22 {G : GG_} {p : Program} {l : Launch} {e : Env} {R : Room} {s : State} {m : MethodId} {args : Array Value} {below : List Frame} {meth : Method} {c : Code} (Y : MX_ G p R s m args meth c cX9_areWritten 5 RX9 (some Jvm.ClassFile.FieldType.boolean) 3 63 0 0 "areWritten") {post : Int32 → Prop} {rc22 : Int32 → Prop} {x0 : Nat} {x1 : Int32} {x2 : Int64} {x4 : Int32} {σ : Hp} (hrc22 : ∀ (x4 : Int32), rc22 x4 → WG_ G p l e R s m args below meth c (MQ below (QI_ G (fun r τ => τ = σ ∧ post r)) args s 0 0 (FR_ G)) BN_ 5 22 [(0, rv_ x0), (1, .int x1), (2, .long x2), (4, .int x4)] [] σ) (hf : wX9_areWritten_B22 post rc22 x0 x1 x2 x4 σ) : WG_ G p l e R s m args below meth c (MQ below (QI_ G (fun r τ => τ = σ ∧ post r)) args s 0 0 (FR_ G)) BN_ 5 22 [(0, rv_ x0), (1, .int x1), (2, .long x2), (4, .int x4)] [] σ := by
  have ⟨X, hlk, hr, hRf, hRl, hRc, hnm⟩ := Y
  have ⟨⟨hx, hb, _, hown, hts⟩, _, _⟩ := X
  intro H locs cells slots ls hP hL hB hl
  obtain ⟨rfl, rfl⟩ := hB
  unfold wX9_areWritten_B22 at hf
  refine lv_iload hx hb dX9_areWritten_22 (lv_at hl 3 rfl) ?_
  refine lv_i2l hx hb dX9_areWritten_24 rfl ?_
  refine lv_iload_n hx hb dX9_areWritten_25 rfl (lv_at hl 1 rfl) ?_
  refine lv_i2l hx hb dX9_areWritten_26 rfl ?_
  refine lv_lload_n hx hb dX9_areWritten_27 rfl (lv_at hl 2 rfl) ?_
  refine lv_ladd hx hb dX9_areWritten_28 ?_
  refine W.lcmp hx hb dX9_areWritten_29 ?_
  refine lv_if_ge (tgt := 50) hx hb dX9_areWritten_30 (by decide) (fun c1 => ?_) (fun c1 => ?_)
  · have hf := hf.1 c1
    refine lv_iconst (v := 1) hx hb dX9_areWritten_50 (by decide) ?_
    exact p_zret X hlk hP hL (Nat.le_refl _) (Nat.le_refl _) hr nr_1 dX9_areWritten_51 ⟨rfl, hf⟩
  · have hf := hf.2 c1
    refine p_aload_n hx hb dX9_areWritten_33 rfl (lv_at hl 0 rfl) ?_
    refine lv_iload hx hb dX9_areWritten_34 (lv_at hl 3 rfl) ?_
    obtain ⟨ht2, hf⟩ := hf
    refine p_calli hL (p_runV X cf8_ hP ht2 (metX9_isWrittenSector l G _ _ _ _ X.2.2 hf) (cwV 1 hts (lw_V q1603 q1605 qs69 q106 q1606) rfl rfl rfl (by decide +kernel) ⟨Nat.le_trans (Nat.le_of_ble_eq_true rfl) hRf, Nat.le_trans (Nat.le_of_ble_eq_true rfl) hRl⟩) rfl hl.1 rfl (by decide) dX9_areWritten_36 ⟨Nat.zero_le _, Nat.zero_le _⟩) (fun r3 σ₁ H locs hf hP hL => ?_)
    obtain ⟨e₁, hf⟩ := hf
    rw [e₁] at hP
    refine lv_if_ne (tgt := 44) hx hb dX9_areWritten_39 (by decide) (fun c4 => ?_) (fun c4 => ?_)
    · have hf := hf.1 c4
      have hl := lv_sub hl [3, 0, 1, 2] rfl
      refine p_iincc (i := 4) (k := 1) hx hb (by decide) dX9_areWritten_44 hl (by decide) ⟨⟨ne_ rfl, Or.inl (ne_ rfl)⟩, ⟨⟨ne_ rfl, Or.inl (ne_ rfl)⟩, ⟨⟨ne_ rfl, Or.inl (ne_ rfl)⟩, trivial⟩⟩⟩ (fun y5 hy5 ls hl => ?_)
      have hf := hf y5 hy5
      refine lv_goto (tgt := 22) hx hb dX9_areWritten_47 (by decide) ?_
      exact hrc22 _ hf _ _ _ _ _ hP hL ⟨rfl, rfl⟩ (lv_sub hl [1, 2, 3, 0] rfl)
    · have hf := hf.2 c4
      refine lv_iconst (v := 0) hx hb dX9_areWritten_42 (by decide) ?_
      exact p_zret X hlk hP hL (Nat.le_refl _) (Nat.le_refl _) hr nr_0 dX9_areWritten_43 ⟨rfl, hf⟩
set_option maxHeartbeats 4000000 in
theorem sX9_areWritten_L22 {G : GG_} {p : Program} {l : Launch} {e : Env} {R : Room} {s : State} {m : MethodId} {args : Array Value} {below : List Frame} {meth : Method} {c : Code} (Y : MX_ G p R s m args meth c cX9_areWritten 5 RX9 (some Jvm.ClassFile.FieldType.boolean) 3 63 0 0 "areWritten") {post : Int32 → Prop} {x0 : Nat} {x1 : Int32} {x2 : Int64} {x4 : Int32} {σ : Hp} (hf : wX9_areWritten_L22 post x0 x1 x2 x4 σ) : WG_ G p l e R s m args below meth c (MQ below (QI_ G (fun r τ => τ = σ ∧ post r)) args s 0 0 (FR_ G)) BN_ 5 22 [(0, rv_ x0), (1, .int x1), (2, .long x2), (4, .int x4)] [] σ := by
  unfold wX9_areWritten_L22 at hf
  obtain ⟨I, μ, h0, hI⟩ := hf
  have key : ∀ (n : Nat) (x4 : Int32), I x4 → μ x4 < n → WG_ G p l e R s m args below meth c (MQ below (QI_ G (fun r τ => τ = σ ∧ post r)) args s 0 0 (FR_ G)) BN_ 5 22 [(0, rv_ x0), (1, .int x1), (2, .long x2), (4, .int x4)] [] σ := by
    intro n
    induction n with
    | zero => intro x4 _ h; exact absurd h (Nat.not_lt_zero _)
    | succ n ih => intro x4 hi hn; exact sX9_areWritten_B22 Y (fun x4' h => ih x4' h.1 (Nat.lt_of_lt_of_le h.2 (Nat.le_of_lt_succ hn))) (hI x4 hi)
  exact key _ _ h0 (Nat.lt_succ_self _)
set_option maxHeartbeats 4000000 in
theorem sX9_areWritten {G : GG_} {p : Program} {l : Launch} {e : Env} {R : Room} {s : State} {m : MethodId} {args : Array Value} {below : List Frame} {meth : Method} {c : Code} (Y : MX_ G p R s m args meth c cX9_areWritten 5 RX9 (some Jvm.ClassFile.FieldType.boolean) 3 63 0 0 "areWritten") {post : Int32 → Prop} {x0 : Nat} {x1 : Int32} {x2 : Int64} {σ : Hp} (hf : wX9_areWritten x0 x1 x2 σ post) : WG_ G p l e R s m args below meth c (MQ below (QI_ G (fun r τ => τ = σ ∧ post r)) args s 0 0 (FR_ G)) BN_ 5 0 [(0, rv_ x0), (1, .int x1), (2, .long x2)] [] σ := by
  have ⟨X, hlk, hr, hRf, hRl, hRc, hnm⟩ := Y
  have ⟨⟨hx, hb, _, hown, hts⟩, _, _⟩ := X
  intro H locs cells slots ls hP hL hB hl
  obtain ⟨rfl, rfl⟩ := hB
  unfold wX9_areWritten at hf
  refine lv_iload_n hx hb dX9_areWritten_0 rfl (lv_at hl 1 rfl) ?_
  refine lv_if_lt (tgt := 17) hx hb dX9_areWritten_1 (by decide) (fun c6 => ?_) (fun c6 => ?_)
  · have hf := hf.1 c6
    refine lv_iconst (v := 0) hx hb dX9_areWritten_17 (by decide) ?_
    exact p_zret X hlk hP hL (Nat.le_refl _) (Nat.le_refl _) hr nr_0 dX9_areWritten_18 ⟨rfl, hf⟩
  · have hf := hf.2 c6
    refine lv_iload_n hx hb dX9_areWritten_4 rfl (lv_at hl 1 rfl) ?_
    refine lv_i2l hx hb dX9_areWritten_5 rfl ?_
    refine lv_lload_n hx hb dX9_areWritten_6 rfl (lv_at hl 2 rfl) ?_
    refine lv_ladd hx hb dX9_areWritten_7 ?_
    refine p_aload_n hx hb dX9_areWritten_8 rfl (lv_at hl 0 rfl) ?_
    obtain ⟨ht7, hf⟩ := hf
    refine p_gI X cf8_ (k := 1) (by decide) rfl hP ht7 q1296 (fun _ h => h) dX9_areWritten_9 ?_
    refine lv_i2l hx hb dX9_areWritten_12 rfl ?_
    refine W.lcmp hx hb dX9_areWritten_13 ?_
    refine lv_if_le (tgt := 19) hx hb dX9_areWritten_14 (by decide) (fun c8 => ?_) (fun c8 => ?_)
    · have hf := hf.1 c8
      refine lv_iload_n hx hb dX9_areWritten_19 rfl (lv_at hl 1 rfl) ?_
      refine p_istore (i := 4) hx hb dX9_areWritten_20 hl (by decide) ⟨⟨ne_ rfl, Or.inl (ne_ rfl)⟩, ⟨⟨ne_ rfl, Or.inl (ne_ rfl)⟩, ⟨⟨ne_ rfl, Or.inl (ne_ rfl)⟩, trivial⟩⟩⟩ (fun ls hl => ?_)
      exact sX9_areWritten_L22 Y hf _ _ _ _ _ hP hL ⟨rfl, rfl⟩ (lv_sub hl [1, 2, 3, 0] rfl)
    · have hf := hf.2 c8
      refine lv_iconst (v := 0) hx hb dX9_areWritten_17 (by decide) ?_
      exact p_zret X hlk hP hL (Nat.le_refl _) (Nat.le_refl _) hr nr_0 dX9_areWritten_18 ⟨rfl, hf⟩
set_option maxHeartbeats 4000000 in
theorem metX9_areWritten (l : Launch) (G : GG_) (x0 : Nat) (x1 : Int32) (x2 : Int64) (σ : Hp) (post : Int32 → Prop) (hG : GOK_ G) (hf : wX9_areWritten x0 x1 x2 σ post) : Met l yX9_areWritten (ws_ yX9_areWritten cX9_areWritten 5 (some Jvm.ClassFile.FieldType.boolean)) { frames := 3, cells := 0, slots := 0, locals := 63 } (PC_ G [rv_ x0, .int x1, .long x2] σ) (QI_ G (fun r τ => τ = σ ∧ post r)) 0 0 (FR_ G) := by
  refine Met.ofW (cc := cX9_areWritten) (maxL := 5) (ret := (some Jvm.ClassFile.FieldType.boolean)) (by decide) rfl ?_
  intro p e s m args below meth c s₁ B hml hv
  obtain ⟨rfl, hP, hW⟩ := hv
  have hts := atoms_spec (ws := ws_ yX9_areWritten cX9_areWritten 5 (some Jvm.ClassFile.FieldType.boolean)) B.pre
  have hts : ∀ w ∈ lw_all, w.before _ s = true := fun w h => hts w (List.mem_cons_of_mem _ h)
  rw [lg_entry_eq]
  have hl := en_entry [rv_ x0, .int x1, .long x2] [1, 1, 2] (n := 5) (ca_r (ca_i (ca_l ca_n))) (by decide)
  exact sX9_areWritten ⟨⟨⟨B.exec, B.bytes, hml, findClass_of_methodNamed B.named, hts⟩, hW, hG⟩, B.notSynchronized, B.returns, Nat.le_refl _, Nat.le_refl _, ⟨rfl, rfl⟩, (name_of_methodNamed B.named B.method).1⟩ hf _ _ _ _ _ hP (LO_nil G) ⟨rfl, rfl⟩ hl
