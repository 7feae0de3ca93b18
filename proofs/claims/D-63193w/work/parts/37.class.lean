set_option maxRecDepth 100000
abbrev cX8_paths : ByteArray := prog_8_method_20_code
def yX8_paths : MethodName := ⟨RX8, "paths", "(JZ)Z"⟩
theorem dX8_paths_0 : decode cX8_paths 0 = .ok (.iconst 0, 1) := by decide +kernel
theorem dX8_paths_1 : decode cX8_paths 1 = .ok (.istore 4, 2) := by decide +kernel
theorem dX8_paths_3 : decode cX8_paths 3 = .ok (.lload_n 1, 1) := by decide +kernel
theorem dX8_paths_4 : decode cX8_paths 4 = .ok (.lstore 5, 2) := by decide +kernel
theorem dX8_paths_6 : decode cX8_paths 6 = .ok (.iconst 0, 1) := by decide +kernel
theorem dX8_paths_7 : decode cX8_paths 7 = .ok (.istore 7, 2) := by decide +kernel
theorem dX8_paths_9 : decode cX8_paths 9 = .ok (.iload 7, 2) := by decide +kernel
theorem dX8_paths_11 : decode cX8_paths 11 = .ok (.aload_n 0, 1) := by decide +kernel
theorem dX8_paths_12 : decode cX8_paths 12 = .ok (.getfield 12, 3) := by decide +kernel
theorem dX8_paths_15 : decode cX8_paths 15 = .ok (.invokevirtual 144, 3) := by decide +kernel
theorem dX8_paths_18 : decode cX8_paths 18 = .ok (.if_icmp .ge 273, 3) := by decide +kernel
theorem dX8_paths_21 : decode cX8_paths 21 = .ok (.aload_n 0, 1) := by decide +kernel
theorem dX8_paths_22 : decode cX8_paths 22 = .ok (.getfield 12, 3) := by decide +kernel
theorem dX8_paths_25 : decode cX8_paths 25 = .ok (.iload 7, 2) := by decide +kernel
theorem dX8_paths_27 : decode cX8_paths 27 = .ok (.invokevirtual 147, 3) := by decide +kernel
theorem dX8_paths_30 : decode cX8_paths 30 = .ok (.checkcast 18, 3) := by decide +kernel
theorem dX8_paths_33 : decode cX8_paths 33 = .ok (.astore 8, 2) := by decide +kernel
theorem dX8_paths_35 : decode cX8_paths 35 = .ok (.aload 8, 2) := by decide +kernel
theorem dX8_paths_37 : decode cX8_paths 37 = .ok (.getfield 134, 3) := by decide +kernel
theorem dX8_paths_40 : decode cX8_paths 40 = .ok (.ifCond .ne 6, 3) := by decide +kernel
theorem dX8_paths_43 : decode cX8_paths 43 = .ok (.goto 242, 3) := by decide +kernel
theorem dX8_paths_46 : decode cX8_paths 46 = .ok (.iinc 4 1, 3) := by decide +kernel
theorem dX8_paths_49 : decode cX8_paths 49 = .ok (.aload_n 0, 1) := by decide +kernel
theorem dX8_paths_50 : decode cX8_paths 50 = .ok (.getfield 24, 3) := by decide +kernel
theorem dX8_paths_53 : decode cX8_paths 53 = .ok (.iload 7, 2) := by decide +kernel
theorem dX8_paths_55 : decode cX8_paths 55 = .ok (.iload 4, 2) := by decide +kernel
theorem dX8_paths_57 : decode cX8_paths 57 = .ok (.iastore, 1) := by decide +kernel
theorem dX8_paths_58 : decode cX8_paths 58 = .ok (.iload 7, 2) := by decide +kernel
theorem dX8_paths_60 : decode cX8_paths 60 = .ok (.ifCond .ne 7, 3) := by decide +kernel
theorem dX8_paths_63 : decode cX8_paths 63 = .ok (.iconst 1, 1) := by decide +kernel
theorem dX8_paths_64 : decode cX8_paths 64 = .ok (.goto 11, 3) := by decide +kernel
theorem dX8_paths_67 : decode cX8_paths 67 = .ok (.aload 8, 2) := by decide +kernel
theorem dX8_paths_69 : decode cX8_paths 69 = .ok (.getfield 128, 3) := by decide +kernel
theorem dX8_paths_72 : decode cX8_paths 72 = .ok (.invokestatic 184, 3) := by decide +kernel
theorem dX8_paths_75 : decode cX8_paths 75 = .ok (.istore 9, 2) := by decide +kernel
theorem dX8_paths_77 : decode cX8_paths 77 = .ok (.aload_n 0, 1) := by decide +kernel
theorem dX8_paths_78 : decode cX8_paths 78 = .ok (.lload 5, 2) := by decide +kernel
theorem dX8_paths_80 : decode cX8_paths 80 = .ok (.iconst 1, 1) := by decide +kernel
theorem dX8_paths_81 : decode cX8_paths 81 = .ok (.iload 9, 2) := by decide +kernel
theorem dX8_paths_83 : decode cX8_paths 83 = .ok (.iload_n 3, 1) := by decide +kernel
theorem dX8_paths_84 : decode cX8_paths 84 = .ok (.invokevirtual 187, 3) := by decide +kernel
theorem dX8_paths_87 : decode cX8_paths 87 = .ok (.ifCond .eq 75, 3) := by decide +kernel
theorem dX8_paths_90 : decode cX8_paths 90 = .ok (.aload_n 0, 1) := by decide +kernel
theorem dX8_paths_91 : decode cX8_paths 91 = .ok (.lload 5, 2) := by decide +kernel
theorem dX8_paths_93 : decode cX8_paths 93 = .ok (.lconst 1, 1) := by decide +kernel
theorem dX8_paths_94 : decode cX8_paths 94 = .ok (.ladd, 1) := by decide +kernel
theorem dX8_paths_95 : decode cX8_paths 95 = .ok (.iconst 1, 1) := by decide +kernel
theorem dX8_paths_96 : decode cX8_paths 96 = .ok (.iconst 0, 1) := by decide +kernel
theorem dX8_paths_97 : decode cX8_paths 97 = .ok (.iload_n 3, 1) := by decide +kernel
theorem dX8_paths_98 : decode cX8_paths 98 = .ok (.invokevirtual 187, 3) := by decide +kernel
theorem dX8_paths_101 : decode cX8_paths 101 = .ok (.ifCond .eq 61, 3) := by decide +kernel
theorem dX8_paths_104 : decode cX8_paths 104 = .ok (.aload_n 0, 1) := by decide +kernel
theorem dX8_paths_105 : decode cX8_paths 105 = .ok (.lload 5, 2) := by decide +kernel
theorem dX8_paths_107 : decode cX8_paths 107 = .ok (.ldc2_w 93, 3) := by decide +kernel
theorem dX8_paths_110 : decode cX8_paths 110 = .ok (.ladd, 1) := by decide +kernel
theorem dX8_paths_111 : decode cX8_paths 111 = .ok (.iconst 4, 1) := by decide +kernel
theorem dX8_paths_112 : decode cX8_paths 112 = .ok (.aload 8, 2) := by decide +kernel
theorem dX8_paths_114 : decode cX8_paths 114 = .ok (.getfield 138, 3) := by decide +kernel
theorem dX8_paths_117 : decode cX8_paths 117 = .ok (.iload_n 3, 1) := by decide +kernel
theorem dX8_paths_118 : decode cX8_paths 118 = .ok (.invokevirtual 187, 3) := by decide +kernel
theorem dX8_paths_121 : decode cX8_paths 121 = .ok (.ifCond .eq 41, 3) := by decide +kernel
theorem dX8_paths_124 : decode cX8_paths 124 = .ok (.aload_n 0, 1) := by decide +kernel
theorem dX8_paths_125 : decode cX8_paths 125 = .ok (.lload 5, 2) := by decide +kernel
theorem dX8_paths_127 : decode cX8_paths 127 = .ok (.ldc2_w 51, 3) := by decide +kernel
theorem dX8_paths_130 : decode cX8_paths 130 = .ok (.ladd, 1) := by decide +kernel
theorem dX8_paths_131 : decode cX8_paths 131 = .ok (.iconst 2, 1) := by decide +kernel
theorem dX8_paths_132 : decode cX8_paths 132 = .ok (.iload 7, 2) := by decide +kernel
theorem dX8_paths_134 : decode cX8_paths 134 = .ok (.ifCond .ne 7, 3) := by decide +kernel
theorem dX8_paths_137 : decode cX8_paths 137 = .ok (.iconst 1, 1) := by decide +kernel
theorem dX8_paths_138 : decode cX8_paths 138 = .ok (.goto 13, 3) := by decide +kernel
theorem dX8_paths_141 : decode cX8_paths 141 = .ok (.aload_n 0, 1) := by decide +kernel
theorem dX8_paths_142 : decode cX8_paths 142 = .ok (.getfield 24, 3) := by decide +kernel
theorem dX8_paths_145 : decode cX8_paths 145 = .ok (.aload 8, 2) := by decide +kernel
theorem dX8_paths_147 : decode cX8_paths 147 = .ok (.getfield 122, 3) := by decide +kernel
theorem dX8_paths_150 : decode cX8_paths 150 = .ok (.iaload, 1) := by decide +kernel
theorem dX8_paths_151 : decode cX8_paths 151 = .ok (.iload_n 3, 1) := by decide +kernel
theorem dX8_paths_152 : decode cX8_paths 152 = .ok (.invokevirtual 187, 3) := by decide +kernel
theorem dX8_paths_155 : decode cX8_paths 155 = .ok (.ifCond .eq 7, 3) := by decide +kernel
theorem dX8_paths_158 : decode cX8_paths 158 = .ok (.iconst 1, 1) := by decide +kernel
theorem dX8_paths_159 : decode cX8_paths 159 = .ok (.goto 4, 3) := by decide +kernel
theorem dX8_paths_162 : decode cX8_paths 162 = .ok (.iconst 0, 1) := by decide +kernel
theorem dX8_paths_163 : decode cX8_paths 163 = .ok (.istore 10, 2) := by decide +kernel
theorem dX8_paths_165 : decode cX8_paths 165 = .ok (.iconst 0, 1) := by decide +kernel
theorem dX8_paths_166 : decode cX8_paths 166 = .ok (.istore 11, 2) := by decide +kernel
theorem dX8_paths_168 : decode cX8_paths 168 = .ok (.iload 11, 2) := by decide +kernel
theorem dX8_paths_170 : decode cX8_paths 170 = .ok (.iload 9, 2) := by decide +kernel
theorem dX8_paths_172 : decode cX8_paths 172 = .ok (.if_icmp .ge 62, 3) := by decide +kernel
theorem dX8_paths_175 : decode cX8_paths 175 = .ok (.iload 10, 2) := by decide +kernel
theorem dX8_paths_177 : decode cX8_paths 177 = .ok (.ifCond .eq 57, 3) := by decide +kernel
theorem dX8_paths_180 : decode cX8_paths 180 = .ok (.aload_n 0, 1) := by decide +kernel
theorem dX8_paths_181 : decode cX8_paths 181 = .ok (.lload 5, 2) := by decide +kernel
theorem dX8_paths_183 : decode cX8_paths 183 = .ok (.ldc2_w 191, 3) := by decide +kernel
theorem dX8_paths_186 : decode cX8_paths 186 = .ok (.ladd, 1) := by decide +kernel
theorem dX8_paths_187 : decode cX8_paths 187 = .ok (.iload 11, 2) := by decide +kernel
theorem dX8_paths_189 : decode cX8_paths 189 = .ok (.i2l, 1) := by decide +kernel
theorem dX8_paths_190 : decode cX8_paths 190 = .ok (.ladd, 1) := by decide +kernel
theorem dX8_paths_191 : decode cX8_paths 191 = .ok (.iconst 1, 1) := by decide +kernel
theorem dX8_paths_192 : decode cX8_paths 192 = .ok (.iload 7, 2) := by decide +kernel
theorem dX8_paths_194 : decode cX8_paths 194 = .ok (.ifCond .ne 7, 3) := by decide +kernel
theorem dX8_paths_197 : decode cX8_paths 197 = .ok (.iconst 0, 1) := by decide +kernel
theorem dX8_paths_198 : decode cX8_paths 198 = .ok (.goto 24, 3) := by decide +kernel
theorem dX8_paths_201 : decode cX8_paths 201 = .ok (.aload 8, 2) := by decide +kernel
theorem dX8_paths_203 : decode cX8_paths 203 = .ok (.getfield 128, 3) := by decide +kernel
theorem dX8_paths_206 : decode cX8_paths 206 = .ok (.bipush 8, 2) := by decide +kernel
theorem dX8_paths_208 : decode cX8_paths 208 = .ok (.iload 9, 2) := by decide +kernel
theorem dX8_paths_210 : decode cX8_paths 210 = .ok (.iconst 1, 1) := by decide +kernel
theorem dX8_paths_211 : decode cX8_paths 211 = .ok (.isub, 1) := by decide +kernel
theorem dX8_paths_212 : decode cX8_paths 212 = .ok (.iload 11, 2) := by decide +kernel
theorem dX8_paths_214 : decode cX8_paths 214 = .ok (.isub, 1) := by decide +kernel
theorem dX8_paths_215 : decode cX8_paths 215 = .ok (.imul, 1) := by decide +kernel
theorem dX8_paths_216 : decode cX8_paths 216 = .ok (.lshr, 1) := by decide +kernel
theorem dX8_paths_217 : decode cX8_paths 217 = .ok (.l2i, 1) := by decide +kernel
theorem dX8_paths_218 : decode cX8_paths 218 = .ok (.sipush 255, 3) := by decide +kernel
theorem dX8_paths_221 : decode cX8_paths 221 = .ok (.iand, 1) := by decide +kernel
theorem dX8_paths_222 : decode cX8_paths 222 = .ok (.iload_n 3, 1) := by decide +kernel
theorem dX8_paths_223 : decode cX8_paths 223 = .ok (.invokevirtual 187, 3) := by decide +kernel
theorem dX8_paths_226 : decode cX8_paths 226 = .ok (.istore 10, 2) := by decide +kernel
theorem dX8_paths_228 : decode cX8_paths 228 = .ok (.iinc 11 1, 3) := by decide +kernel
theorem dX8_paths_231 : decode cX8_paths 231 = .ok (.goto (-63), 3) := by decide +kernel
theorem dX8_paths_234 : decode cX8_paths 234 = .ok (.iload 10, 2) := by decide +kernel
theorem dX8_paths_236 : decode cX8_paths 236 = .ok (.ifCond .eq 31, 3) := by decide +kernel
theorem dX8_paths_239 : decode cX8_paths 239 = .ok (.iload 9, 2) := by decide +kernel
theorem dX8_paths_241 : decode cX8_paths 241 = .ok (.iconst 2, 1) := by decide +kernel
theorem dX8_paths_242 : decode cX8_paths 242 = .ok (.irem, 1) := by decide +kernel
theorem dX8_paths_243 : decode cX8_paths 243 = .ok (.iconst 1, 1) := by decide +kernel
theorem dX8_paths_244 : decode cX8_paths 244 = .ok (.if_icmp .ne 25, 3) := by decide +kernel
theorem dX8_paths_247 : decode cX8_paths 247 = .ok (.aload_n 0, 1) := by decide +kernel
theorem dX8_paths_248 : decode cX8_paths 248 = .ok (.lload 5, 2) := by decide +kernel
theorem dX8_paths_250 : decode cX8_paths 250 = .ok (.ldc2_w 191, 3) := by decide +kernel
theorem dX8_paths_253 : decode cX8_paths 253 = .ok (.ladd, 1) := by decide +kernel
theorem dX8_paths_254 : decode cX8_paths 254 = .ok (.iload 9, 2) := by decide +kernel
theorem dX8_paths_256 : decode cX8_paths 256 = .ok (.i2l, 1) := by decide +kernel
theorem dX8_paths_257 : decode cX8_paths 257 = .ok (.ladd, 1) := by decide +kernel
theorem dX8_paths_258 : decode cX8_paths 258 = .ok (.iconst 1, 1) := by decide +kernel
theorem dX8_paths_259 : decode cX8_paths 259 = .ok (.iconst 0, 1) := by decide +kernel
theorem dX8_paths_260 : decode cX8_paths 260 = .ok (.iload_n 3, 1) := by decide +kernel
theorem dX8_paths_261 : decode cX8_paths 261 = .ok (.invokevirtual 187, 3) := by decide +kernel
theorem dX8_paths_264 : decode cX8_paths 264 = .ok (.ifCond .ne 5, 3) := by decide +kernel
theorem dX8_paths_267 : decode cX8_paths 267 = .ok (.iconst 0, 1) := by decide +kernel
theorem dX8_paths_268 : decode cX8_paths 268 = .ok (.ireturn, 1) := by decide +kernel
theorem dX8_paths_269 : decode cX8_paths 269 = .ok (.lload 5, 2) := by decide +kernel
theorem dX8_paths_271 : decode cX8_paths 271 = .ok (.bipush 8, 2) := by decide +kernel
theorem dX8_paths_273 : decode cX8_paths 273 = .ok (.iload 9, 2) := by decide +kernel
theorem dX8_paths_275 : decode cX8_paths 275 = .ok (.iadd, 1) := by decide +kernel
theorem dX8_paths_276 : decode cX8_paths 276 = .ok (.iload 9, 2) := by decide +kernel
theorem dX8_paths_278 : decode cX8_paths 278 = .ok (.iconst 1, 1) := by decide +kernel
theorem dX8_paths_279 : decode cX8_paths 279 = .ok (.iand, 1) := by decide +kernel
theorem dX8_paths_280 : decode cX8_paths 280 = .ok (.iadd, 1) := by decide +kernel
theorem dX8_paths_281 : decode cX8_paths 281 = .ok (.i2l, 1) := by decide +kernel
theorem dX8_paths_282 : decode cX8_paths 282 = .ok (.ladd, 1) := by decide +kernel
theorem dX8_paths_283 : decode cX8_paths 283 = .ok (.lstore 5, 2) := by decide +kernel
theorem dX8_paths_285 : decode cX8_paths 285 = .ok (.iinc 7 1, 3) := by decide +kernel
theorem dX8_paths_288 : decode cX8_paths 288 = .ok (.goto (-279), 3) := by decide +kernel
theorem dX8_paths_291 : decode cX8_paths 291 = .ok (.aload_n 0, 1) := by decide +kernel
theorem dX8_paths_292 : decode cX8_paths 292 = .ok (.lload 5, 2) := by decide +kernel
theorem dX8_paths_294 : decode cX8_paths 294 = .ok (.lload_n 1, 1) := by decide +kernel
theorem dX8_paths_295 : decode cX8_paths 295 = .ok (.lsub, 1) := by decide +kernel
theorem dX8_paths_296 : decode cX8_paths 296 = .ok (.l2i, 1) := by decide +kernel
theorem dX8_paths_297 : decode cX8_paths 297 = .ok (.putfield 193, 3) := by decide +kernel
theorem dX8_paths_300 : decode cX8_paths 300 = .ok (.iconst 1, 1) := by decide +kernel
theorem dX8_paths_301 : decode cX8_paths 301 = .ok (.ireturn, 1) := by decide +kernel
/-- WriteOnceDisc$Reader.paths(JZ)Z -/
def wX8_paths_L285 (post : Int32 → Hp → Prop) (rc9 : Int32 → Int64 → Int32 → Hp → Prop) (x0 : Nat) (x1 : Int64) (x3 : Int32) (x4 : Int32) (x5 : Int64) (x7 : Int32) (σ : Hp) : Prop :=
(∀ y1 : Int32, y1 = x7 + 1 → rc9 x4 x5 y1 σ)
def wX8_paths_L269 (post : Int32 → Hp → Prop) (rc9 : Int32 → Int64 → Int32 → Hp → Prop) (x0 : Nat) (x1 : Int64) (x3 : Int32) (x4 : Int32) (x5 : Int64) (x7 : Int32) (x9 : Int32) (σ : Hp) : Prop :=
(∀ y2 : Int64, y2 = (x5 + ((((8 : Int32) + x9) + (x9 &&& (1 : Int32)))).toInt64) → wX8_paths_L285 post rc9 x0 x1 x3 x4 y2 x7 σ)
def wX8_paths_L234 (post : Int32 → Hp → Prop) (rc9 : Int32 → Int64 → Int32 → Hp → Prop) (x0 : Nat) (x1 : Int64) (x3 : Int32) (x4 : Int32) (x5 : Int64) (x7 : Int32) (x9 : Int32) (x10 : Int32) (σ : Hp) : Prop :=
((x10 = 0 →
  post (0 : Int32) σ) ∧
 (¬ x10 = 0 →
  ((¬ (x9 - x9 / (2 : Int32) * (2 : Int32)) = (1 : Int32) →
   wX8_paths_L269 post rc9 x0 x1 x3 x4 x5 x7 x9 σ) ∧
  ((x9 - x9 / (2 : Int32) * (2 : Int32)) = (1 : Int32) →
   (tg_ σ x0 = 8 ∧ (wX8_isNumber x0 ((x5 + (8 : Int64)) + (x9).toInt64) (1 : Int32) (0 : Int32) x3 σ (fun r6 σ7 => ((¬ r6 = 0 →
    wX8_paths_L269 post rc9 x0 x1 x3 x4 x5 x7 x9 σ7) ∧
   (r6 = 0 →
    post (0 : Int32) σ7)))))))))
def wX8_paths_L222 (post : Int32 → Hp → Prop) (rc9 : Int32 → Int64 → Int32 → Hp → Prop) (rc168 : Int32 → Int32 → Hp → Prop) (x0 : Nat) (x1 : Int64) (x3 : Int32) (x4 : Int32) (x5 : Int64) (x7 : Int32) (x8 : Nat) (x9 : Int32) (x11 : Int32) (s0 : Int32) (s1 : Int32) (s2 : Int64) (s3 : Nat) (σ : Hp) : Prop :=
(tg_ σ s3 = 8 ∧ (wX8_isNumber s3 s2 s1 s0 x3 σ (fun r10 σ11 => (∀ y12 : Int32, y12 = x11 + 1 → rc168 r10 y12 σ11))))
def wX8_paths_B168 (post : Int32 → Hp → Prop) (rc9 : Int32 → Int64 → Int32 → Hp → Prop) (rc168 : Int32 → Int32 → Hp → Prop) (x0 : Nat) (x1 : Int64) (x3 : Int32) (x4 : Int32) (x5 : Int64) (x7 : Int32) (x8 : Nat) (x9 : Int32) (x10 : Int32) (x11 : Int32) (σ : Hp) : Prop :=
((x9 ≤ x11 →
  wX8_paths_L234 post rc9 x0 x1 x3 x4 x5 x7 x9 x10 σ) ∧
 (¬ x9 ≤ x11 →
  ((x10 = 0 →
   wX8_paths_L234 post rc9 x0 x1 x3 x4 x5 x7 x9 x10 σ) ∧
  (¬ x10 = 0 →
   ((¬ x7 = 0 →
    (tg_ σ x8 = 10 ∧ wX8_paths_L222 post rc9 rc168 x0 x1 x3 x4 x5 x7 x8 x9 x11 ((((fL_ σ 9 5 x8) >>> ((((8 : Int32) * ((x9 - (1 : Int32)) - x11))).toInt64 &&& 63))).toInt32 &&& (255 : Int32)) (1 : Int32) ((x5 + (8 : Int64)) + (x11).toInt64) x0 σ)) ∧
   (x7 = 0 →
    wX8_paths_L222 post rc9 rc168 x0 x1 x3 x4 x5 x7 x8 x9 x11 (0 : Int32) (1 : Int32) ((x5 + (8 : Int64)) + (x11).toInt64) x0 σ))))))
def wX8_paths_L168 (post : Int32 → Hp → Prop) (rc9 : Int32 → Int64 → Int32 → Hp → Prop) (x0 : Nat) (x1 : Int64) (x3 : Int32) (x4 : Int32) (x5 : Int64) (x7 : Int32) (x8 : Nat) (x9 : Int32) (x10 : Int32) (x11 : Int32) (σ : Hp) : Prop :=
 ∃ (I : Int32 → Int32 → Hp → Prop) (μ : Int32 → Int32 → Hp → Nat), I x10 x11 σ ∧ ∀ (x10 : Int32) (x11 : Int32) (σ : Hp), I x10 x11 σ → wX8_paths_B168 post rc9 (fun x10' x11' σ' => I x10' x11' σ' ∧ μ x10' x11' σ' < μ x10 x11 σ) x0 x1 x3 x4 x5 x7 x8 x9 x10 x11 σ
def wX8_paths_L163 (post : Int32 → Hp → Prop) (rc9 : Int32 → Int64 → Int32 → Hp → Prop) (x0 : Nat) (x1 : Int64) (x3 : Int32) (x4 : Int32) (x5 : Int64) (x7 : Int32) (x8 : Nat) (x9 : Int32) (s0 : Int32) (σ : Hp) : Prop :=
wX8_paths_L168 post rc9 x0 x1 x3 x4 x5 x7 x8 x9 s0 (0 : Int32) σ
def wX8_paths_L162 (post : Int32 → Hp → Prop) (rc9 : Int32 → Int64 → Int32 → Hp → Prop) (x0 : Nat) (x1 : Int64) (x3 : Int32) (x4 : Int32) (x5 : Int64) (x7 : Int32) (x8 : Nat) (x9 : Int32) (σ : Hp) : Prop :=
wX8_paths_L163 post rc9 x0 x1 x3 x4 x5 x7 x8 x9 (0 : Int32) σ
def wX8_paths_L151 (post : Int32 → Hp → Prop) (rc9 : Int32 → Int64 → Int32 → Hp → Prop) (x0 : Nat) (x1 : Int64) (x3 : Int32) (x4 : Int32) (x5 : Int64) (x7 : Int32) (x8 : Nat) (x9 : Int32) (s0 : Int32) (s1 : Int32) (s2 : Int64) (s3 : Nat) (σ : Hp) : Prop :=
(tg_ σ s3 = 8 ∧ (wX8_isNumber s3 s2 s1 s0 x3 σ (fun r18 σ19 => ((r18 = 0 →
  wX8_paths_L162 post rc9 x0 x1 x3 x4 x5 x7 x8 x9 σ19) ∧
 (¬ r18 = 0 →
  wX8_paths_L163 post rc9 x0 x1 x3 x4 x5 x7 x8 x9 (1 : Int32) σ19)))))
def wX8_paths_L75 (post : Int32 → Hp → Prop) (rc9 : Int32 → Int64 → Int32 → Hp → Prop) (x0 : Nat) (x1 : Int64) (x3 : Int32) (x4 : Int32) (x5 : Int64) (x7 : Int32) (x8 : Nat) (s0 : Int32) (σ : Hp) : Prop :=
(tg_ σ x0 = 8 ∧ (wX8_isNumber x0 x5 (1 : Int32) s0 x3 σ (fun r22 σ23 => ((r22 = 0 →
  wX8_paths_L162 post rc9 x0 x1 x3 x4 x5 x7 x8 s0 σ23) ∧
 (¬ r22 = 0 →
  (tg_ σ23 x0 = 8 ∧ (wX8_isNumber x0 (x5 + (1 : Int64)) (1 : Int32) (0 : Int32) x3 σ23 (fun r26 σ27 => ((r26 = 0 →
   wX8_paths_L162 post rc9 x0 x1 x3 x4 x5 x7 x8 s0 σ27) ∧
  (¬ r26 = 0 →
   (tg_ σ27 x8 = 10 ∧ (tg_ σ27 x0 = 8 ∧ (wX8_isNumber x0 (x5 + (2 : Int64)) (4 : Int32) (fI_ σ27 9 2 x8) x3 σ27 (fun r31 σ32 => ((r31 = 0 →
    wX8_paths_L162 post rc9 x0 x1 x3 x4 x5 x7 x8 s0 σ32) ∧
   (¬ r31 = 0 →
    ((¬ x7 = 0 →
     (tg_ σ32 x0 = 8 ∧ (tg_ σ32 x8 = 10 ∧ (tg_ σ32 (fR_ σ32 7 9 x0) = 102 ∧ (vp_in (fI_ σ32 9 0 x8) (ln_ σ32 (fR_ σ32 7 9 x0)) ∧ wX8_paths_L151 post rc9 x0 x1 x3 x4 x5 x7 x8 s0 (aI_ σ32 (fR_ σ32 7 9 x0) ((fI_ σ32 9 0 x8)).toNatClampNeg) (2 : Int32) (x5 + (6 : Int64)) x0 σ32))))) ∧
    (x7 = 0 →
     wX8_paths_L151 post rc9 x0 x1 x3 x4 x5 x7 x8 s0 (1 : Int32) (2 : Int32) (x5 + (6 : Int64)) x0 σ32))))))))))))))))))
def wX8_paths_B9 (post : Int32 → Hp → Prop) (rc9 : Int32 → Int64 → Int32 → Hp → Prop) (x0 : Nat) (x1 : Int64) (x3 : Int32) (x4 : Int32) (x5 : Int64) (x7 : Int32) (σ : Hp) : Prop :=
(tg_ σ x0 = 8 ∧ (tg_ σ (fR_ σ 7 0 x0) = 11 ∧ (wJ2_size (fR_ σ 7 0 x0)  σ (fun r41 => ((r41 ≤ x7 →
  (∀ σ43, σ43 = sI_ σ 7 10 x0 ((x5 - x1)).toInt32 → post (1 : Int32) σ43)) ∧
 (¬ r41 ≤ x7 →
  (wJ2_get (fR_ σ 7 0 x0) x7 σ (fun r44 => ((r44 = 0 ∨ tg_ σ r44 = 10) ∧ (tg_ σ r44 = 10 ∧ ((¬ (fI_ σ 9 4 r44) = 0 →
   (∀ y48 : Int32, y48 = x4 + 1 → (tg_ σ (fR_ σ 7 9 x0) = 102 ∧ (lo_ σ < (fR_ σ 7 9 x0) ∧ (vp_in x7 (ln_ σ (fR_ σ 7 9 x0)) ∧ (∀ σ52, σ52 = wI_ σ (fR_ σ 7 9 x0) (x7).toNatClampNeg y48 → ((¬ x7 = 0 →
    (wX8_lettersOf (fL_ σ52 9 5 r44) σ52 (fun r54 => wX8_paths_L75 post rc9 x0 x1 x3 y48 x5 x7 r44 r54 σ52))) ∧
   (x7 = 0 →
    wX8_paths_L75 post rc9 x0 x1 x3 y48 x5 x7 r44 (1 : Int32) σ52)))))))) ∧
  ((fI_ σ 9 4 r44) = 0 →
   wX8_paths_L285 post rc9 x0 x1 x3 x4 x5 x7 σ))))))))))))
def wX8_paths_L9 (post : Int32 → Hp → Prop) (x0 : Nat) (x1 : Int64) (x3 : Int32) (x4 : Int32) (x5 : Int64) (x7 : Int32) (σ : Hp) : Prop :=
 ∃ (I : Int32 → Int64 → Int32 → Hp → Prop) (μ : Int32 → Int64 → Int32 → Hp → Nat), I x4 x5 x7 σ ∧ ∀ (x4 : Int32) (x5 : Int64) (x7 : Int32) (σ : Hp), I x4 x5 x7 σ → wX8_paths_B9 post (fun x4' x5' x7' σ' => I x4' x5' x7' σ' ∧ μ x4' x5' x7' σ' < μ x4 x5 x7 σ) x0 x1 x3 x4 x5 x7 σ
def wX8_paths (x0 : Nat) (x1 : Int64) (x3 : Int32) (σ : Hp) (post : Int32 → Hp → Prop) : Prop :=
wX8_paths_L9 post x0 x1 x3 (0 : Int32) x1 (0 : Int32) σ
set_option maxHeartbeats 4000000 in
theorem sX8_paths_L285 {G : GG_} {p : Program} {l : Launch} {e : Env} {R : Room} {s : State} {m : MethodId} {args : Array Value} {below : List Frame} {meth : Method} {c : Code} (Y : MX_ G p R s m args meth c cX8_paths 12 RX8 (some Jvm.ClassFile.FieldType.boolean) 4 84 0 0 "paths") {post : Int32 → Hp → Prop} {rc9 : Int32 → Int64 → Int32 → Hp → Prop} {x0 : Nat} {x1 : Int64} {x3 : Int32} {x4 : Int32} {x5 : Int64} {x7 : Int32} {σ : Hp} (hrc9 : ∀ (x4 : Int32) (x5 : Int64) (x7 : Int32) (σ : Hp), rc9 x4 x5 x7 σ → WG_ G p l e R s m args below meth c (MQ below (QI_ G post) args s 0 0 (FR_ G)) BN_ 12 9 [(0, rv_ x0), (1, .long x1), (3, .int x3), (4, .int x4), (5, .long x5), (7, .int x7)] [] σ) (hf : wX8_paths_L285 post rc9 x0 x1 x3 x4 x5 x7 σ) : WG_ G p l e R s m args below meth c (MQ below (QI_ G post) args s 0 0 (FR_ G)) BN_ 12 285 [(0, rv_ x0), (1, .long x1), (3, .int x3), (4, .int x4), (5, .long x5), (7, .int x7)] [] σ := by
  have ⟨X, hlk, hr, hRf, hRl, hRc, hnm⟩ := Y
  have ⟨⟨hx, hb, _, hown, hts⟩, _, _⟩ := X
  intro H locs cells slots ls hP hL hB hl
  obtain ⟨rfl, rfl⟩ := hB
  unfold wX8_paths_L285 at hf
  have hl := lv_sub hl [5, 0, 1, 2, 3, 4] rfl
  refine p_iincc (i := 7) (k := 1) hx hb (by decide) dX8_paths_285 hl (by decide) ⟨⟨ne_ rfl, Or.inl (ne_ rfl)⟩, ⟨⟨ne_ rfl, Or.inl (ne_ rfl)⟩, ⟨⟨ne_ rfl, Or.inl (ne_ rfl)⟩, ⟨⟨ne_ rfl, Or.inl (ne_ rfl)⟩, ⟨⟨ne_ rfl, Or.inl (ne_ rfl)⟩, trivial⟩⟩⟩⟩⟩ (fun y1 hy1 ls hl => ?_)
  have hf := hf y1 hy1
  refine lv_goto (tgt := 9) hx hb dX8_paths_288 (by decide) ?_
  exact hrc9 _ _ _ _ hf _ _ _ _ _ hP hL ⟨rfl, rfl⟩ (lv_sub hl [1, 2, 3, 4, 5, 0] rfl)
set_option maxHeartbeats 4000000 in
theorem sX8_paths_L269 {G : GG_} {p : Program} {l : Launch} {e : Env} {R : Room} {s : State} {m : MethodId} {args : Array Value} {below : List Frame} {meth : Method} {c : Code} (Y : MX_ G p R s m args meth c cX8_paths 12 RX8 (some Jvm.ClassFile.FieldType.boolean) 4 84 0 0 "paths") {post : Int32 → Hp → Prop} {rc9 : Int32 → Int64 → Int32 → Hp → Prop} {x0 : Nat} {x1 : Int64} {x3 : Int32} {x4 : Int32} {x5 : Int64} {x7 : Int32} {x9 : Int32} {σ : Hp} (hrc9 : ∀ (x4 : Int32) (x5 : Int64) (x7 : Int32) (σ : Hp), rc9 x4 x5 x7 σ → WG_ G p l e R s m args below meth c (MQ below (QI_ G post) args s 0 0 (FR_ G)) BN_ 12 9 [(0, rv_ x0), (1, .long x1), (3, .int x3), (4, .int x4), (5, .long x5), (7, .int x7)] [] σ) (hf : wX8_paths_L269 post rc9 x0 x1 x3 x4 x5 x7 x9 σ) : WG_ G p l e R s m args below meth c (MQ below (QI_ G post) args s 0 0 (FR_ G)) BN_ 12 269 [(0, rv_ x0), (1, .long x1), (3, .int x3), (4, .int x4), (5, .long x5), (7, .int x7), (9, .int x9)] [] σ := by
  have ⟨X, hlk, hr, hRf, hRl, hRc, hnm⟩ := Y
  have ⟨⟨hx, hb, _, hown, hts⟩, _, _⟩ := X
  intro H locs cells slots ls hP hL hB hl
  obtain ⟨rfl, rfl⟩ := hB
  unfold wX8_paths_L269 at hf
  refine lv_lload hx hb dX8_paths_269 (lv_at hl 4 rfl) ?_
  refine lv_bipush (v := 8) hx hb dX8_paths_271 (by decide) ?_
  refine lv_iload hx hb dX8_paths_273 (lv_at hl 6 rfl) ?_
  refine lv_iadd hx hb dX8_paths_275 ?_
  refine lv_iload hx hb dX8_paths_276 (lv_at hl 6 rfl) ?_
  refine lv_iconst (v := 1) hx hb dX8_paths_278 (by decide) ?_
  refine lv_iand hx hb dX8_paths_279 ?_
  refine lv_iadd hx hb dX8_paths_280 ?_
  refine lv_i2l hx hb dX8_paths_281 rfl ?_
  refine lv_ladd hx hb dX8_paths_282 ?_
  have hl := lv_sub hl [0, 1, 2, 3, 5] rfl
  refine lv_topl (fun y2 hy2 => ?_)
  have hf := hf y2 hy2
  refine p_lstore (i := 5) hx hb dX8_paths_283 hl (by decide) ⟨⟨ne_ rfl, ne_ rfl, Or.inl (ne_ rfl)⟩, ⟨⟨ne_ rfl, ne_ rfl, Or.inl (ne_ rfl)⟩, ⟨⟨ne_ rfl, ne_ rfl, Or.inl (ne_ rfl)⟩, ⟨⟨ne_ rfl, ne_ rfl, Or.inr rfl⟩, ⟨⟨ne_ rfl, ne_ rfl, Or.inl (ne_ rfl)⟩, trivial⟩⟩⟩⟩⟩ (fun ls hl => ?_)
  exact sX8_paths_L285 Y hrc9 hf _ _ _ _ _ hP hL ⟨rfl, rfl⟩ (lv_sub hl [1, 2, 3, 4, 0, 5] rfl)
set_option maxHeartbeats 4000000 in
theorem sX8_paths_L234 {G : GG_} {p : Program} {l : Launch} {e : Env} {R : Room} {s : State} {m : MethodId} {args : Array Value} {below : List Frame} {meth : Method} {c : Code} (Y : MX_ G p R s m args meth c cX8_paths 12 RX8 (some Jvm.ClassFile.FieldType.boolean) 4 84 0 0 "paths") {post : Int32 → Hp → Prop} {rc9 : Int32 → Int64 → Int32 → Hp → Prop} {x0 : Nat} {x1 : Int64} {x3 : Int32} {x4 : Int32} {x5 : Int64} {x7 : Int32} {x9 : Int32} {x10 : Int32} {σ : Hp} (hrc9 : ∀ (x4 : Int32) (x5 : Int64) (x7 : Int32) (σ : Hp), rc9 x4 x5 x7 σ → WG_ G p l e R s m args below meth c (MQ below (QI_ G post) args s 0 0 (FR_ G)) BN_ 12 9 [(0, rv_ x0), (1, .long x1), (3, .int x3), (4, .int x4), (5, .long x5), (7, .int x7)] [] σ) (hf : wX8_paths_L234 post rc9 x0 x1 x3 x4 x5 x7 x9 x10 σ) : WG_ G p l e R s m args below meth c (MQ below (QI_ G post) args s 0 0 (FR_ G)) BN_ 12 234 [(0, rv_ x0), (1, .long x1), (3, .int x3), (4, .int x4), (5, .long x5), (7, .int x7), (9, .int x9), (10, .int x10)] [] σ := by
  have ⟨X, hlk, hr, hRf, hRl, hRc, hnm⟩ := Y
  have ⟨⟨hx, hb, _, hown, hts⟩, _, _⟩ := X
  intro H locs cells slots ls hP hL hB hl
  obtain ⟨rfl, rfl⟩ := hB
  unfold wX8_paths_L234 at hf
  refine lv_iload hx hb dX8_paths_234 (lv_at hl 7 rfl) ?_
  refine lv_if_eq (tgt := 267) hx hb dX8_paths_236 (by decide) (fun c3 => ?_) (fun c3 => ?_)
  · have hf := hf.1 c3
    refine lv_iconst (v := 0) hx hb dX8_paths_267 (by decide) ?_
    exact p_zret X hlk hP hL (Nat.le_refl _) (Nat.le_refl _) hr nr_0 dX8_paths_268 hf
  · have hf := hf.2 c3
    refine lv_iload hx hb dX8_paths_239 (lv_at hl 6 rfl) ?_
    refine lv_iconst (v := 2) hx hb dX8_paths_241 (by decide) ?_
    refine lv_irem hx hb dX8_paths_242 (by decide) ?_
    refine lv_iconst (v := 1) hx hb dX8_paths_243 (by decide) ?_
    refine lv_icmp_ne (tgt := 269) hx hb dX8_paths_244 (by decide) (fun c4 => ?_) (fun c4 => ?_)
    · have hf := hf.1 c4
      exact sX8_paths_L269 Y hrc9 hf _ _ _ _ _ hP hL ⟨rfl, rfl⟩ (lv_sub hl [0, 1, 2, 3, 4, 5, 6] rfl)
    · have hf := hf.2 c4
      refine p_aload_n hx hb dX8_paths_247 rfl (lv_at hl 0 rfl) ?_
      refine lv_lload hx hb dX8_paths_248 (lv_at hl 4 rfl) ?_
      refine lv_ldc2 hx hb hown (hts _ q1131) dX8_paths_250 ?_
      refine lv_ladd hx hb dX8_paths_253 ?_
      refine lv_iload hx hb dX8_paths_254 (lv_at hl 6 rfl) ?_
      refine lv_i2l hx hb dX8_paths_256 rfl ?_
      refine lv_ladd hx hb dX8_paths_257 ?_
      refine lv_iconst (v := 1) hx hb dX8_paths_258 (by decide) ?_
      refine lv_iconst (v := 0) hx hb dX8_paths_259 (by decide) ?_
      refine lv_iload_n hx hb dX8_paths_260 rfl (lv_at hl 2 rfl) ?_
      obtain ⟨ht5, hf⟩ := hf
      refine p_calli hL (p_runV X cf7_ hP ht5 (metX8_isNumber l G _ _ _ _ _ _ _ X.2.2 hf) (cwV 4 hts (lw_V q1127 q1129 qs37 q105 q1130) rfl rfl rfl (by decide +kernel) ⟨Nat.le_trans (Nat.le_of_ble_eq_true rfl) hRf, Nat.le_trans (Nat.le_of_ble_eq_true rfl) hRl⟩) rfl hl.1 rfl (by decide) dX8_paths_261 ⟨Nat.zero_le _, Nat.zero_le _⟩) (fun r6 σ7 H locs hf hP hL => ?_)
      refine lv_if_ne (tgt := 269) hx hb dX8_paths_264 (by decide) (fun c8 => ?_) (fun c8 => ?_)
      · have hf := hf.1 c8
        exact sX8_paths_L269 Y hrc9 hf _ _ _ _ _ hP hL ⟨rfl, rfl⟩ (lv_sub hl [0, 1, 2, 3, 4, 5, 6] rfl)
      · have hf := hf.2 c8
        refine lv_iconst (v := 0) hx hb dX8_paths_267 (by decide) ?_
        exact p_zret X hlk hP hL (Nat.le_refl _) (Nat.le_refl _) hr nr_0 dX8_paths_268 hf
set_option maxHeartbeats 4000000 in
theorem sX8_paths_L222 {G : GG_} {p : Program} {l : Launch} {e : Env} {R : Room} {s : State} {m : MethodId} {args : Array Value} {below : List Frame} {meth : Method} {c : Code} (Y : MX_ G p R s m args meth c cX8_paths 12 RX8 (some Jvm.ClassFile.FieldType.boolean) 4 84 0 0 "paths") {post : Int32 → Hp → Prop} {rc9 : Int32 → Int64 → Int32 → Hp → Prop} {rc168 : Int32 → Int32 → Hp → Prop} {x0 : Nat} {x1 : Int64} {x3 : Int32} {x4 : Int32} {x5 : Int64} {x7 : Int32} {x8 : Nat} {x9 : Int32} {x11 : Int32} {s0 : Int32} {s1 : Int32} {s2 : Int64} {s3 : Nat} {σ : Hp} (hrc9 : ∀ (x4 : Int32) (x5 : Int64) (x7 : Int32) (σ : Hp), rc9 x4 x5 x7 σ → WG_ G p l e R s m args below meth c (MQ below (QI_ G post) args s 0 0 (FR_ G)) BN_ 12 9 [(0, rv_ x0), (1, .long x1), (3, .int x3), (4, .int x4), (5, .long x5), (7, .int x7)] [] σ) (hrc168 : ∀ (x10 : Int32) (x11 : Int32) (σ : Hp), rc168 x10 x11 σ → WG_ G p l e R s m args below meth c (MQ below (QI_ G post) args s 0 0 (FR_ G)) BN_ 12 168 [(0, rv_ x0), (1, .long x1), (3, .int x3), (4, .int x4), (5, .long x5), (7, .int x7), (8, rv_ x8), (9, .int x9), (10, .int x10), (11, .int x11)] [] σ) (hf : wX8_paths_L222 post rc9 rc168 x0 x1 x3 x4 x5 x7 x8 x9 x11 s0 s1 s2 s3 σ) : WG_ G p l e R s m args below meth c (MQ below (QI_ G post) args s 0 0 (FR_ G)) BN_ 12 222 [(0, rv_ x0), (1, .long x1), (3, .int x3), (4, .int x4), (5, .long x5), (7, .int x7), (8, rv_ x8), (9, .int x9), (11, .int x11)] [.int s0, .int s1, .long s2, rv_ s3] σ := by
  have ⟨X, hlk, hr, hRf, hRl, hRc, hnm⟩ := Y
  have ⟨⟨hx, hb, _, hown, hts⟩, _, _⟩ := X
  intro H locs cells slots ls hP hL hB hl
  obtain ⟨rfl, rfl⟩ := hB
  unfold wX8_paths_L222 at hf
  refine lv_iload_n hx hb dX8_paths_222 rfl (lv_at hl 2 rfl) ?_
  obtain ⟨ht9, hf⟩ := hf
  refine p_calli hL (p_runV X cf7_ hP ht9 (metX8_isNumber l G _ _ _ _ _ _ _ X.2.2 hf) (cwV 4 hts (lw_V q1127 q1129 qs37 q105 q1130) rfl rfl rfl (by decide +kernel) ⟨Nat.le_trans (Nat.le_of_ble_eq_true rfl) hRf, Nat.le_trans (Nat.le_of_ble_eq_true rfl) hRl⟩) rfl hl.1 rfl (by decide) dX8_paths_223 ⟨Nat.zero_le _, Nat.zero_le _⟩) (fun r10 σ11 H locs hf hP hL => ?_)
  refine p_istore (i := 10) hx hb dX8_paths_226 hl (by decide) ⟨⟨ne_ rfl, Or.inl (ne_ rfl)⟩, ⟨⟨ne_ rfl, Or.inl (ne_ rfl)⟩, ⟨⟨ne_ rfl, Or.inl (ne_ rfl)⟩, ⟨⟨ne_ rfl, Or.inl (ne_ rfl)⟩, ⟨⟨ne_ rfl, Or.inl (ne_ rfl)⟩, ⟨⟨ne_ rfl, Or.inl (ne_ rfl)⟩, ⟨⟨ne_ rfl, Or.inl (ne_ rfl)⟩, ⟨⟨ne_ rfl, Or.inr rfl⟩, ⟨⟨ne_ rfl, Or.inl (ne_ rfl)⟩, trivial⟩⟩⟩⟩⟩⟩⟩⟩⟩ (fun ls hl => ?_)
  have hl := lv_sub hl [9, 0, 1, 2, 3, 4, 5, 6, 7, 8] rfl
  refine p_iincc (i := 11) (k := 1) hx hb (by decide) dX8_paths_228 hl (by decide) ⟨⟨ne_ rfl, Or.inr rfl⟩, ⟨⟨ne_ rfl, Or.inl (ne_ rfl)⟩, ⟨⟨ne_ rfl, Or.inl (ne_ rfl)⟩, ⟨⟨ne_ rfl, Or.inl (ne_ rfl)⟩, ⟨⟨ne_ rfl, Or.inl (ne_ rfl)⟩, ⟨⟨ne_ rfl, Or.inl (ne_ rfl)⟩, ⟨⟨ne_ rfl, Or.inl (ne_ rfl)⟩, ⟨⟨ne_ rfl, Or.inl (ne_ rfl)⟩, ⟨⟨ne_ rfl, Or.inl (ne_ rfl)⟩, trivial⟩⟩⟩⟩⟩⟩⟩⟩⟩ (fun y12 hy12 ls hl => ?_)
  have hf := hf y12 hy12
  refine lv_goto (tgt := 168) hx hb dX8_paths_231 (by decide) ?_
  exact hrc168 _ _ _ hf _ _ _ _ _ hP hL ⟨rfl, rfl⟩ (lv_sub hl [2, 3, 4, 5, 6, 7, 8, 9, 1, 0] rfl)
set_option maxHeartbeats 4000000 in
theorem sX8_paths_B168 {G : GG_} {p : Program} {l : Launch} {e : Env} {R : Room} {s : State} {m : MethodId} {args : Array Value} {below : List Frame} {meth : Method} {c : Code} (Y : MX_ G p R s m args meth c cX8_paths 12 RX8 (some Jvm.ClassFile.FieldType.boolean) 4 84 0 0 "paths") {post : Int32 → Hp → Prop} {rc9 : Int32 → Int64 → Int32 → Hp → Prop} {rc168 : Int32 → Int32 → Hp → Prop} {x0 : Nat} {x1 : Int64} {x3 : Int32} {x4 : Int32} {x5 : Int64} {x7 : Int32} {x8 : Nat} {x9 : Int32} {x10 : Int32} {x11 : Int32} {σ : Hp} (hrc9 : ∀ (x4 : Int32) (x5 : Int64) (x7 : Int32) (σ : Hp), rc9 x4 x5 x7 σ → WG_ G p l e R s m args below meth c (MQ below (QI_ G post) args s 0 0 (FR_ G)) BN_ 12 9 [(0, rv_ x0), (1, .long x1), (3, .int x3), (4, .int x4), (5, .long x5), (7, .int x7)] [] σ) (hrc168 : ∀ (x10 : Int32) (x11 : Int32) (σ : Hp), rc168 x10 x11 σ → WG_ G p l e R s m args below meth c (MQ below (QI_ G post) args s 0 0 (FR_ G)) BN_ 12 168 [(0, rv_ x0), (1, .long x1), (3, .int x3), (4, .int x4), (5, .long x5), (7, .int x7), (8, rv_ x8), (9, .int x9), (10, .int x10), (11, .int x11)] [] σ) (hf : wX8_paths_B168 post rc9 rc168 x0 x1 x3 x4 x5 x7 x8 x9 x10 x11 σ) : WG_ G p l e R s m args below meth c (MQ below (QI_ G post) args s 0 0 (FR_ G)) BN_ 12 168 [(0, rv_ x0), (1, .long x1), (3, .int x3), (4, .int x4), (5, .long x5), (7, .int x7), (8, rv_ x8), (9, .int x9), (10, .int x10), (11, .int x11)] [] σ := by
  have ⟨X, hlk, hr, hRf, hRl, hRc, hnm⟩ := Y
  have ⟨⟨hx, hb, _, hown, hts⟩, _, _⟩ := X
  intro H locs cells slots ls hP hL hB hl
  obtain ⟨rfl, rfl⟩ := hB
  unfold wX8_paths_B168 at hf
  refine lv_iload hx hb dX8_paths_168 (lv_at hl 9 rfl) ?_
  refine lv_iload hx hb dX8_paths_170 (lv_at hl 7 rfl) ?_
  refine lv_icmp_ge (tgt := 234) hx hb dX8_paths_172 (by decide) (fun c13 => ?_) (fun c13 => ?_)
  · have hf := hf.1 c13
    exact sX8_paths_L234 Y hrc9 hf _ _ _ _ _ hP hL ⟨rfl, rfl⟩ (lv_sub hl [0, 1, 2, 3, 4, 5, 7, 8] rfl)
  · have hf := hf.2 c13
    refine lv_iload hx hb dX8_paths_175 (lv_at hl 8 rfl) ?_
    refine lv_if_eq (tgt := 234) hx hb dX8_paths_177 (by decide) (fun c14 => ?_) (fun c14 => ?_)
    · have hf := hf.1 c14
      exact sX8_paths_L234 Y hrc9 hf _ _ _ _ _ hP hL ⟨rfl, rfl⟩ (lv_sub hl [0, 1, 2, 3, 4, 5, 7, 8] rfl)
    · have hf := hf.2 c14
      refine p_aload_n hx hb dX8_paths_180 rfl (lv_at hl 0 rfl) ?_
      refine lv_lload hx hb dX8_paths_181 (lv_at hl 4 rfl) ?_
      refine lv_ldc2 hx hb hown (hts _ q1131) dX8_paths_183 ?_
      refine lv_ladd hx hb dX8_paths_186 ?_
      refine lv_iload hx hb dX8_paths_187 (lv_at hl 9 rfl) ?_
      refine lv_i2l hx hb dX8_paths_189 rfl ?_
      refine lv_ladd hx hb dX8_paths_190 ?_
      refine lv_iconst (v := 1) hx hb dX8_paths_191 (by decide) ?_
      refine lv_iload hx hb dX8_paths_192 (lv_at hl 5 rfl) ?_
      refine lv_if_ne (tgt := 201) hx hb dX8_paths_194 (by decide) (fun c15 => ?_) (fun c15 => ?_)
      · have hf := hf.1 c15
        refine p_aload hx hb dX8_paths_201 (lv_at hl 6 rfl) ?_
        obtain ⟨ht16, hf⟩ := hf
        refine p_gL X cf9_ (k := 5) (by decide) rfl hP ht16 q1069 (fun _ h => h) dX8_paths_203 ?_
        refine lv_bipush (v := 8) hx hb dX8_paths_206 (by decide) ?_
        refine lv_iload hx hb dX8_paths_208 (lv_at hl 7 rfl) ?_
        refine lv_iconst (v := 1) hx hb dX8_paths_210 (by decide) ?_
        refine lv_isub hx hb dX8_paths_211 ?_
        refine lv_iload hx hb dX8_paths_212 (lv_at hl 9 rfl) ?_
        refine lv_isub hx hb dX8_paths_214 ?_
        refine lv_imul hx hb dX8_paths_215 ?_
        refine lv_lshr hx hb dX8_paths_216 rfl ?_
        refine lv_l2i hx hb dX8_paths_217 rfl ?_
        refine lv_sipush (v := 255) hx hb dX8_paths_218 (by decide) ?_
        refine lv_iand hx hb dX8_paths_221 ?_
        exact sX8_paths_L222 Y hrc9 hrc168 hf _ _ _ _ _ hP hL ⟨rfl, rfl⟩ (lv_sub hl [0, 1, 2, 3, 4, 5, 6, 7, 9] rfl)
      · have hf := hf.2 c15
        refine lv_iconst (v := 0) hx hb dX8_paths_197 (by decide) ?_
        refine lv_goto (tgt := 222) hx hb dX8_paths_198 (by decide) ?_
        exact sX8_paths_L222 Y hrc9 hrc168 hf _ _ _ _ _ hP hL ⟨rfl, rfl⟩ (lv_sub hl [0, 1, 2, 3, 4, 5, 6, 7, 9] rfl)
set_option maxHeartbeats 4000000 in
theorem sX8_paths_L168 {G : GG_} {p : Program} {l : Launch} {e : Env} {R : Room} {s : State} {m : MethodId} {args : Array Value} {below : List Frame} {meth : Method} {c : Code} (Y : MX_ G p R s m args meth c cX8_paths 12 RX8 (some Jvm.ClassFile.FieldType.boolean) 4 84 0 0 "paths") {post : Int32 → Hp → Prop} {rc9 : Int32 → Int64 → Int32 → Hp → Prop} {x0 : Nat} {x1 : Int64} {x3 : Int32} {x4 : Int32} {x5 : Int64} {x7 : Int32} {x8 : Nat} {x9 : Int32} {x10 : Int32} {x11 : Int32} {σ : Hp} (hrc9 : ∀ (x4 : Int32) (x5 : Int64) (x7 : Int32) (σ : Hp), rc9 x4 x5 x7 σ → WG_ G p l e R s m args below meth c (MQ below (QI_ G post) args s 0 0 (FR_ G)) BN_ 12 9 [(0, rv_ x0), (1, .long x1), (3, .int x3), (4, .int x4), (5, .long x5), (7, .int x7)] [] σ) (hf : wX8_paths_L168 post rc9 x0 x1 x3 x4 x5 x7 x8 x9 x10 x11 σ) : WG_ G p l e R s m args below meth c (MQ below (QI_ G post) args s 0 0 (FR_ G)) BN_ 12 168 [(0, rv_ x0), (1, .long x1), (3, .int x3), (4, .int x4), (5, .long x5), (7, .int x7), (8, rv_ x8), (9, .int x9), (10, .int x10), (11, .int x11)] [] σ := by
  unfold wX8_paths_L168 at hf
  obtain ⟨I, μ, h0, hI⟩ := hf
  have key : ∀ (n : Nat) (x10 : Int32) (x11 : Int32) (σ : Hp), I x10 x11 σ → μ x10 x11 σ < n → WG_ G p l e R s m args below meth c (MQ below (QI_ G post) args s 0 0 (FR_ G)) BN_ 12 168 [(0, rv_ x0), (1, .long x1), (3, .int x3), (4, .int x4), (5, .long x5), (7, .int x7), (8, rv_ x8), (9, .int x9), (10, .int x10), (11, .int x11)] [] σ := by
    intro n
    induction n with
    | zero => intro x10 x11 σ _ h; exact absurd h (Nat.not_lt_zero _)
    | succ n ih => intro x10 x11 σ hi hn; exact sX8_paths_B168 Y hrc9 (fun x10' x11' σ' h => ih x10' x11' σ' h.1 (Nat.lt_of_lt_of_le h.2 (Nat.le_of_lt_succ hn))) (hI x10 x11 σ hi)
  exact key _ _ _ _ h0 (Nat.lt_succ_self _)
set_option maxHeartbeats 4000000 in
theorem sX8_paths_L163 {G : GG_} {p : Program} {l : Launch} {e : Env} {R : Room} {s : State} {m : MethodId} {args : Array Value} {below : List Frame} {meth : Method} {c : Code} (Y : MX_ G p R s m args meth c cX8_paths 12 RX8 (some Jvm.ClassFile.FieldType.boolean) 4 84 0 0 "paths") {post : Int32 → Hp → Prop} {rc9 : Int32 → Int64 → Int32 → Hp → Prop} {x0 : Nat} {x1 : Int64} {x3 : Int32} {x4 : Int32} {x5 : Int64} {x7 : Int32} {x8 : Nat} {x9 : Int32} {s0 : Int32} {σ : Hp} (hrc9 : ∀ (x4 : Int32) (x5 : Int64) (x7 : Int32) (σ : Hp), rc9 x4 x5 x7 σ → WG_ G p l e R s m args below meth c (MQ below (QI_ G post) args s 0 0 (FR_ G)) BN_ 12 9 [(0, rv_ x0), (1, .long x1), (3, .int x3), (4, .int x4), (5, .long x5), (7, .int x7)] [] σ) (hf : wX8_paths_L163 post rc9 x0 x1 x3 x4 x5 x7 x8 x9 s0 σ) : WG_ G p l e R s m args below meth c (MQ below (QI_ G post) args s 0 0 (FR_ G)) BN_ 12 163 [(0, rv_ x0), (1, .long x1), (3, .int x3), (4, .int x4), (5, .long x5), (7, .int x7), (8, rv_ x8), (9, .int x9)] [.int s0] σ := by
  have ⟨X, hlk, hr, hRf, hRl, hRc, hnm⟩ := Y
  have ⟨⟨hx, hb, _, hown, hts⟩, _, _⟩ := X
  intro H locs cells slots ls hP hL hB hl
  obtain ⟨rfl, rfl⟩ := hB
  unfold wX8_paths_L163 at hf
  refine p_istore (i := 10) hx hb dX8_paths_163 hl (by decide) ⟨⟨ne_ rfl, Or.inl (ne_ rfl)⟩, ⟨⟨ne_ rfl, Or.inl (ne_ rfl)⟩, ⟨⟨ne_ rfl, Or.inl (ne_ rfl)⟩, ⟨⟨ne_ rfl, Or.inl (ne_ rfl)⟩, ⟨⟨ne_ rfl, Or.inl (ne_ rfl)⟩, ⟨⟨ne_ rfl, Or.inl (ne_ rfl)⟩, ⟨⟨ne_ rfl, Or.inl (ne_ rfl)⟩, ⟨⟨ne_ rfl, Or.inr rfl⟩, trivial⟩⟩⟩⟩⟩⟩⟩⟩ (fun ls hl => ?_)
  refine lv_iconst (v := 0) hx hb dX8_paths_165 (by decide) ?_
  refine p_istore (i := 11) hx hb dX8_paths_166 hl (by decide) ⟨⟨ne_ rfl, Or.inr rfl⟩, ⟨⟨ne_ rfl, Or.inl (ne_ rfl)⟩, ⟨⟨ne_ rfl, Or.inl (ne_ rfl)⟩, ⟨⟨ne_ rfl, Or.inl (ne_ rfl)⟩, ⟨⟨ne_ rfl, Or.inl (ne_ rfl)⟩, ⟨⟨ne_ rfl, Or.inl (ne_ rfl)⟩, ⟨⟨ne_ rfl, Or.inl (ne_ rfl)⟩, ⟨⟨ne_ rfl, Or.inl (ne_ rfl)⟩, ⟨⟨ne_ rfl, Or.inl (ne_ rfl)⟩, trivial⟩⟩⟩⟩⟩⟩⟩⟩⟩ (fun ls hl => ?_)
  exact sX8_paths_L168 Y hrc9 hf _ _ _ _ _ hP hL ⟨rfl, rfl⟩ (lv_sub hl [2, 3, 4, 5, 6, 7, 8, 9, 1, 0] rfl)
set_option maxHeartbeats 4000000 in
theorem sX8_paths_L162 {G : GG_} {p : Program} {l : Launch} {e : Env} {R : Room} {s : State} {m : MethodId} {args : Array Value} {below : List Frame} {meth : Method} {c : Code} (Y : MX_ G p R s m args meth c cX8_paths 12 RX8 (some Jvm.ClassFile.FieldType.boolean) 4 84 0 0 "paths") {post : Int32 → Hp → Prop} {rc9 : Int32 → Int64 → Int32 → Hp → Prop} {x0 : Nat} {x1 : Int64} {x3 : Int32} {x4 : Int32} {x5 : Int64} {x7 : Int32} {x8 : Nat} {x9 : Int32} {σ : Hp} (hrc9 : ∀ (x4 : Int32) (x5 : Int64) (x7 : Int32) (σ : Hp), rc9 x4 x5 x7 σ → WG_ G p l e R s m args below meth c (MQ below (QI_ G post) args s 0 0 (FR_ G)) BN_ 12 9 [(0, rv_ x0), (1, .long x1), (3, .int x3), (4, .int x4), (5, .long x5), (7, .int x7)] [] σ) (hf : wX8_paths_L162 post rc9 x0 x1 x3 x4 x5 x7 x8 x9 σ) : WG_ G p l e R s m args below meth c (MQ below (QI_ G post) args s 0 0 (FR_ G)) BN_ 12 162 [(0, rv_ x0), (1, .long x1), (3, .int x3), (4, .int x4), (5, .long x5), (7, .int x7), (8, rv_ x8), (9, .int x9)] [] σ := by
  have ⟨X, hlk, hr, hRf, hRl, hRc, hnm⟩ := Y
  have ⟨⟨hx, hb, _, hown, hts⟩, _, _⟩ := X
  intro H locs cells slots ls hP hL hB hl
  obtain ⟨rfl, rfl⟩ := hB
  unfold wX8_paths_L162 at hf
  refine lv_iconst (v := 0) hx hb dX8_paths_162 (by decide) ?_
  exact sX8_paths_L163 Y hrc9 hf _ _ _ _ _ hP hL ⟨rfl, rfl⟩ (lv_sub hl [0, 1, 2, 3, 4, 5, 6, 7] rfl)
set_option maxHeartbeats 4000000 in
theorem sX8_paths_L151 {G : GG_} {p : Program} {l : Launch} {e : Env} {R : Room} {s : State} {m : MethodId} {args : Array Value} {below : List Frame} {meth : Method} {c : Code} (Y : MX_ G p R s m args meth c cX8_paths 12 RX8 (some Jvm.ClassFile.FieldType.boolean) 4 84 0 0 "paths") {post : Int32 → Hp → Prop} {rc9 : Int32 → Int64 → Int32 → Hp → Prop} {x0 : Nat} {x1 : Int64} {x3 : Int32} {x4 : Int32} {x5 : Int64} {x7 : Int32} {x8 : Nat} {x9 : Int32} {s0 : Int32} {s1 : Int32} {s2 : Int64} {s3 : Nat} {σ : Hp} (hrc9 : ∀ (x4 : Int32) (x5 : Int64) (x7 : Int32) (σ : Hp), rc9 x4 x5 x7 σ → WG_ G p l e R s m args below meth c (MQ below (QI_ G post) args s 0 0 (FR_ G)) BN_ 12 9 [(0, rv_ x0), (1, .long x1), (3, .int x3), (4, .int x4), (5, .long x5), (7, .int x7)] [] σ) (hf : wX8_paths_L151 post rc9 x0 x1 x3 x4 x5 x7 x8 x9 s0 s1 s2 s3 σ) : WG_ G p l e R s m args below meth c (MQ below (QI_ G post) args s 0 0 (FR_ G)) BN_ 12 151 [(0, rv_ x0), (1, .long x1), (3, .int x3), (4, .int x4), (5, .long x5), (7, .int x7), (8, rv_ x8), (9, .int x9)] [.int s0, .int s1, .long s2, rv_ s3] σ := by
  have ⟨X, hlk, hr, hRf, hRl, hRc, hnm⟩ := Y
  have ⟨⟨hx, hb, _, hown, hts⟩, _, _⟩ := X
  intro H locs cells slots ls hP hL hB hl
  obtain ⟨rfl, rfl⟩ := hB
  unfold wX8_paths_L151 at hf
  refine lv_iload_n hx hb dX8_paths_151 rfl (lv_at hl 2 rfl) ?_
  obtain ⟨ht17, hf⟩ := hf
  refine p_calli hL (p_runV X cf7_ hP ht17 (metX8_isNumber l G _ _ _ _ _ _ _ X.2.2 hf) (cwV 4 hts (lw_V q1127 q1129 qs37 q105 q1130) rfl rfl rfl (by decide +kernel) ⟨Nat.le_trans (Nat.le_of_ble_eq_true rfl) hRf, Nat.le_trans (Nat.le_of_ble_eq_true rfl) hRl⟩) rfl hl.1 rfl (by decide) dX8_paths_152 ⟨Nat.zero_le _, Nat.zero_le _⟩) (fun r18 σ19 H locs hf hP hL => ?_)
  refine lv_if_eq (tgt := 162) hx hb dX8_paths_155 (by decide) (fun c20 => ?_) (fun c20 => ?_)
  · have hf := hf.1 c20
    exact sX8_paths_L162 Y hrc9 hf _ _ _ _ _ hP hL ⟨rfl, rfl⟩ (lv_sub hl [0, 1, 2, 3, 4, 5, 6, 7] rfl)
  · have hf := hf.2 c20
    refine lv_iconst (v := 1) hx hb dX8_paths_158 (by decide) ?_
    refine lv_goto (tgt := 163) hx hb dX8_paths_159 (by decide) ?_
    exact sX8_paths_L163 Y hrc9 hf _ _ _ _ _ hP hL ⟨rfl, rfl⟩ (lv_sub hl [0, 1, 2, 3, 4, 5, 6, 7] rfl)
set_option maxHeartbeats 4000000 in
theorem sX8_paths_L75 {G : GG_} {p : Program} {l : Launch} {e : Env} {R : Room} {s : State} {m : MethodId} {args : Array Value} {below : List Frame} {meth : Method} {c : Code} (Y : MX_ G p R s m args meth c cX8_paths 12 RX8 (some Jvm.ClassFile.FieldType.boolean) 4 84 0 0 "paths") {post : Int32 → Hp → Prop} {rc9 : Int32 → Int64 → Int32 → Hp → Prop} {x0 : Nat} {x1 : Int64} {x3 : Int32} {x4 : Int32} {x5 : Int64} {x7 : Int32} {x8 : Nat} {s0 : Int32} {σ : Hp} (hrc9 : ∀ (x4 : Int32) (x5 : Int64) (x7 : Int32) (σ : Hp), rc9 x4 x5 x7 σ → WG_ G p l e R s m args below meth c (MQ below (QI_ G post) args s 0 0 (FR_ G)) BN_ 12 9 [(0, rv_ x0), (1, .long x1), (3, .int x3), (4, .int x4), (5, .long x5), (7, .int x7)] [] σ) (hf : wX8_paths_L75 post rc9 x0 x1 x3 x4 x5 x7 x8 s0 σ) : WG_ G p l e R s m args below meth c (MQ below (QI_ G post) args s 0 0 (FR_ G)) BN_ 12 75 [(0, rv_ x0), (1, .long x1), (3, .int x3), (4, .int x4), (5, .long x5), (7, .int x7), (8, rv_ x8)] [.int s0] σ := by
  have ⟨X, hlk, hr, hRf, hRl, hRc, hnm⟩ := Y
  have ⟨⟨hx, hb, _, hown, hts⟩, _, _⟩ := X
  intro H locs cells slots ls hP hL hB hl
  obtain ⟨rfl, rfl⟩ := hB
  unfold wX8_paths_L75 at hf
  refine p_istore (i := 9) hx hb dX8_paths_75 hl (by decide) ⟨⟨ne_ rfl, Or.inl (ne_ rfl)⟩, ⟨⟨ne_ rfl, Or.inl (ne_ rfl)⟩, ⟨⟨ne_ rfl, Or.inl (ne_ rfl)⟩, ⟨⟨ne_ rfl, Or.inl (ne_ rfl)⟩, ⟨⟨ne_ rfl, Or.inl (ne_ rfl)⟩, ⟨⟨ne_ rfl, Or.inl (ne_ rfl)⟩, ⟨⟨ne_ rfl, Or.inr (rv_cat _)⟩, trivial⟩⟩⟩⟩⟩⟩⟩ (fun ls hl => ?_)
  refine p_aload_n hx hb dX8_paths_77 rfl (lv_at hl 1 rfl) ?_
  refine lv_lload hx hb dX8_paths_78 (lv_at hl 5 rfl) ?_
  refine lv_iconst (v := 1) hx hb dX8_paths_80 (by decide) ?_
  refine lv_iload hx hb dX8_paths_81 (lv_at hl 0 rfl) ?_
  refine lv_iload_n hx hb dX8_paths_83 rfl (lv_at hl 3 rfl) ?_
  obtain ⟨ht21, hf⟩ := hf
  refine p_calli hL (p_runV X cf7_ hP ht21 (metX8_isNumber l G _ _ _ _ _ _ _ X.2.2 hf) (cwV 4 hts (lw_V q1127 q1129 qs37 q105 q1130) rfl rfl rfl (by decide +kernel) ⟨Nat.le_trans (Nat.le_of_ble_eq_true rfl) hRf, Nat.le_trans (Nat.le_of_ble_eq_true rfl) hRl⟩) rfl hl.1 rfl (by decide) dX8_paths_84 ⟨Nat.zero_le _, Nat.zero_le _⟩) (fun r22 σ23 H locs hf hP hL => ?_)
  refine lv_if_eq (tgt := 162) hx hb dX8_paths_87 (by decide) (fun c24 => ?_) (fun c24 => ?_)
  · have hf := hf.1 c24
    exact sX8_paths_L162 Y hrc9 hf _ _ _ _ _ hP hL ⟨rfl, rfl⟩ (lv_sub hl [1, 2, 3, 4, 5, 6, 7, 0] rfl)
  · have hf := hf.2 c24
    refine p_aload_n hx hb dX8_paths_90 rfl (lv_at hl 1 rfl) ?_
    refine lv_lload hx hb dX8_paths_91 (lv_at hl 5 rfl) ?_
    refine lv_lconst (v := 1) hx hb dX8_paths_93 (by decide) ?_
    refine lv_ladd hx hb dX8_paths_94 ?_
    refine lv_iconst (v := 1) hx hb dX8_paths_95 (by decide) ?_
    refine lv_iconst (v := 0) hx hb dX8_paths_96 (by decide) ?_
    refine lv_iload_n hx hb dX8_paths_97 rfl (lv_at hl 3 rfl) ?_
    obtain ⟨ht25, hf⟩ := hf
    refine p_calli hL (p_runV X cf7_ hP ht25 (metX8_isNumber l G _ _ _ _ _ _ _ X.2.2 hf) (cwV 4 hts (lw_V q1127 q1129 qs37 q105 q1130) rfl rfl rfl (by decide +kernel) ⟨Nat.le_trans (Nat.le_of_ble_eq_true rfl) hRf, Nat.le_trans (Nat.le_of_ble_eq_true rfl) hRl⟩) rfl hl.1 rfl (by decide) dX8_paths_98 ⟨Nat.zero_le _, Nat.zero_le _⟩) (fun r26 σ27 H locs hf hP hL => ?_)
    refine lv_if_eq (tgt := 162) hx hb dX8_paths_101 (by decide) (fun c28 => ?_) (fun c28 => ?_)
    · have hf := hf.1 c28
      exact sX8_paths_L162 Y hrc9 hf _ _ _ _ _ hP hL ⟨rfl, rfl⟩ (lv_sub hl [1, 2, 3, 4, 5, 6, 7, 0] rfl)
    · have hf := hf.2 c28
      refine p_aload_n hx hb dX8_paths_104 rfl (lv_at hl 1 rfl) ?_
      refine lv_lload hx hb dX8_paths_105 (lv_at hl 5 rfl) ?_
      refine lv_ldc2 hx hb hown (hts _ q1027) dX8_paths_107 ?_
      refine lv_ladd hx hb dX8_paths_110 ?_
      refine lv_iconst (v := 4) hx hb dX8_paths_111 (by decide) ?_
      refine p_aload hx hb dX8_paths_112 (lv_at hl 7 rfl) ?_
      obtain ⟨ht29, hf⟩ := hf
      refine p_gI X cf9_ (k := 2) (by decide) rfl hP ht29 q1062 (fun _ h => h) dX8_paths_114 ?_
      refine lv_iload_n hx hb dX8_paths_117 rfl (lv_at hl 3 rfl) ?_
      obtain ⟨ht30, hf⟩ := hf
      refine p_calli hL (p_runV X cf7_ hP ht30 (metX8_isNumber l G _ _ _ _ _ _ _ X.2.2 hf) (cwV 4 hts (lw_V q1127 q1129 qs37 q105 q1130) rfl rfl rfl (by decide +kernel) ⟨Nat.le_trans (Nat.le_of_ble_eq_true rfl) hRf, Nat.le_trans (Nat.le_of_ble_eq_true rfl) hRl⟩) rfl hl.1 rfl (by decide) dX8_paths_118 ⟨Nat.zero_le _, Nat.zero_le _⟩) (fun r31 σ32 H locs hf hP hL => ?_)
      refine lv_if_eq (tgt := 162) hx hb dX8_paths_121 (by decide) (fun c33 => ?_) (fun c33 => ?_)
      · have hf := hf.1 c33
        exact sX8_paths_L162 Y hrc9 hf _ _ _ _ _ hP hL ⟨rfl, rfl⟩ (lv_sub hl [1, 2, 3, 4, 5, 6, 7, 0] rfl)
      · have hf := hf.2 c33
        refine p_aload_n hx hb dX8_paths_124 rfl (lv_at hl 1 rfl) ?_
        refine lv_lload hx hb dX8_paths_125 (lv_at hl 5 rfl) ?_
        refine lv_ldc2 hx hb hown (hts _ q1007) dX8_paths_127 ?_
        refine lv_ladd hx hb dX8_paths_130 ?_
        refine lv_iconst (v := 2) hx hb dX8_paths_131 (by decide) ?_
        refine lv_iload hx hb dX8_paths_132 (lv_at hl 6 rfl) ?_
        refine lv_if_ne (tgt := 141) hx hb dX8_paths_134 (by decide) (fun c34 => ?_) (fun c34 => ?_)
        · have hf := hf.1 c34
          refine p_aload_n hx hb dX8_paths_141 rfl (lv_at hl 1 rfl) ?_
          obtain ⟨ht35, hf⟩ := hf
          refine p_gR X cf7_ (k := 9) (by decide) rfl hP ht35 q601 (fun _ h => h) dX8_paths_142 ?_
          refine p_aload hx hb dX8_paths_145 (lv_at hl 7 rfl) ?_
          obtain ⟨ht36, hf⟩ := hf
          refine p_gI X cf9_ (k := 0) (by decide) rfl hP ht36 q1059 (fun _ h => h) dX8_paths_147 ?_
          obtain ⟨ht37, hf⟩ := hf
          obtain ⟨hi38, hf⟩ := hf
          refine p_iald X hP ht37 hi38 dX8_paths_150 ?_
          exact sX8_paths_L151 Y hrc9 hf _ _ _ _ _ hP hL ⟨rfl, rfl⟩ (lv_sub hl [1, 2, 3, 4, 5, 6, 7, 0] rfl)
        · have hf := hf.2 c34
          refine lv_iconst (v := 1) hx hb dX8_paths_137 (by decide) ?_
          refine lv_goto (tgt := 151) hx hb dX8_paths_138 (by decide) ?_
          exact sX8_paths_L151 Y hrc9 hf _ _ _ _ _ hP hL ⟨rfl, rfl⟩ (lv_sub hl [1, 2, 3, 4, 5, 6, 7, 0] rfl)
set_option maxHeartbeats 4000000 in
theorem sX8_paths_B9 {G : GG_} {p : Program} {l : Launch} {e : Env} {R : Room} {s : State} {m : MethodId} {args : Array Value} {below : List Frame} {meth : Method} {c : Code} (Y : MX_ G p R s m args meth c cX8_paths 12 RX8 (some Jvm.ClassFile.FieldType.boolean) 4 84 0 0 "paths") {post : Int32 → Hp → Prop} {rc9 : Int32 → Int64 → Int32 → Hp → Prop} {x0 : Nat} {x1 : Int64} {x3 : Int32} {x4 : Int32} {x5 : Int64} {x7 : Int32} {σ : Hp} (hrc9 : ∀ (x4 : Int32) (x5 : Int64) (x7 : Int32) (σ : Hp), rc9 x4 x5 x7 σ → WG_ G p l e R s m args below meth c (MQ below (QI_ G post) args s 0 0 (FR_ G)) BN_ 12 9 [(0, rv_ x0), (1, .long x1), (3, .int x3), (4, .int x4), (5, .long x5), (7, .int x7)] [] σ) (hf : wX8_paths_B9 post rc9 x0 x1 x3 x4 x5 x7 σ) : WG_ G p l e R s m args below meth c (MQ below (QI_ G post) args s 0 0 (FR_ G)) BN_ 12 9 [(0, rv_ x0), (1, .long x1), (3, .int x3), (4, .int x4), (5, .long x5), (7, .int x7)] [] σ := by
  have ⟨X, hlk, hr, hRf, hRl, hRc, hnm⟩ := Y
  have ⟨⟨hx, hb, _, hown, hts⟩, _, _⟩ := X
  intro H locs cells slots ls hP hL hB hl
  obtain ⟨rfl, rfl⟩ := hB
  unfold wX8_paths_B9 at hf
  refine lv_iload hx hb dX8_paths_9 (lv_at hl 5 rfl) ?_
  refine p_aload_n hx hb dX8_paths_11 rfl (lv_at hl 0 rfl) ?_
  obtain ⟨ht39, hf⟩ := hf
  refine p_gR X cf7_ (k := 0) (by decide) rfl hP ht39 q590 (fun _ h => h) dX8_paths_12 ?_
  obtain ⟨ht40, hf⟩ := hf
  refine p_calli hL (p_runV X cf10_ hP ht40 (metJ2_size l G _ _ _ X.2.2 hf) (cwV 0 hts (lw_V q1089 q720 q721 q90 q722) rfl rfl rfl (by decide +kernel) ⟨Nat.le_trans (Nat.le_of_ble_eq_true rfl) hRf, Nat.le_trans (Nat.le_of_ble_eq_true rfl) hRl⟩) rfl hl.1 rfl (by rw [(ca_i ca_n)]; decide) dX8_paths_15 ⟨Nat.zero_le _, Nat.zero_le _⟩) (fun r41 σ₁ H locs hf hP hL => ?_)
  obtain ⟨e₁, hf⟩ := hf
  rw [e₁] at hP
  refine lv_icmp_ge (tgt := 291) hx hb dX8_paths_18 (by decide) (fun c42 => ?_) (fun c42 => ?_)
  · have hf := hf.1 c42
    refine p_aload_n hx hb dX8_paths_291 rfl (lv_at hl 0 rfl) ?_
    refine lv_lload hx hb dX8_paths_292 (lv_at hl 4 rfl) ?_
    refine lv_lload_n hx hb dX8_paths_294 rfl (lv_at hl 1 rfl) ?_
    refine lv_lsub hx hb dX8_paths_295 ?_
    refine lv_l2i hx hb dX8_paths_296 rfl ?_
    refine p_pI X cf7_ (k := 10) (by decide) rfl hP hL ht39 (p_ow hP ht39 rfl) q602 (fun _ h => h) (Or.inl rfl) rfl rfl dX8_paths_297 (fun H locs hP hL => ?_)
    refine p_nmP hP (fun σ43 hσ43 hP => ?_)
    have hf := hf σ43 hσ43
    have ht39 : tg_ σ43 x0 = 8 := by rw [hσ43]; exact ht39
    refine lv_iconst (v := 1) hx hb dX8_paths_300 (by decide) ?_
    exact p_zret X hlk hP hL (Nat.le_refl _) (Nat.le_refl _) hr nr_1 dX8_paths_301 hf
  · have hf := hf.2 c42
    refine p_aload_n hx hb dX8_paths_21 rfl (lv_at hl 0 rfl) ?_
    refine p_gR X cf7_ (k := 0) (by decide) rfl hP ht39 q590 (fun _ h => h) dX8_paths_22 ?_
    refine lv_iload hx hb dX8_paths_25 (lv_at hl 5 rfl) ?_
    refine p_callr hL (p_runV X cf10_ hP ht40 (metJ2_get l G _ _ _ _ X.2.2 hf) (cwV 1 hts (lw_V q1090 q724 q725 q90 q726) rfl rfl rfl (by decide +kernel) ⟨Nat.le_trans (Nat.le_of_ble_eq_true rfl) hRf, Nat.le_trans (Nat.le_of_ble_eq_true rfl) hRl⟩) rfl hl.1 rfl (by decide) dX8_paths_27 ⟨Nat.zero_le _, Nat.zero_le _⟩) (fun r44 σ₁ H locs hf hP hL => ?_)
    obtain ⟨e₁, hf⟩ := hf
    rw [e₁] at hP
    obtain ⟨hc45, hf⟩ := hf
    refine p_cast X cf9_ hP hc45 q588 dX8_paths_30 ?_
    refine p_astore (i := 8) hx hb dX8_paths_33 hl (by decide) ⟨⟨ne_ rfl, Or.inl (ne_ rfl)⟩, ⟨⟨ne_ rfl, Or.inl (ne_ rfl)⟩, ⟨⟨ne_ rfl, Or.inl (ne_ rfl)⟩, ⟨⟨ne_ rfl, Or.inl (ne_ rfl)⟩, ⟨⟨ne_ rfl, Or.inl (ne_ rfl)⟩, ⟨⟨ne_ rfl, Or.inr rfl⟩, trivial⟩⟩⟩⟩⟩⟩ (fun ls hl => ?_)
    refine p_aload hx hb dX8_paths_35 (lv_at hl 0 rfl) ?_
    obtain ⟨ht46, hf⟩ := hf
    refine p_gI X cf9_ (k := 4) (by decide) rfl hP ht46 q1067 (fun _ h => h) dX8_paths_37 ?_
    refine lv_if_ne (tgt := 46) hx hb dX8_paths_40 (by decide) (fun c47 => ?_) (fun c47 => ?_)
    · have hf := hf.1 c47
      have hl := lv_sub hl [4, 0, 1, 2, 3, 5, 6] rfl
      refine p_iincc (i := 4) (k := 1) hx hb (by decide) dX8_paths_46 hl (by decide) ⟨⟨ne_ rfl, Or.inl (ne_ rfl)⟩, ⟨⟨ne_ rfl, Or.inl (ne_ rfl)⟩, ⟨⟨ne_ rfl, Or.inl (ne_ rfl)⟩, ⟨⟨ne_ rfl, Or.inr rfl⟩, ⟨⟨ne_ rfl, Or.inl (ne_ rfl)⟩, ⟨⟨ne_ rfl, Or.inl (ne_ rfl)⟩, trivial⟩⟩⟩⟩⟩⟩ (fun y48 hy48 ls hl => ?_)
      have hf := hf y48 hy48
      refine p_aload_n hx hb dX8_paths_49 rfl (lv_at hl 2 rfl) ?_
      refine p_gR X cf7_ (k := 9) (by decide) rfl hP ht39 q601 (fun _ h => h) dX8_paths_50 ?_
      refine lv_iload hx hb dX8_paths_53 (lv_at hl 6 rfl) ?_
      refine lv_iload hx hb dX8_paths_55 (lv_at hl 0 rfl) ?_
      obtain ⟨ht49, hf⟩ := hf
      obtain ⟨hlo50, hf⟩ := hf
      obtain ⟨hi51, hf⟩ := hf
      refine p_iast X hP hL ht49 hlo50 hi51 dX8_paths_57 (fun H locs hP hL => ?_)
      refine p_nmP hP (fun σ52 hσ52 hP => ?_)
      have hf := hf σ52 hσ52
      have ht39 : tg_ σ52 x0 = 8 := by rw [hσ52]; exact ht39
      have ht46 : tg_ σ52 r44 = 10 := by rw [hσ52]; exact ht46
      refine lv_iload hx hb dX8_paths_58 (lv_at hl 6 rfl) ?_
      refine lv_if_ne (tgt := 67) hx hb dX8_paths_60 (by decide) (fun c53 => ?_) (fun c53 => ?_)
      · have hf := hf.1 c53
        refine p_aload hx hb dX8_paths_67 (lv_at hl 1 rfl) ?_
        refine p_gL X cf9_ (k := 5) (by decide) rfl hP ht46 q1069 (fun _ h => h) dX8_paths_69 ?_
        refine p_calli hL (p_runS X hP (metX8_lettersOf l G _ _ _ X.2.2 hf) (va_cwS 1 hts (lw_S q1124 q1125 q105 q1126) rfl rfl rfl (by decide +kernel) ⟨Nat.le_trans (Nat.le_of_ble_eq_true rfl) hRf, Nat.le_trans (Nat.le_of_ble_eq_true rfl) hRl⟩) rfl hl.1 rfl (by decide) dX8_paths_72 ⟨Nat.zero_le _, Nat.zero_le _⟩) (fun r54 σ₁ H locs hf hP hL => ?_)
        obtain ⟨e₁, hf⟩ := hf
        rw [e₁] at hP
        exact sX8_paths_L75 Y hrc9 hf _ _ _ _ _ hP hL ⟨rfl, rfl⟩ (lv_sub hl [2, 3, 4, 0, 5, 6, 1] rfl)
      · have hf := hf.2 c53
        refine lv_iconst (v := 1) hx hb dX8_paths_63 (by decide) ?_
        refine lv_goto (tgt := 75) hx hb dX8_paths_64 (by decide) ?_
        exact sX8_paths_L75 Y hrc9 hf _ _ _ _ _ hP hL ⟨rfl, rfl⟩ (lv_sub hl [2, 3, 4, 0, 5, 6, 1] rfl)
    · have hf := hf.2 c47
      refine lv_goto (tgt := 285) hx hb dX8_paths_43 (by decide) ?_
      exact sX8_paths_L285 Y hrc9 hf _ _ _ _ _ hP hL ⟨rfl, rfl⟩ (lv_sub hl [1, 2, 3, 4, 5, 6] rfl)
set_option maxHeartbeats 4000000 in
theorem sX8_paths_L9 {G : GG_} {p : Program} {l : Launch} {e : Env} {R : Room} {s : State} {m : MethodId} {args : Array Value} {below : List Frame} {meth : Method} {c : Code} (Y : MX_ G p R s m args meth c cX8_paths 12 RX8 (some Jvm.ClassFile.FieldType.boolean) 4 84 0 0 "paths") {post : Int32 → Hp → Prop} {x0 : Nat} {x1 : Int64} {x3 : Int32} {x4 : Int32} {x5 : Int64} {x7 : Int32} {σ : Hp} (hf : wX8_paths_L9 post x0 x1 x3 x4 x5 x7 σ) : WG_ G p l e R s m args below meth c (MQ below (QI_ G post) args s 0 0 (FR_ G)) BN_ 12 9 [(0, rv_ x0), (1, .long x1), (3, .int x3), (4, .int x4), (5, .long x5), (7, .int x7)] [] σ := by
  unfold wX8_paths_L9 at hf
  obtain ⟨I, μ, h0, hI⟩ := hf
  have key : ∀ (n : Nat) (x4 : Int32) (x5 : Int64) (x7 : Int32) (σ : Hp), I x4 x5 x7 σ → μ x4 x5 x7 σ < n → WG_ G p l e R s m args below meth c (MQ below (QI_ G post) args s 0 0 (FR_ G)) BN_ 12 9 [(0, rv_ x0), (1, .long x1), (3, .int x3), (4, .int x4), (5, .long x5), (7, .int x7)] [] σ := by
    intro n
    induction n with
    | zero => intro x4 x5 x7 σ _ h; exact absurd h (Nat.not_lt_zero _)
    | succ n ih => intro x4 x5 x7 σ hi hn; exact sX8_paths_B9 Y (fun x4' x5' x7' σ' h => ih x4' x5' x7' σ' h.1 (Nat.lt_of_lt_of_le h.2 (Nat.le_of_lt_succ hn))) (hI x4 x5 x7 σ hi)
  exact key _ _ _ _ _ h0 (Nat.lt_succ_self _)
set_option maxHeartbeats 4000000 in
theorem sX8_paths {G : GG_} {p : Program} {l : Launch} {e : Env} {R : Room} {s : State} {m : MethodId} {args : Array Value} {below : List Frame} {meth : Method} {c : Code} (Y : MX_ G p R s m args meth c cX8_paths 12 RX8 (some Jvm.ClassFile.FieldType.boolean) 4 84 0 0 "paths") {post : Int32 → Hp → Prop} {x0 : Nat} {x1 : Int64} {x3 : Int32} {σ : Hp} (hf : wX8_paths x0 x1 x3 σ post) : WG_ G p l e R s m args below meth c (MQ below (QI_ G post) args s 0 0 (FR_ G)) BN_ 12 0 [(0, rv_ x0), (1, .long x1), (3, .int x3)] [] σ := by
  have ⟨X, hlk, hr, hRf, hRl, hRc, hnm⟩ := Y
  have ⟨⟨hx, hb, _, hown, hts⟩, _, _⟩ := X
  intro H locs cells slots ls hP hL hB hl
  obtain ⟨rfl, rfl⟩ := hB
  unfold wX8_paths at hf
  refine lv_iconst (v := 0) hx hb dX8_paths_0 (by decide) ?_
  refine p_istore (i := 4) hx hb dX8_paths_1 hl (by decide) ⟨⟨ne_ rfl, Or.inl (ne_ rfl)⟩, ⟨⟨ne_ rfl, Or.inl (ne_ rfl)⟩, ⟨⟨ne_ rfl, Or.inr rfl⟩, trivial⟩⟩⟩ (fun ls hl => ?_)
  refine lv_lload_n hx hb dX8_paths_3 rfl (lv_at hl 2 rfl) ?_
  refine p_lstore (i := 5) hx hb dX8_paths_4 hl (by decide) ⟨⟨ne_ rfl, ne_ rfl, Or.inr rfl⟩, ⟨⟨ne_ rfl, ne_ rfl, Or.inl (ne_ rfl)⟩, ⟨⟨ne_ rfl, ne_ rfl, Or.inl (ne_ rfl)⟩, ⟨⟨ne_ rfl, ne_ rfl, Or.inl (ne_ rfl)⟩, trivial⟩⟩⟩⟩ (fun ls hl => ?_)
  refine lv_iconst (v := 0) hx hb dX8_paths_6 (by decide) ?_
  refine p_istore (i := 7) hx hb dX8_paths_7 hl (by decide) ⟨⟨ne_ rfl, Or.inl (ne_ rfl)⟩, ⟨⟨ne_ rfl, Or.inl (ne_ rfl)⟩, ⟨⟨ne_ rfl, Or.inl (ne_ rfl)⟩, ⟨⟨ne_ rfl, Or.inl (ne_ rfl)⟩, ⟨⟨ne_ rfl, Or.inl (ne_ rfl)⟩, trivial⟩⟩⟩⟩⟩ (fun ls hl => ?_)
  exact sX8_paths_L9 Y hf _ _ _ _ _ hP hL ⟨rfl, rfl⟩ (lv_sub hl [3, 4, 5, 2, 1, 0] rfl)
set_option maxHeartbeats 4000000 in
theorem metX8_paths (l : Launch) (G : GG_) (x0 : Nat) (x1 : Int64) (x3 : Int32) (σ : Hp) (post : Int32 → Hp → Prop) (hG : GOK_ G) (hf : wX8_paths x0 x1 x3 σ post) : Met l yX8_paths (ws_ yX8_paths cX8_paths 12 (some Jvm.ClassFile.FieldType.boolean)) { frames := 4, cells := 0, slots := 0, locals := 84 } (PC_ G [rv_ x0, .long x1, .int x3] σ) (QI_ G post) 0 0 (FR_ G) := by
  refine Met.ofW (cc := cX8_paths) (maxL := 12) (ret := (some Jvm.ClassFile.FieldType.boolean)) (by decide) rfl ?_
  intro p e s m args below meth c s₁ B hml hv
  obtain ⟨rfl, hP, hW⟩ := hv
  have hts := atoms_spec (ws := ws_ yX8_paths cX8_paths 12 (some Jvm.ClassFile.FieldType.boolean)) B.pre
  have hts : ∀ w ∈ lw_all, w.before _ s = true := fun w h => hts w (List.mem_cons_of_mem _ h)
  rw [lg_entry_eq]
  have hl := en_entry [rv_ x0, .long x1, .int x3] [1, 2, 1] (n := 12) (ca_r (ca_l (ca_i ca_n))) (by decide)
  exact sX8_paths ⟨⟨⟨B.exec, B.bytes, hml, findClass_of_methodNamed B.named, hts⟩, hW, hG⟩, B.notSynchronized, B.returns, Nat.le_refl _, Nat.le_refl _, ⟨rfl, rfl⟩, (name_of_methodNamed B.named B.method).1⟩ hf _ _ _ _ _ hP (LO_nil G) ⟨rfl, rfl⟩ hl
abbrev cX8_reads : ByteArray := prog_8_method_21_code
def yX8_reads : MethodName := ⟨RX8, "reads", "(J)Z"⟩
theorem dX8_reads_0 : decode cX8_reads 0 = .ok (.aload_n 0, 1) := by decide +kernel
theorem dX8_reads_1 : decode cX8_reads 1 = .ok (.getfield 12, 3) := by decide +kernel
theorem dX8_reads_4 : decode cX8_reads 4 = .ok (.invokevirtual 32, 3) := by decide +kernel
theorem dX8_reads_7 : decode cX8_reads 7 = .ok (.aload_n 0, 1) := by decide +kernel
theorem dX8_reads_8 : decode cX8_reads 8 = .ok (.iconst 0, 1) := by decide +kernel
theorem dX8_reads_9 : decode cX8_reads 9 = .ok (.putfield 118, 3) := by decide +kernel
theorem dX8_reads_12 : decode cX8_reads 12 = .ok (.lload_n 1, 1) := by decide +kernel
theorem dX8_reads_13 : decode cX8_reads 13 = .ok (.ldc2_w 196, 3) := by decide +kernel
theorem dX8_reads_16 : decode cX8_reads 16 = .ok (.ladd, 1) := by decide +kernel
theorem dX8_reads_17 : decode cX8_reads 17 = .ok (.ldc2_w 87, 3) := by decide +kernel
theorem dX8_reads_20 : decode cX8_reads 20 = .ok (.lmul, 1) := by decide +kernel
theorem dX8_reads_21 : decode cX8_reads 21 = .ok (.lstore_n 3, 1) := by decide +kernel
theorem dX8_reads_22 : decode cX8_reads 22 = .ok (.iconst 0, 1) := by decide +kernel
theorem dX8_reads_23 : decode cX8_reads 23 = .ok (.istore 5, 2) := by decide +kernel
theorem dX8_reads_25 : decode cX8_reads 25 = .ok (.iload 5, 2) := by decide +kernel
theorem dX8_reads_27 : decode cX8_reads 27 = .ok (.iconst 4, 1) := by decide +kernel
theorem dX8_reads_28 : decode cX8_reads 28 = .ok (.if_icmp .ge 43, 3) := by decide +kernel
theorem dX8_reads_31 : decode cX8_reads 31 = .ok (.aload_n 0, 1) := by decide +kernel
theorem dX8_reads_32 : decode cX8_reads 32 = .ok (.getfield 28, 3) := by decide +kernel
theorem dX8_reads_35 : decode cX8_reads 35 = .ok (.lload_n 1, 1) := by decide +kernel
theorem dX8_reads_36 : decode cX8_reads 36 = .ok (.ldc2_w 196, 3) := by decide +kernel
theorem dX8_reads_39 : decode cX8_reads 39 = .ok (.ladd, 1) := by decide +kernel
theorem dX8_reads_40 : decode cX8_reads 40 = .ok (.iload 5, 2) := by decide +kernel
theorem dX8_reads_42 : decode cX8_reads 42 = .ok (.i2l, 1) := by decide +kernel
theorem dX8_reads_43 : decode cX8_reads 43 = .ok (.ladd, 1) := by decide +kernel
theorem dX8_reads_44 : decode cX8_reads 44 = .ok (.lconst 1, 1) := by decide +kernel
theorem dX8_reads_45 : decode cX8_reads 45 = .ok (.invokevirtual 114, 3) := by decide +kernel
theorem dX8_reads_48 : decode cX8_reads 48 = .ok (.ifCond .ne 17, 3) := by decide +kernel
theorem dX8_reads_51 : decode cX8_reads 51 = .ok (.aload_n 0, 1) := by decide +kernel
theorem dX8_reads_52 : decode cX8_reads 52 = .ok (.lload_n 3, 1) := by decide +kernel
theorem dX8_reads_53 : decode cX8_reads 53 = .ok (.iload 5, 2) := by decide +kernel
theorem dX8_reads_55 : decode cX8_reads 55 = .ok (.sipush 2048, 3) := by decide +kernel
theorem dX8_reads_58 : decode cX8_reads 58 = .ok (.imul, 1) := by decide +kernel
theorem dX8_reads_59 : decode cX8_reads 59 = .ok (.i2l, 1) := by decide +kernel
theorem dX8_reads_60 : decode cX8_reads 60 = .ok (.ladd, 1) := by decide +kernel
theorem dX8_reads_61 : decode cX8_reads 61 = .ok (.invokevirtual 89, 3) := by decide +kernel
theorem dX8_reads_64 : decode cX8_reads 64 = .ok (.ireturn, 1) := by decide +kernel
theorem dX8_reads_65 : decode cX8_reads 65 = .ok (.iinc 5 1, 3) := by decide +kernel
theorem dX8_reads_68 : decode cX8_reads 68 = .ok (.goto (-43), 3) := by decide +kernel
theorem dX8_reads_71 : decode cX8_reads 71 = .ok (.iconst 0, 1) := by decide +kernel
theorem dX8_reads_72 : decode cX8_reads 72 = .ok (.istore 5, 2) := by decide +kernel
theorem dX8_reads_74 : decode cX8_reads 74 = .ok (.iload 5, 2) := by decide +kernel
theorem dX8_reads_76 : decode cX8_reads 76 = .ok (.iconst 2, 1) := by decide +kernel
theorem dX8_reads_77 : decode cX8_reads 77 = .ok (.if_icmp .ge 51, 3) := by decide +kernel
theorem dX8_reads_80 : decode cX8_reads 80 = .ok (.aload_n 0, 1) := by decide +kernel
theorem dX8_reads_81 : decode cX8_reads 81 = .ok (.lload_n 3, 1) := by decide +kernel
theorem dX8_reads_82 : decode cX8_reads 82 = .ok (.iload 5, 2) := by decide +kernel
theorem dX8_reads_84 : decode cX8_reads 84 = .ok (.sipush 2048, 3) := by decide +kernel
theorem dX8_reads_87 : decode cX8_reads 87 = .ok (.imul, 1) := by decide +kernel
theorem dX8_reads_88 : decode cX8_reads 88 = .ok (.i2l, 1) := by decide +kernel
theorem dX8_reads_89 : decode cX8_reads 89 = .ok (.ladd, 1) := by decide +kernel
theorem dX8_reads_90 : decode cX8_reads 90 = .ok (.iload 5, 2) := by decide +kernel
theorem dX8_reads_92 : decode cX8_reads 92 = .ok (.ifCond .ne 7, 3) := by decide +kernel
theorem dX8_reads_95 : decode cX8_reads 95 = .ok (.iconst 1, 1) := by decide +kernel
theorem dX8_reads_96 : decode cX8_reads 96 = .ok (.goto 6, 3) := by decide +kernel
theorem dX8_reads_99 : decode cX8_reads 99 = .ok (.sipush 255, 3) := by decide +kernel
theorem dX8_reads_102 : decode cX8_reads 102 = .ok (.invokevirtual 198, 3) := by decide +kernel
theorem dX8_reads_105 : decode cX8_reads 105 = .ok (.ifCond .ne 17, 3) := by decide +kernel
theorem dX8_reads_108 : decode cX8_reads 108 = .ok (.aload_n 0, 1) := by decide +kernel
theorem dX8_reads_109 : decode cX8_reads 109 = .ok (.lload_n 3, 1) := by decide +kernel
theorem dX8_reads_110 : decode cX8_reads 110 = .ok (.iload 5, 2) := by decide +kernel
theorem dX8_reads_112 : decode cX8_reads 112 = .ok (.sipush 2048, 3) := by decide +kernel
theorem dX8_reads_115 : decode cX8_reads 115 = .ok (.imul, 1) := by decide +kernel
theorem dX8_reads_116 : decode cX8_reads 116 = .ok (.i2l, 1) := by decide +kernel
theorem dX8_reads_117 : decode cX8_reads 117 = .ok (.ladd, 1) := by decide +kernel
theorem dX8_reads_118 : decode cX8_reads 118 = .ok (.invokevirtual 89, 3) := by decide +kernel
theorem dX8_reads_121 : decode cX8_reads 121 = .ok (.ireturn, 1) := by decide +kernel
theorem dX8_reads_122 : decode cX8_reads 122 = .ok (.iinc 5 1, 3) := by decide +kernel
theorem dX8_reads_125 : decode cX8_reads 125 = .ok (.goto (-51), 3) := by decide +kernel
theorem dX8_reads_128 : decode cX8_reads 128 = .ok (.aload_n 0, 1) := by decide +kernel
theorem dX8_reads_129 : decode cX8_reads 129 = .ok (.getfield 28, 3) := by decide +kernel
theorem dX8_reads_132 : decode cX8_reads 132 = .ok (.lload_n 3, 1) := by decide +kernel
theorem dX8_reads_133 : decode cX8_reads 133 = .ok (.ldc2_w 201, 3) := by decide +kernel
theorem dX8_reads_136 : decode cX8_reads 136 = .ok (.ladd, 1) := by decide +kernel
theorem dX8_reads_137 : decode cX8_reads 137 = .ok (.iconst 2, 1) := by decide +kernel
theorem dX8_reads_138 : decode cX8_reads 138 = .ok (.invokevirtual 95, 3) := by decide +kernel
theorem dX8_reads_141 : decode cX8_reads 141 = .ok (.ifCond .eq 22, 3) := by decide +kernel
theorem dX8_reads_144 : decode cX8_reads 144 = .ok (.aload_n 0, 1) := by decide +kernel
theorem dX8_reads_145 : decode cX8_reads 145 = .ok (.getfield 28, 3) := by decide +kernel
theorem dX8_reads_148 : decode cX8_reads 148 = .ok (.lload_n 3, 1) := by decide +kernel
theorem dX8_reads_149 : decode cX8_reads 149 = .ok (.ldc2_w 201, 3) := by decide +kernel
theorem dX8_reads_152 : decode cX8_reads 152 = .ok (.ladd, 1) := by decide +kernel
theorem dX8_reads_153 : decode cX8_reads 153 = .ok (.iconst 2, 1) := by decide +kernel
theorem dX8_reads_154 : decode cX8_reads 154 = .ok (.invokevirtual 110, 3) := by decide +kernel
theorem dX8_reads_157 : decode cX8_reads 157 = .ok (.sipush 2048, 3) := by decide +kernel
theorem dX8_reads_160 : decode cX8_reads 160 = .ok (.if_icmp .eq 13, 3) := by decide +kernel
theorem dX8_reads_163 : decode cX8_reads 163 = .ok (.aload_n 0, 1) := by decide +kernel
theorem dX8_reads_164 : decode cX8_reads 164 = .ok (.lload_n 3, 1) := by decide +kernel
theorem dX8_reads_165 : decode cX8_reads 165 = .ok (.ldc2_w 201, 3) := by decide +kernel
theorem dX8_reads_168 : decode cX8_reads 168 = .ok (.ladd, 1) := by decide +kernel
theorem dX8_reads_169 : decode cX8_reads 169 = .ok (.invokevirtual 89, 3) := by decide +kernel
theorem dX8_reads_172 : decode cX8_reads 172 = .ok (.ireturn, 1) := by decide +kernel
theorem dX8_reads_173 : decode cX8_reads 173 = .ok (.aload_n 0, 1) := by decide +kernel
theorem dX8_reads_174 : decode cX8_reads 174 = .ok (.getfield 28, 3) := by decide +kernel
theorem dX8_reads_177 : decode cX8_reads 177 = .ok (.lload_n 3, 1) := by decide +kernel
theorem dX8_reads_178 : decode cX8_reads 178 = .ok (.ldc2_w 203, 3) := by decide +kernel
theorem dX8_reads_181 : decode cX8_reads 181 = .ok (.ladd, 1) := by decide +kernel
theorem dX8_reads_182 : decode cX8_reads 182 = .ok (.iconst 4, 1) := by decide +kernel
theorem dX8_reads_183 : decode cX8_reads 183 = .ok (.invokevirtual 110, 3) := by decide +kernel
theorem dX8_reads_186 : decode cX8_reads 186 = .ok (.istore 5, 2) := by decide +kernel
theorem dX8_reads_188 : decode cX8_reads 188 = .ok (.aload_n 0, 1) := by decide +kernel
theorem dX8_reads_189 : decode cX8_reads 189 = .ok (.getfield 28, 3) := by decide +kernel
theorem dX8_reads_192 : decode cX8_reads 192 = .ok (.lload_n 3, 1) := by decide +kernel
theorem dX8_reads_193 : decode cX8_reads 193 = .ok (.ldc2_w 203, 3) := by decide +kernel
theorem dX8_reads_196 : decode cX8_reads 196 = .ok (.ladd, 1) := by decide +kernel
theorem dX8_reads_197 : decode cX8_reads 197 = .ok (.iconst 4, 1) := by decide +kernel
theorem dX8_reads_198 : decode cX8_reads 198 = .ok (.invokevirtual 95, 3) := by decide +kernel
theorem dX8_reads_201 : decode cX8_reads 201 = .ok (.ifCond .eq 16, 3) := by decide +kernel
theorem dX8_reads_204 : decode cX8_reads 204 = .ok (.iload 5, 2) := by decide +kernel
theorem dX8_reads_206 : decode cX8_reads 206 = .ok (.ifCond .lt 11, 3) := by decide +kernel
theorem dX8_reads_209 : decode cX8_reads 209 = .ok (.iload 5, 2) := by decide +kernel
theorem dX8_reads_211 : decode cX8_reads 211 = .ok (.sipush 2048, 3) := by decide +kernel
theorem dX8_reads_214 : decode cX8_reads 214 = .ok (.if_icmp .le 13, 3) := by decide +kernel
theorem dX8_reads_217 : decode cX8_reads 217 = .ok (.aload_n 0, 1) := by decide +kernel
theorem dX8_reads_218 : decode cX8_reads 218 = .ok (.lload_n 3, 1) := by decide +kernel
theorem dX8_reads_219 : decode cX8_reads 219 = .ok (.ldc2_w 203, 3) := by decide +kernel
theorem dX8_reads_222 : decode cX8_reads 222 = .ok (.ladd, 1) := by decide +kernel
theorem dX8_reads_223 : decode cX8_reads 223 = .ok (.invokevirtual 89, 3) := by decide +kernel
theorem dX8_reads_226 : decode cX8_reads 226 = .ok (.ireturn, 1) := by decide +kernel
theorem dX8_reads_227 : decode cX8_reads 227 = .ok (.aload_n 0, 1) := by decide +kernel
theorem dX8_reads_228 : decode cX8_reads 228 = .ok (.getfield 28, 3) := by decide +kernel
theorem dX8_reads_231 : decode cX8_reads 231 = .ok (.lload_n 3, 1) := by decide +kernel
theorem dX8_reads_232 : decode cX8_reads 232 = .ok (.ldc2_w 205, 3) := by decide +kernel
theorem dX8_reads_235 : decode cX8_reads 235 = .ok (.ladd, 1) := by decide +kernel
theorem dX8_reads_236 : decode cX8_reads 236 = .ok (.iconst 4, 1) := by decide +kernel
theorem dX8_reads_237 : decode cX8_reads 237 = .ok (.invokevirtual 110, 3) := by decide +kernel
theorem dX8_reads_240 : decode cX8_reads 240 = .ok (.i2l, 1) := by decide +kernel
theorem dX8_reads_241 : decode cX8_reads 241 = .ok (.lload_n 1, 1) := by decide +kernel
theorem dX8_reads_242 : decode cX8_reads 242 = .ok (.ldc2_w 207, 3) := by decide +kernel
theorem dX8_reads_245 : decode cX8_reads 245 = .ok (.ladd, 1) := by decide +kernel
theorem dX8_reads_246 : decode cX8_reads 246 = .ok (.lcmp, 1) := by decide +kernel
theorem dX8_reads_247 : decode cX8_reads 247 = .ok (.ifCond .eq 13, 3) := by decide +kernel
theorem dX8_reads_250 : decode cX8_reads 250 = .ok (.aload_n 0, 1) := by decide +kernel
theorem dX8_reads_251 : decode cX8_reads 251 = .ok (.lload_n 3, 1) := by decide +kernel
theorem dX8_reads_252 : decode cX8_reads 252 = .ok (.ldc2_w 205, 3) := by decide +kernel
theorem dX8_reads_255 : decode cX8_reads 255 = .ok (.ladd, 1) := by decide +kernel
theorem dX8_reads_256 : decode cX8_reads 256 = .ok (.invokevirtual 89, 3) := by decide +kernel
theorem dX8_reads_259 : decode cX8_reads 259 = .ok (.ireturn, 1) := by decide +kernel
theorem dX8_reads_260 : decode cX8_reads 260 = .ok (.iconst 1, 1) := by decide +kernel
theorem dX8_reads_261 : decode cX8_reads 261 = .ok (.istore 6, 2) := by decide +kernel
theorem dX8_reads_263 : decode cX8_reads 263 = .ok (.iconst 0, 1) := by decide +kernel
theorem dX8_reads_264 : decode cX8_reads 264 = .ok (.istore 7, 2) := by decide +kernel
theorem dX8_reads_266 : decode cX8_reads 266 = .ok (.iload 7, 2) := by decide +kernel
theorem dX8_reads_268 : decode cX8_reads 268 = .ok (.iconst 4, 1) := by decide +kernel
theorem dX8_reads_269 : decode cX8_reads 269 = .ok (.if_icmp .ge 59, 3) := by decide +kernel
theorem dX8_reads_272 : decode cX8_reads 272 = .ok (.iload 6, 2) := by decide +kernel
theorem dX8_reads_274 : decode cX8_reads 274 = .ok (.ifCond .eq 45, 3) := by decide +kernel
theorem dX8_reads_277 : decode cX8_reads 277 = .ok (.aload_n 0, 1) := by decide +kernel
theorem dX8_reads_278 : decode cX8_reads 278 = .ok (.getfield 28, 3) := by decide +kernel
theorem dX8_reads_281 : decode cX8_reads 281 = .ok (.lload_n 3, 1) := by decide +kernel
theorem dX8_reads_282 : decode cX8_reads 282 = .ok (.ldc2_w 209, 3) := by decide +kernel
theorem dX8_reads_285 : decode cX8_reads 285 = .ok (.ladd, 1) := by decide +kernel
theorem dX8_reads_286 : decode cX8_reads 286 = .ok (.iload 7, 2) := by decide +kernel
theorem dX8_reads_288 : decode cX8_reads 288 = .ok (.i2l, 1) := by decide +kernel
theorem dX8_reads_289 : decode cX8_reads 289 = .ok (.ladd, 1) := by decide +kernel
theorem dX8_reads_290 : decode cX8_reads 290 = .ok (.invokevirtual 39, 3) := by decide +kernel
theorem dX8_reads_293 : decode cX8_reads 293 = .ok (.i2l, 1) := by decide +kernel
theorem dX8_reads_294 : decode cX8_reads 294 = .ok (.lload_n 1, 1) := by decide +kernel
theorem dX8_reads_295 : decode cX8_reads 295 = .ok (.ldc2_w 211, 3) := by decide +kernel
theorem dX8_reads_298 : decode cX8_reads 298 = .ok (.ladd, 1) := by decide +kernel
theorem dX8_reads_299 : decode cX8_reads 299 = .ok (.bipush 8, 2) := by decide +kernel
theorem dX8_reads_301 : decode cX8_reads 301 = .ok (.iconst 3, 1) := by decide +kernel
theorem dX8_reads_302 : decode cX8_reads 302 = .ok (.iload 7, 2) := by decide +kernel
theorem dX8_reads_304 : decode cX8_reads 304 = .ok (.isub, 1) := by decide +kernel
theorem dX8_reads_305 : decode cX8_reads 305 = .ok (.imul, 1) := by decide +kernel
theorem dX8_reads_306 : decode cX8_reads 306 = .ok (.lshr, 1) := by decide +kernel
theorem dX8_reads_307 : decode cX8_reads 307 = .ok (.ldc2_w 213, 3) := by decide +kernel
theorem dX8_reads_310 : decode cX8_reads 310 = .ok (.land, 1) := by decide +kernel
theorem dX8_reads_311 : decode cX8_reads 311 = .ok (.lcmp, 1) := by decide +kernel
theorem dX8_reads_312 : decode cX8_reads 312 = .ok (.ifCond .ne 7, 3) := by decide +kernel
theorem dX8_reads_315 : decode cX8_reads 315 = .ok (.iconst 1, 1) := by decide +kernel
theorem dX8_reads_316 : decode cX8_reads 316 = .ok (.goto 4, 3) := by decide +kernel
theorem dX8_reads_319 : decode cX8_reads 319 = .ok (.iconst 0, 1) := by decide +kernel
theorem dX8_reads_320 : decode cX8_reads 320 = .ok (.istore 6, 2) := by decide +kernel
theorem dX8_reads_322 : decode cX8_reads 322 = .ok (.iinc 7 1, 3) := by decide +kernel
theorem dX8_reads_325 : decode cX8_reads 325 = .ok (.goto (-59), 3) := by decide +kernel
theorem dX8_reads_328 : decode cX8_reads 328 = .ok (.iload 6, 2) := by decide +kernel
theorem dX8_reads_330 : decode cX8_reads 330 = .ok (.ifCond .ne 13, 3) := by decide +kernel
theorem dX8_reads_333 : decode cX8_reads 333 = .ok (.aload_n 0, 1) := by decide +kernel
theorem dX8_reads_334 : decode cX8_reads 334 = .ok (.lload_n 3, 1) := by decide +kernel
theorem dX8_reads_335 : decode cX8_reads 335 = .ok (.ldc2_w 209, 3) := by decide +kernel
theorem dX8_reads_338 : decode cX8_reads 338 = .ok (.ladd, 1) := by decide +kernel
theorem dX8_reads_339 : decode cX8_reads 339 = .ok (.invokevirtual 89, 3) := by decide +kernel
theorem dX8_reads_342 : decode cX8_reads 342 = .ok (.ireturn, 1) := by decide +kernel
theorem dX8_reads_343 : decode cX8_reads 343 = .ok (.aload_n 0, 1) := by decide +kernel
theorem dX8_reads_344 : decode cX8_reads 344 = .ok (.lload_n 3, 1) := by decide +kernel
theorem dX8_reads_345 : decode cX8_reads 345 = .ok (.ldc2_w 215, 3) := by decide +kernel
theorem dX8_reads_348 : decode cX8_reads 348 = .ok (.ladd, 1) := by decide +kernel
theorem dX8_reads_349 : decode cX8_reads 349 = .ok (.iconst 0, 1) := by decide +kernel
theorem dX8_reads_350 : decode cX8_reads 350 = .ok (.invokevirtual 170, 3) := by decide +kernel
theorem dX8_reads_353 : decode cX8_reads 353 = .ok (.ifCond .ne 5, 3) := by decide +kernel
theorem dX8_reads_356 : decode cX8_reads 356 = .ok (.iconst 0, 1) := by decide +kernel
theorem dX8_reads_357 : decode cX8_reads 357 = .ok (.ireturn, 1) := by decide +kernel
theorem dX8_reads_358 : decode cX8_reads 358 = .ok (.aload_n 0, 1) := by decide +kernel
theorem dX8_reads_359 : decode cX8_reads 359 = .ok (.getfield 12, 3) := by decide +kernel
theorem dX8_reads_362 : decode cX8_reads 362 = .ok (.aload_n 0, 1) := by decide +kernel
theorem dX8_reads_363 : decode cX8_reads 363 = .ok (.lload_n 3, 1) := by decide +kernel
theorem dX8_reads_364 : decode cX8_reads 364 = .ok (.ldc2_w 215, 3) := by decide +kernel
theorem dX8_reads_367 : decode cX8_reads 367 = .ok (.ladd, 1) := by decide +kernel
theorem dX8_reads_368 : decode cX8_reads 368 = .ok (.iconst (-1), 1) := by decide +kernel
theorem dX8_reads_369 : decode cX8_reads 369 = .ok (.invokevirtual 154, 3) := by decide +kernel
theorem dX8_reads_372 : decode cX8_reads 372 = .ok (.invokevirtual 166, 3) := by decide +kernel
theorem dX8_reads_375 : decode cX8_reads 375 = .ok (.pop, 1) := by decide +kernel
theorem dX8_reads_376 : decode cX8_reads 376 = .ok (.iconst 0, 1) := by decide +kernel
theorem dX8_reads_377 : decode cX8_reads 377 = .ok (.istore 7, 2) := by decide +kernel
theorem dX8_reads_379 : decode cX8_reads 379 = .ok (.iload 7, 2) := by decide +kernel
theorem dX8_reads_381 : decode cX8_reads 381 = .ok (.aload_n 0, 1) := by decide +kernel
theorem dX8_reads_382 : decode cX8_reads 382 = .ok (.getfield 12, 3) := by decide +kernel
theorem dX8_reads_385 : decode cX8_reads 385 = .ok (.invokevirtual 144, 3) := by decide +kernel
theorem dX8_reads_388 : decode cX8_reads 388 = .ok (.if_icmp .ge 38, 3) := by decide +kernel
theorem dX8_reads_391 : decode cX8_reads 391 = .ok (.aload_n 0, 1) := by decide +kernel
theorem dX8_reads_392 : decode cX8_reads 392 = .ok (.getfield 12, 3) := by decide +kernel
theorem dX8_reads_395 : decode cX8_reads 395 = .ok (.iload 7, 2) := by decide +kernel
theorem dX8_reads_397 : decode cX8_reads 397 = .ok (.invokevirtual 147, 3) := by decide +kernel
theorem dX8_reads_400 : decode cX8_reads 400 = .ok (.checkcast 18, 3) := by decide +kernel
theorem dX8_reads_403 : decode cX8_reads 403 = .ok (.getfield 134, 3) := by decide +kernel
theorem dX8_reads_406 : decode cX8_reads 406 = .ok (.ifCond .eq 14, 3) := by decide +kernel
theorem dX8_reads_409 : decode cX8_reads 409 = .ok (.aload_n 0, 1) := by decide +kernel
theorem dX8_reads_410 : decode cX8_reads 410 = .ok (.iload 7, 2) := by decide +kernel
theorem dX8_reads_412 : decode cX8_reads 412 = .ok (.invokevirtual 217, 3) := by decide +kernel
theorem dX8_reads_415 : decode cX8_reads 415 = .ok (.ifCond .ne 5, 3) := by decide +kernel
theorem dX8_reads_418 : decode cX8_reads 418 = .ok (.iconst 0, 1) := by decide +kernel
theorem dX8_reads_419 : decode cX8_reads 419 = .ok (.ireturn, 1) := by decide +kernel
theorem dX8_reads_420 : decode cX8_reads 420 = .ok (.iinc 7 1, 3) := by decide +kernel
theorem dX8_reads_423 : decode cX8_reads 423 = .ok (.goto (-44), 3) := by decide +kernel
theorem dX8_reads_426 : decode cX8_reads 426 = .ok (.aload_n 0, 1) := by decide +kernel
theorem dX8_reads_427 : decode cX8_reads 427 = .ok (.lload_n 3, 1) := by decide +kernel
theorem dX8_reads_428 : decode cX8_reads 428 = .ok (.ldc2_w 219, 3) := by decide +kernel
theorem dX8_reads_431 : decode cX8_reads 431 = .ok (.ladd, 1) := by decide +kernel
theorem dX8_reads_432 : decode cX8_reads 432 = .ok (.iconst 1, 1) := by decide +kernel
theorem dX8_reads_433 : decode cX8_reads 433 = .ok (.invokevirtual 221, 3) := by decide +kernel
theorem dX8_reads_436 : decode cX8_reads 436 = .ok (.ifCond .eq 16, 3) := by decide +kernel
theorem dX8_reads_439 : decode cX8_reads 439 = .ok (.aload_n 0, 1) := by decide +kernel
theorem dX8_reads_440 : decode cX8_reads 440 = .ok (.lload_n 3, 1) := by decide +kernel
theorem dX8_reads_441 : decode cX8_reads 441 = .ok (.ldc2_w 225, 3) := by decide +kernel
theorem dX8_reads_444 : decode cX8_reads 444 = .ok (.ladd, 1) := by decide +kernel
theorem dX8_reads_445 : decode cX8_reads 445 = .ok (.iconst 0, 1) := by decide +kernel
theorem dX8_reads_446 : decode cX8_reads 446 = .ok (.invokevirtual 221, 3) := by decide +kernel
theorem dX8_reads_449 : decode cX8_reads 449 = .ok (.ifCond .ne 5, 3) := by decide +kernel
theorem dX8_reads_452 : decode cX8_reads 452 = .ok (.iconst 0, 1) := by decide +kernel
theorem dX8_reads_453 : decode cX8_reads 453 = .ok (.ireturn, 1) := by decide +kernel
theorem dX8_reads_454 : decode cX8_reads 454 = .ok (.aload_n 0, 1) := by decide +kernel
theorem dX8_reads_455 : decode cX8_reads 455 = .ok (.getfield 193, 3) := by decide +kernel
theorem dX8_reads_458 : decode cX8_reads 458 = .ok (.iload 5, 2) := by decide +kernel
theorem dX8_reads_460 : decode cX8_reads 460 = .ok (.if_icmp .eq 15, 3) := by decide +kernel
theorem dX8_reads_463 : decode cX8_reads 463 = .ok (.aload_n 0, 1) := by decide +kernel
theorem dX8_reads_464 : decode cX8_reads 464 = .ok (.lload_n 3, 1) := by decide +kernel
theorem dX8_reads_465 : decode cX8_reads 465 = .ok (.ldc2_w 203, 3) := by decide +kernel
theorem dX8_reads_468 : decode cX8_reads 468 = .ok (.ladd, 1) := by decide +kernel
theorem dX8_reads_469 : decode cX8_reads 469 = .ok (.invokevirtual 89, 3) := by decide +kernel
theorem dX8_reads_472 : decode cX8_reads 472 = .ok (.ifCond .eq 7, 3) := by decide +kernel
theorem dX8_reads_475 : decode cX8_reads 475 = .ok (.iconst 1, 1) := by decide +kernel
theorem dX8_reads_476 : decode cX8_reads 476 = .ok (.goto 4, 3) := by decide +kernel
theorem dX8_reads_479 : decode cX8_reads 479 = .ok (.iconst 0, 1) := by decide +kernel
theorem dX8_reads_480 : decode cX8_reads 480 = .ok (.ireturn, 1) := by decide +kernel
/-- WriteOnceDisc$Reader.reads(J)Z -/
def wX8_reads_L475 (post : Int32 → Hp → Prop) (σ : Hp) : Prop :=
post (1 : Int32) σ
def wX8_reads_L420 (post : Int32 → Hp → Prop) (rc379 : Int32 → Hp → Prop) (x0 : Nat) (x3 : Int64) (x5 : Int32) (x7 : Int32) (σ : Hp) : Prop :=
(∀ y1 : Int32, y1 = x7 + 1 → rc379 y1 σ)
def wX8_reads_B379 (post : Int32 → Hp → Prop) (rc379 : Int32 → Hp → Prop) (x0 : Nat) (x3 : Int64) (x5 : Int32) (x7 : Int32) (σ : Hp) : Prop :=
(tg_ σ x0 = 8 ∧ (tg_ σ (fR_ σ 7 0 x0) = 11 ∧ (wJ2_size (fR_ σ 7 0 x0)  σ (fun r4 => ((r4 ≤ x7 →
  (wX8_paths x0 (x3 + (4096 : Int64)) (1 : Int32) σ (fun r6 σ7 => (∀ σ8, σ8 = bu_ σ7 (bc_ σ) (bs_ σ) → ((r6 = 0 →
   post (0 : Int32) σ8) ∧
  (¬ r6 = 0 →
   (tg_ σ8 x0 = 8 ∧ (wX8_paths x0 (x3 + (6144 : Int64)) (0 : Int32) σ8 (fun r11 σ12 => (∀ σ13, σ13 = bu_ σ12 (bc_ σ8) (bs_ σ8) → ((¬ r11 = 0 →
    (tg_ σ13 x0 = 8 ∧ (((fI_ σ13 7 10 x0) = x5 →
     wX8_reads_L475 post σ13) ∧
    (¬ (fI_ σ13 7 10 x0) = x5 →
     (wX8_bad x0 (x3 + (132 : Int64)) σ13 (fun r17 σ18 => (∀ σ19, σ19 = bu_ σ18 (bc_ σ13) (bs_ σ13) → ((r17 = 0 →
      post (0 : Int32) σ19) ∧
     (¬ r17 = 0 →
      wX8_reads_L475 post σ19))))))))) ∧
   (r11 = 0 →
    post (0 : Int32) σ13)))))))))))) ∧
 (¬ r4 ≤ x7 →
  (wJ2_get (fR_ σ 7 0 x0) x7 σ (fun r21 => ((r21 = 0 ∨ tg_ σ r21 = 10) ∧ (tg_ σ r21 = 10 ∧ (((fI_ σ 9 4 r21) = 0 →
   wX8_reads_L420 post rc379 x0 x3 x5 x7 σ) ∧
  (¬ (fI_ σ 9 4 r21) = 0 →
   (∃ mc25 ms26 : Nat, (mc25 ≤ bc_ σ ∧ (ms26 ≤ bs_ σ ∧ (wX8_directory x0 x7 (bu_ σ mc25 ms26) (fun r29 σ30 => (∀ σ31, σ31 = bu_ σ30 (bc_ σ - mc25) (bs_ σ - ms26) → ((¬ r29 = 0 →
    wX8_reads_L420 post rc379 x0 x3 x5 x7 σ31) ∧
   (r29 = 0 →
    post (0 : Int32) σ31))))))))))))))))))))
def wX8_reads_L379 (post : Int32 → Hp → Prop) (x0 : Nat) (x3 : Int64) (x5 : Int32) (x7 : Int32) (σ : Hp) : Prop :=
 ∃ (I : Int32 → Hp → Prop) (μ : Int32 → Hp → Nat), I x7 σ ∧ ∀ (x7 : Int32) (σ : Hp), I x7 σ → wX8_reads_B379 post (fun x7' σ' => I x7' σ' ∧ μ x7' σ' < μ x7 σ) x0 x3 x5 x7 σ
def wX8_reads_L320 (post : Int32 → Hp → Prop) (rc266 : Int32 → Int32 → Prop) (x0 : Nat) (x1 : Int64) (x3 : Int64) (x5 : Int32) (x7 : Int32) (s0 : Int32) (σ : Hp) : Prop :=
(∀ y33 : Int32, y33 = x7 + 1 → rc266 s0 y33)
def wX8_reads_L319 (post : Int32 → Hp → Prop) (rc266 : Int32 → Int32 → Prop) (x0 : Nat) (x1 : Int64) (x3 : Int64) (x5 : Int32) (x7 : Int32) (σ : Hp) : Prop :=
wX8_reads_L320 post rc266 x0 x1 x3 x5 x7 (0 : Int32) σ
def wX8_reads_B266 (post : Int32 → Hp → Prop) (rc266 : Int32 → Int32 → Prop) (x0 : Nat) (x1 : Int64) (x3 : Int64) (x5 : Int32) (x6 : Int32) (x7 : Int32) (σ : Hp) : Prop :=
(((4 : Int32) ≤ x7 →
  ((¬ x6 = 0 →
   (tg_ σ x0 = 8 ∧ (wX8_sound x0 (x3 + (156 : Int64)) (0 : Int32) σ (fun r37 σ38 => (∀ σ39, σ39 = bu_ σ38 (bc_ σ) (bs_ σ) → ((¬ r37 = 0 →
    (tg_ σ39 x0 = 8 ∧ (∃ mc42 ms43 : Nat, (mc42 ≤ bc_ σ39 ∧ (ms43 ≤ bs_ σ39 ∧ (wX8_found x0 (x3 + (156 : Int64)) (-1 : Int32) (bu_ σ39 mc42 ms43) (fun r46 σ47 => (∀ σ48, σ48 = bu_ σ47 (bc_ σ39 - mc42) (bs_ σ39 - ms43) → (tg_ σ48 (fR_ σ39 7 0 x0) = 11 ∧ (∃ mc50 ms51 : Nat, (mc50 ≤ bc_ σ48 ∧ (ms51 ≤ bs_ σ48 ∧ (wJ2_add (fR_ σ39 7 0 x0) r46 (bu_ σ48 mc50 ms51) (fun r54 σ55 => (∀ σ56, σ56 = bu_ σ55 (bc_ σ48 - mc50) (bs_ σ48 - ms51) → wX8_reads_L379 post x0 x3 x5 (0 : Int32) σ56))))))))))))))) ∧
   (r37 = 0 →
    post (0 : Int32) σ39))))))) ∧
  (x6 = 0 →
   (tg_ σ x0 = 8 ∧ (wX8_bad x0 (x3 + (148 : Int64)) σ (fun r58 σ59 => (∀ σ60, σ60 = bu_ σ59 (bc_ σ) (bs_ σ) → (nr_ .boolean r58 ∧ post r58 σ60)))))))) ∧
 (¬ (4 : Int32) ≤ x7 →
  ((x6 = 0 →
   wX8_reads_L319 post rc266 x0 x1 x3 x5 x7 σ) ∧
  (¬ x6 = 0 →
   (tg_ σ x0 = 8 ∧ (tg_ σ (fR_ σ 7 3 x0) = 7 ∧ (wX7_at (fR_ σ 7 3 x0) ((x3 + (148 : Int64)) + (x7).toInt64) σ (fun r65 => ((¬ (lg_cmp (r65).toInt64 (((x1 + (19 : Int64)) >>> ((((8 : Int32) * ((3 : Int32) - x7))).toInt64 &&& 63)) &&& (255 : Int64))) = 0 →
    wX8_reads_L319 post rc266 x0 x1 x3 x5 x7 σ) ∧
   ((lg_cmp (r65).toInt64 (((x1 + (19 : Int64)) >>> ((((8 : Int32) * ((3 : Int32) - x7))).toInt64 &&& 63)) &&& (255 : Int64))) = 0 →
    wX8_reads_L320 post rc266 x0 x1 x3 x5 x7 (1 : Int32) σ))))))))))
def wX8_reads_L266 (post : Int32 → Hp → Prop) (x0 : Nat) (x1 : Int64) (x3 : Int64) (x5 : Int32) (x6 : Int32) (x7 : Int32) (σ : Hp) : Prop :=
 ∃ (I : Int32 → Int32 → Prop) (μ : Int32 → Int32 → Nat), I x6 x7 ∧ ∀ (x6 : Int32) (x7 : Int32), I x6 x7 → wX8_reads_B266 post (fun x6' x7' => I x6' x7' ∧ μ x6' x7' < μ x6 x7) x0 x1 x3 x5 x6 x7 σ
def wX8_reads_L217 (post : Int32 → Hp → Prop) (x0 : Nat) (x3 : Int64) (σ : Hp) : Prop :=
(tg_ σ x0 = 8 ∧ (wX8_bad x0 (x3 + (132 : Int64)) σ (fun r68 σ69 => (∀ σ70, σ70 = bu_ σ69 (bc_ σ) (bs_ σ) → (nr_ .boolean r68 ∧ post r68 σ70)))))
def wX8_reads_L163 (post : Int32 → Hp → Prop) (x0 : Nat) (x3 : Int64) (σ : Hp) : Prop :=
(tg_ σ x0 = 8 ∧ (wX8_bad x0 (x3 + (128 : Int64)) σ (fun r73 σ74 => (∀ σ75, σ75 = bu_ σ74 (bc_ σ) (bs_ σ) → (nr_ .boolean r73 ∧ post r73 σ75)))))
def wX8_reads_L102 (post : Int32 → Hp → Prop) (rc74 : Int32 → Prop) (x0 : Nat) (x1 : Int64) (x3 : Int64) (x5 : Int32) (s0 : Int32) (s1 : Int64) (s2 : Nat) (σ : Hp) : Prop :=
(tg_ σ s2 = 8 ∧ (wX8_isHead s2 s1 s0 σ (fun r78 => ((¬ r78 = 0 →
  (∀ y80 : Int32, y80 = x5 + 1 → rc74 y80)) ∧
 (r78 = 0 →
  (tg_ σ x0 = 8 ∧ (wX8_bad x0 (x3 + ((x5 * (2048 : Int32))).toInt64) σ (fun r82 σ83 => (∀ σ84, σ84 = bu_ σ83 (bc_ σ) (bs_ σ) → (nr_ .boolean r82 ∧ post r82 σ84))))))))))
def wX8_reads_B74 (post : Int32 → Hp → Prop) (rc74 : Int32 → Prop) (x0 : Nat) (x1 : Int64) (x3 : Int64) (x5 : Int32) (σ : Hp) : Prop :=
(((2 : Int32) ≤ x5 →
  (tg_ σ x0 = 8 ∧ (tg_ σ (fR_ σ 7 3 x0) = 7 ∧ (wX7_isBoth (fR_ σ 7 3 x0) (x3 + (128 : Int64)) (2 : Int32) σ (fun r89 => ((r89 = 0 →
   wX8_reads_L163 post x0 x3 σ) ∧
  (¬ r89 = 0 →
   (wX7_low (fR_ σ 7 3 x0) (x3 + (128 : Int64)) (2 : Int32) σ (fun r91 => ((r91 = (2048 : Int32) →
    (wX7_low (fR_ σ 7 3 x0) (x3 + (132 : Int64)) (4 : Int32) σ (fun r93 => (wX7_isBoth (fR_ σ 7 3 x0) (x3 + (132 : Int64)) (4 : Int32) σ (fun r94 => ((r94 = 0 →
     wX8_reads_L217 post x0 x3 σ) ∧
    (¬ r94 = 0 →
     ((r93 < 0 →
      wX8_reads_L217 post x0 x3 σ) ∧
     (¬ r93 < 0 →
      ((r93 ≤ (2048 : Int32) →
       (wX7_low (fR_ σ 7 3 x0) (x3 + (140 : Int64)) (4 : Int32) σ (fun r98 => (((lg_cmp (r98).toInt64 (x1 + (18 : Int64))) = 0 →
        wX8_reads_L266 post x0 x1 x3 r93 (1 : Int32) (0 : Int32) σ) ∧
       (¬ (lg_cmp (r98).toInt64 (x1 + (18 : Int64))) = 0 →
        (wX8_bad x0 (x3 + (140 : Int64)) σ (fun r100 σ101 => (∀ σ102, σ102 = bu_ σ101 (bc_ σ) (bs_ σ) → (nr_ .boolean r100 ∧ post r100 σ102))))))))) ∧
      (¬ r93 ≤ (2048 : Int32) →
       wX8_reads_L217 post x0 x3 σ))))))))))) ∧
   (¬ r91 = (2048 : Int32) →
    wX8_reads_L163 post x0 x3 σ))))))))))) ∧
 (¬ (2 : Int32) ≤ x5 →
  ((¬ x5 = 0 →
   wX8_reads_L102 post rc74 x0 x1 x3 x5 (255 : Int32) (x3 + ((x5 * (2048 : Int32))).toInt64) x0 σ) ∧
  (x5 = 0 →
   wX8_reads_L102 post rc74 x0 x1 x3 x5 (1 : Int32) (x3 + ((x5 * (2048 : Int32))).toInt64) x0 σ))))
def wX8_reads_L74 (post : Int32 → Hp → Prop) (x0 : Nat) (x1 : Int64) (x3 : Int64) (x5 : Int32) (σ : Hp) : Prop :=
 ∃ (I : Int32 → Prop) (μ : Int32 → Nat), I x5 ∧ ∀ (x5 : Int32), I x5 → wX8_reads_B74 post (fun x5' => I x5' ∧ μ x5' < μ x5) x0 x1 x3 x5 σ
def wX8_reads_B25 (post : Int32 → Hp → Prop) (rc25 : Int32 → Prop) (x0 : Nat) (x1 : Int64) (x3 : Int64) (x5 : Int32) (σ : Hp) : Prop :=
(((4 : Int32) ≤ x5 →
  wX8_reads_L74 post x0 x1 x3 (0 : Int32) σ) ∧
 (¬ (4 : Int32) ≤ x5 →
  (tg_ σ x0 = 8 ∧ (tg_ σ (fR_ σ 7 3 x0) = 7 ∧ (wX7_hasWritten (fR_ σ 7 3 x0) ((x1 + (16 : Int64)) + (x5).toInt64) (1 : Int64) σ (fun r108 => ((¬ r108 = 0 →
   (∀ y110 : Int32, y110 = x5 + 1 → rc25 y110)) ∧
  (r108 = 0 →
   (wX8_bad x0 (x3 + ((x5 * (2048 : Int32))).toInt64) σ (fun r111 σ112 => (∀ σ113, σ113 = bu_ σ112 (bc_ σ) (bs_ σ) → (nr_ .boolean r111 ∧ post r111 σ113))))))))))))
def wX8_reads_L25 (post : Int32 → Hp → Prop) (x0 : Nat) (x1 : Int64) (x3 : Int64) (x5 : Int32) (σ : Hp) : Prop :=
 ∃ (I : Int32 → Prop) (μ : Int32 → Nat), I x5 ∧ ∀ (x5 : Int32), I x5 → wX8_reads_B25 post (fun x5' => I x5' ∧ μ x5' < μ x5) x0 x1 x3 x5 σ
def wX8_reads (x0 : Nat) (x1 : Int64) (σ : Hp) (post : Int32 → Hp → Prop) : Prop :=
(tg_ σ x0 = 8 ∧ (tg_ σ (fR_ σ 7 0 x0) = 11 ∧ (wJ2_clear (fR_ σ 7 0 x0)  σ (fun σ117 => (∀ σ118, σ118 = bu_ σ117 (bc_ σ) (bs_ σ) → (tg_ σ118 x0 = 8 ∧ (∀ σ120, σ120 = sI_ σ118 7 2 x0 (0 : Int32) → (∀ y121 : Int64, y121 = ((x1 + (16 : Int64)) * (2048 : Int64)) → wX8_reads_L25 post x0 x1 y121 (0 : Int32) σ120))))))))
set_option maxHeartbeats 4000000 in
theorem sX8_reads_L475 {G : GG_} {p : Program} {l : Launch} {e : Env} {R : Room} {s : State} {m : MethodId} {args : Array Value} {below : List Frame} {meth : Method} {c : Code} {mc ms : Nat} (Y : MX_ G p R s m args meth c cX8_reads 8 RX8 (some Jvm.ClassFile.FieldType.boolean) 9 230 mc ms "reads") {post : Int32 → Hp → Prop} {σ : Hp} (hf : wX8_reads_L475 post σ) : WG_ G p l e R s m args below meth c (MQ below (QI_ G post) args s mc ms (FR_ G)) (BU_ R) 8 475 [] [] σ := by
  have ⟨X, hlk, hr, hRf, hRl, hRc, hnm⟩ := Y
  have ⟨⟨hx, hb, _, hown, hts⟩, _, _⟩ := X
  intro H locs cells slots ls hP hL hB hl
  unfold wX8_reads_L475 at hf
  refine lv_iconst (v := 1) hx hb dX8_reads_475 (by decide) ?_
  refine lv_goto (tgt := 480) hx hb dX8_reads_476 (by decide) ?_
  exact p_zret X hlk hP hL (BU_le hB hRc).1 (BU_le hB hRc).2 hr nr_1 dX8_reads_480 hf
set_option maxHeartbeats 4000000 in
theorem sX8_reads_L420 {G : GG_} {p : Program} {l : Launch} {e : Env} {R : Room} {s : State} {m : MethodId} {args : Array Value} {below : List Frame} {meth : Method} {c : Code} {mc ms : Nat} (Y : MX_ G p R s m args meth c cX8_reads 8 RX8 (some Jvm.ClassFile.FieldType.boolean) 9 230 mc ms "reads") {post : Int32 → Hp → Prop} {rc379 : Int32 → Hp → Prop} {x0 : Nat} {x3 : Int64} {x5 : Int32} {x7 : Int32} {σ : Hp} (hrc379 : ∀ (x7 : Int32) (σ : Hp), rc379 x7 σ → WG_ G p l e R s m args below meth c (MQ below (QI_ G post) args s mc ms (FR_ G)) (BU_ R) 8 379 [(0, rv_ x0), (3, .long x3), (5, .int x5), (7, .int x7)] [] σ) (hf : wX8_reads_L420 post rc379 x0 x3 x5 x7 σ) : WG_ G p l e R s m args below meth c (MQ below (QI_ G post) args s mc ms (FR_ G)) (BU_ R) 8 420 [(0, rv_ x0), (3, .long x3), (5, .int x5), (7, .int x7)] [] σ := by
  have ⟨X, hlk, hr, hRf, hRl, hRc, hnm⟩ := Y
  have ⟨⟨hx, hb, _, hown, hts⟩, _, _⟩ := X
  intro H locs cells slots ls hP hL hB hl
  unfold wX8_reads_L420 at hf
  have hl := lv_sub hl [3, 0, 1, 2] rfl
  refine p_iincc (i := 7) (k := 1) hx hb (by decide) dX8_reads_420 hl (by decide) ⟨⟨ne_ rfl, Or.inl (ne_ rfl)⟩, ⟨⟨ne_ rfl, Or.inl (ne_ rfl)⟩, ⟨⟨ne_ rfl, Or.inl (ne_ rfl)⟩, trivial⟩⟩⟩ (fun y1 hy1 ls hl => ?_)
  have hf := hf y1 hy1
  refine lv_goto (tgt := 379) hx hb dX8_reads_423 (by decide) ?_
  exact hrc379 _ _ hf _ _ _ _ _ hP hL hB (lv_sub hl [1, 2, 3, 0] rfl)
set_option maxHeartbeats 4000000 in
theorem sX8_reads_B379 {G : GG_} {p : Program} {l : Launch} {e : Env} {R : Room} {s : State} {m : MethodId} {args : Array Value} {below : List Frame} {meth : Method} {c : Code} {mc ms : Nat} (Y : MX_ G p R s m args meth c cX8_reads 8 RX8 (some Jvm.ClassFile.FieldType.boolean) 9 230 mc ms "reads") {post : Int32 → Hp → Prop} {rc379 : Int32 → Hp → Prop} {x0 : Nat} {x3 : Int64} {x5 : Int32} {x7 : Int32} {σ : Hp} (hrc379 : ∀ (x7 : Int32) (σ : Hp), rc379 x7 σ → WG_ G p l e R s m args below meth c (MQ below (QI_ G post) args s mc ms (FR_ G)) (BU_ R) 8 379 [(0, rv_ x0), (3, .long x3), (5, .int x5), (7, .int x7)] [] σ) (hf : wX8_reads_B379 post rc379 x0 x3 x5 x7 σ) : WG_ G p l e R s m args below meth c (MQ below (QI_ G post) args s mc ms (FR_ G)) (BU_ R) 8 379 [(0, rv_ x0), (3, .long x3), (5, .int x5), (7, .int x7)] [] σ := by
  have ⟨X, hlk, hr, hRf, hRl, hRc, hnm⟩ := Y
  have ⟨⟨hx, hb, _, hown, hts⟩, _, _⟩ := X
  intro H locs cells slots ls hP hL hB hl
  unfold wX8_reads_B379 at hf
  refine lv_iload hx hb dX8_reads_379 (lv_at hl 3 rfl) ?_
  refine p_aload_n hx hb dX8_reads_381 rfl (lv_at hl 0 rfl) ?_
  obtain ⟨ht2, hf⟩ := hf
  refine p_gR X cf7_ (k := 0) (by decide) rfl hP ht2 q590 (fun _ h => h) dX8_reads_382 ?_
  obtain ⟨ht3, hf⟩ := hf
  refine p_calli hL (p_runV X cf10_ hP ht3 (metJ2_size l G _ _ _ X.2.2 hf) (cwV 0 hts (lw_V q1089 q720 q721 q90 q722) rfl rfl rfl (by decide +kernel) ⟨Nat.le_trans (Nat.le_of_ble_eq_true rfl) hRf, Nat.le_trans (Nat.le_of_ble_eq_true rfl) hRl⟩) rfl hl.1 rfl (by rw [(ca_i ca_n)]; decide) dX8_reads_385 (BU_call hB (Nat.zero_le _) (Nat.zero_le _))) (fun r4 σ₁ H locs hf hP hL => ?_)
  obtain ⟨e₁, hf⟩ := hf
  rw [e₁] at hP
  refine lv_icmp_ge (tgt := 426) hx hb dX8_reads_388 (by decide) (fun c5 => ?_) (fun c5 => ?_)
  · have hf := hf.1 c5
    refine p_aload_n hx hb dX8_reads_426 rfl (lv_at hl 0 rfl) ?_
    refine lv_lload_n hx hb dX8_reads_427 rfl (lv_at hl 1 rfl) ?_
    refine lv_ldc2 hx hb hown (hts _ q1119) dX8_reads_428 ?_
    refine lv_ladd hx hb dX8_reads_431 ?_
    refine lv_iconst (v := 1) hx hb dX8_reads_432 (by decide) ?_
    refine p_calli hL (p_runV X cf7_ hP ht2 (metX8_paths l G _ _ _ _ _ X.2.2 hf) (cwV 2 hts (lw_V q1120 q1122 qs36 q105 q1123) rfl rfl rfl (by decide +kernel) ⟨Nat.le_trans (Nat.le_of_ble_eq_true rfl) hRf, Nat.le_trans (Nat.le_of_ble_eq_true rfl) hRl⟩) rfl hl.1 rfl (by decide) dX8_reads_433 (BU_call hB (Nat.zero_le _) (Nat.zero_le _))) (fun r6 σ7 H locs hf hP hL => ?_)
    have hB := BU_keep (τ := σ7) hB
    have hP := Pic_bu hP (bc_ σ) (bs_ σ)
    refine p_nmPB hP hB (fun σ8 hσ8 hP hB => ?_)
    have hf := hf σ8 hσ8
    refine lv_if_eq (tgt := 452) hx hb dX8_reads_436 (by decide) (fun c9 => ?_) (fun c9 => ?_)
    · have hf := hf.1 c9
      refine lv_iconst (v := 0) hx hb dX8_reads_452 (by decide) ?_
      exact p_zret X hlk hP hL (BU_le hB hRc).1 (BU_le hB hRc).2 hr nr_0 dX8_reads_453 hf
    · have hf := hf.2 c9
      refine p_aload_n hx hb dX8_reads_439 rfl (lv_at hl 0 rfl) ?_
      refine lv_lload_n hx hb dX8_reads_440 rfl (lv_at hl 1 rfl) ?_
      refine lv_ldc2 hx hb hown (hts _ q1132) dX8_reads_441 ?_
      refine lv_ladd hx hb dX8_reads_444 ?_
      refine lv_iconst (v := 0) hx hb dX8_reads_445 (by decide) ?_
      obtain ⟨ht10, hf⟩ := hf
      refine p_calli hL (p_runV X cf7_ hP ht10 (metX8_paths l G _ _ _ _ _ X.2.2 hf) (cwV 2 hts (lw_V q1120 q1122 qs36 q105 q1123) rfl rfl rfl (by decide +kernel) ⟨Nat.le_trans (Nat.le_of_ble_eq_true rfl) hRf, Nat.le_trans (Nat.le_of_ble_eq_true rfl) hRl⟩) rfl hl.1 rfl (by decide) dX8_reads_446 (BU_call hB (Nat.zero_le _) (Nat.zero_le _))) (fun r11 σ12 H locs hf hP hL => ?_)
      have hB := BU_keep (τ := σ12) hB
      have hP := Pic_bu hP (bc_ σ8) (bs_ σ8)
      refine p_nmPB hP hB (fun σ13 hσ13 hP hB => ?_)
      have hf := hf σ13 hσ13
      refine lv_if_ne (tgt := 454) hx hb dX8_reads_449 (by decide) (fun c14 => ?_) (fun c14 => ?_)
      · have hf := hf.1 c14
        refine p_aload_n hx hb dX8_reads_454 rfl (lv_at hl 0 rfl) ?_
        obtain ⟨ht15, hf⟩ := hf
        refine p_gI X cf7_ (k := 10) (by decide) rfl hP ht15 q602 (fun _ h => h) dX8_reads_455 ?_
        refine lv_iload hx hb dX8_reads_458 (lv_at hl 2 rfl) ?_
        refine lv_icmp_eq (tgt := 475) hx hb dX8_reads_460 (by decide) (fun c16 => ?_) (fun c16 => ?_)
        · have hf := hf.1 c16
          exact sX8_reads_L475 Y hf _ _ _ _ _ hP hL hB (lv_sub hl [] rfl)
        · have hf := hf.2 c16
          refine p_aload_n hx hb dX8_reads_463 rfl (lv_at hl 0 rfl) ?_
          refine lv_lload_n hx hb dX8_reads_464 rfl (lv_at hl 1 rfl) ?_
          refine lv_ldc2 hx hb hown (hts _ q1014) dX8_reads_465 ?_
          refine lv_ladd hx hb dX8_reads_468 ?_
          refine p_calli hL (p_runV X cf7_ hP ht15 (metX8_bad l G _ _ _ _ X.2.2 hf) (cwV 1 hts (lw_V q996 q998 qs21 q105 q999) rfl rfl rfl (by decide +kernel) ⟨Nat.le_trans (Nat.le_of_ble_eq_true rfl) hRf, Nat.le_trans (Nat.le_of_ble_eq_true rfl) hRl⟩) rfl hl.1 rfl (by decide) dX8_reads_469 (BU_call hB (Nat.zero_le _) (Nat.zero_le _))) (fun r17 σ18 H locs hf hP hL => ?_)
          have hB := BU_keep (τ := σ18) hB
          have hP := Pic_bu hP (bc_ σ13) (bs_ σ13)
          refine p_nmPB hP hB (fun σ19 hσ19 hP hB => ?_)
          have hf := hf σ19 hσ19
          refine lv_if_eq (tgt := 479) hx hb dX8_reads_472 (by decide) (fun c20 => ?_) (fun c20 => ?_)
          · have hf := hf.1 c20
            refine lv_iconst (v := 0) hx hb dX8_reads_479 (by decide) ?_
            exact p_zret X hlk hP hL (BU_le hB hRc).1 (BU_le hB hRc).2 hr nr_0 dX8_reads_480 hf
          · have hf := hf.2 c20
            exact sX8_reads_L475 Y hf _ _ _ _ _ hP hL hB (lv_sub hl [] rfl)
      · have hf := hf.2 c14
        refine lv_iconst (v := 0) hx hb dX8_reads_452 (by decide) ?_
        exact p_zret X hlk hP hL (BU_le hB hRc).1 (BU_le hB hRc).2 hr nr_0 dX8_reads_453 hf
  · have hf := hf.2 c5
    refine p_aload_n hx hb dX8_reads_391 rfl (lv_at hl 0 rfl) ?_
    refine p_gR X cf7_ (k := 0) (by decide) rfl hP ht2 q590 (fun _ h => h) dX8_reads_392 ?_
    refine lv_iload hx hb dX8_reads_395 (lv_at hl 3 rfl) ?_
    refine p_callr hL (p_runV X cf10_ hP ht3 (metJ2_get l G _ _ _ _ X.2.2 hf) (cwV 1 hts (lw_V q1090 q724 q725 q90 q726) rfl rfl rfl (by decide +kernel) ⟨Nat.le_trans (Nat.le_of_ble_eq_true rfl) hRf, Nat.le_trans (Nat.le_of_ble_eq_true rfl) hRl⟩) rfl hl.1 rfl (by decide) dX8_reads_397 (BU_call hB (Nat.zero_le _) (Nat.zero_le _))) (fun r21 σ₁ H locs hf hP hL => ?_)
    obtain ⟨e₁, hf⟩ := hf
    rw [e₁] at hP
    obtain ⟨hc22, hf⟩ := hf
    refine p_cast X cf9_ hP hc22 q588 dX8_reads_400 ?_
    obtain ⟨ht23, hf⟩ := hf
    refine p_gI X cf9_ (k := 4) (by decide) rfl hP ht23 q1067 (fun _ h => h) dX8_reads_403 ?_
    refine lv_if_eq (tgt := 420) hx hb dX8_reads_406 (by decide) (fun c24 => ?_) (fun c24 => ?_)
    · have hf := hf.1 c24
      exact sX8_reads_L420 Y hrc379 hf _ _ _ _ _ hP hL hB (lv_sub hl [0, 1, 2, 3] rfl)
    · have hf := hf.2 c24
      refine p_aload_n hx hb dX8_reads_409 rfl (lv_at hl 0 rfl) ?_
      refine lv_iload hx hb dX8_reads_410 (lv_at hl 3 rfl) ?_
      obtain ⟨mc25, ms26, hf⟩ := hf
      obtain ⟨hb27, hf⟩ := hf
      obtain ⟨hb28, hf⟩ := hf
      refine p_calli hL (p_runV X cf7_ (Pic_bu hP mc25 ms26) ht2 (metX8_directory l G _ _ _ _ _ _ X.2.2 hf) (cwV 1 hts (lw_V q1091 q1093 qs30 q105 q1094) rfl rfl rfl (by decide +kernel) ⟨Nat.le_trans (Nat.le_of_ble_eq_true rfl) hRf, Nat.le_trans (Nat.le_of_ble_eq_true rfl) hRl⟩) rfl hl.1 rfl (by decide) dX8_reads_412 (BU_call hB hb27 hb28)) (fun r29 σ30 H locs hf hP hL => ?_)
      have hB := BU_back (τ := σ30) hB hb27 hb28
      have hP := Pic_bu hP (bc_ σ - mc25) (bs_ σ - ms26)
      refine p_nmPB hP hB (fun σ31 hσ31 hP hB => ?_)
      have hf := hf σ31 hσ31
      refine lv_if_ne (tgt := 420) hx hb dX8_reads_415 (by decide) (fun c32 => ?_) (fun c32 => ?_)
      · have hf := hf.1 c32
        exact sX8_reads_L420 Y hrc379 hf _ _ _ _ _ hP hL hB (lv_sub hl [0, 1, 2, 3] rfl)
      · have hf := hf.2 c32
        refine lv_iconst (v := 0) hx hb dX8_reads_418 (by decide) ?_
        exact p_zret X hlk hP hL (BU_le hB hRc).1 (BU_le hB hRc).2 hr nr_0 dX8_reads_419 hf
set_option maxHeartbeats 4000000 in
theorem sX8_reads_L379 {G : GG_} {p : Program} {l : Launch} {e : Env} {R : Room} {s : State} {m : MethodId} {args : Array Value} {below : List Frame} {meth : Method} {c : Code} {mc ms : Nat} (Y : MX_ G p R s m args meth c cX8_reads 8 RX8 (some Jvm.ClassFile.FieldType.boolean) 9 230 mc ms "reads") {post : Int32 → Hp → Prop} {x0 : Nat} {x3 : Int64} {x5 : Int32} {x7 : Int32} {σ : Hp} (hf : wX8_reads_L379 post x0 x3 x5 x7 σ) : WG_ G p l e R s m args below meth c (MQ below (QI_ G post) args s mc ms (FR_ G)) (BU_ R) 8 379 [(0, rv_ x0), (3, .long x3), (5, .int x5), (7, .int x7)] [] σ := by
  unfold wX8_reads_L379 at hf
  obtain ⟨I, μ, h0, hI⟩ := hf
  have key : ∀ (n : Nat) (x7 : Int32) (σ : Hp), I x7 σ → μ x7 σ < n → WG_ G p l e R s m args below meth c (MQ below (QI_ G post) args s mc ms (FR_ G)) (BU_ R) 8 379 [(0, rv_ x0), (3, .long x3), (5, .int x5), (7, .int x7)] [] σ := by
    intro n
    induction n with
    | zero => intro x7 σ _ h; exact absurd h (Nat.not_lt_zero _)
    | succ n ih => intro x7 σ hi hn; exact sX8_reads_B379 Y (fun x7' σ' h => ih x7' σ' h.1 (Nat.lt_of_lt_of_le h.2 (Nat.le_of_lt_succ hn))) (hI x7 σ hi)
  exact key _ _ _ h0 (Nat.lt_succ_self _)
set_option maxHeartbeats 4000000 in
theorem sX8_reads_L320 {G : GG_} {p : Program} {l : Launch} {e : Env} {R : Room} {s : State} {m : MethodId} {args : Array Value} {below : List Frame} {meth : Method} {c : Code} {mc ms : Nat} (Y : MX_ G p R s m args meth c cX8_reads 8 RX8 (some Jvm.ClassFile.FieldType.boolean) 9 230 mc ms "reads") {post : Int32 → Hp → Prop} {rc266 : Int32 → Int32 → Prop} {x0 : Nat} {x1 : Int64} {x3 : Int64} {x5 : Int32} {x7 : Int32} {s0 : Int32} {σ : Hp} (hrc266 : ∀ (x6 : Int32) (x7 : Int32), rc266 x6 x7 → WG_ G p l e R s m args below meth c (MQ below (QI_ G post) args s mc ms (FR_ G)) (BU_ R) 8 266 [(0, rv_ x0), (1, .long x1), (3, .long x3), (5, .int x5), (6, .int x6), (7, .int x7)] [] σ) (hf : wX8_reads_L320 post rc266 x0 x1 x3 x5 x7 s0 σ) : WG_ G p l e R s m args below meth c (MQ below (QI_ G post) args s mc ms (FR_ G)) (BU_ R) 8 320 [(0, rv_ x0), (1, .long x1), (3, .long x3), (5, .int x5), (7, .int x7)] [.int s0] σ := by
  have ⟨X, hlk, hr, hRf, hRl, hRc, hnm⟩ := Y
  have ⟨⟨hx, hb, _, hown, hts⟩, _, _⟩ := X
  intro H locs cells slots ls hP hL hB hl
  unfold wX8_reads_L320 at hf
  refine p_istore (i := 6) hx hb dX8_reads_320 hl (by decide) ⟨⟨ne_ rfl, Or.inl (ne_ rfl)⟩, ⟨⟨ne_ rfl, Or.inl (ne_ rfl)⟩, ⟨⟨ne_ rfl, Or.inl (ne_ rfl)⟩, ⟨⟨ne_ rfl, Or.inr rfl⟩, ⟨⟨ne_ rfl, Or.inl (ne_ rfl)⟩, trivial⟩⟩⟩⟩⟩ (fun ls hl => ?_)
  have hl := lv_sub hl [5, 0, 1, 2, 3, 4] rfl
  refine p_iincc (i := 7) (k := 1) hx hb (by decide) dX8_reads_322 hl (by decide) ⟨⟨ne_ rfl, Or.inr rfl⟩, ⟨⟨ne_ rfl, Or.inl (ne_ rfl)⟩, ⟨⟨ne_ rfl, Or.inl (ne_ rfl)⟩, ⟨⟨ne_ rfl, Or.inl (ne_ rfl)⟩, ⟨⟨ne_ rfl, Or.inl (ne_ rfl)⟩, trivial⟩⟩⟩⟩⟩ (fun y33 hy33 ls hl => ?_)
  have hf := hf y33 hy33
  refine lv_goto (tgt := 266) hx hb dX8_reads_325 (by decide) ?_
  exact hrc266 _ _ hf _ _ _ _ _ hP hL hB (lv_sub hl [2, 3, 4, 5, 1, 0] rfl)
set_option maxHeartbeats 4000000 in
theorem sX8_reads_L319 {G : GG_} {p : Program} {l : Launch} {e : Env} {R : Room} {s : State} {m : MethodId} {args : Array Value} {below : List Frame} {meth : Method} {c : Code} {mc ms : Nat} (Y : MX_ G p R s m args meth c cX8_reads 8 RX8 (some Jvm.ClassFile.FieldType.boolean) 9 230 mc ms "reads") {post : Int32 → Hp → Prop} {rc266 : Int32 → Int32 → Prop} {x0 : Nat} {x1 : Int64} {x3 : Int64} {x5 : Int32} {x7 : Int32} {σ : Hp} (hrc266 : ∀ (x6 : Int32) (x7 : Int32), rc266 x6 x7 → WG_ G p l e R s m args below meth c (MQ below (QI_ G post) args s mc ms (FR_ G)) (BU_ R) 8 266 [(0, rv_ x0), (1, .long x1), (3, .long x3), (5, .int x5), (6, .int x6), (7, .int x7)] [] σ) (hf : wX8_reads_L319 post rc266 x0 x1 x3 x5 x7 σ) : WG_ G p l e R s m args below meth c (MQ below (QI_ G post) args s mc ms (FR_ G)) (BU_ R) 8 319 [(0, rv_ x0), (1, .long x1), (3, .long x3), (5, .int x5), (7, .int x7)] [] σ := by
  have ⟨X, hlk, hr, hRf, hRl, hRc, hnm⟩ := Y
  have ⟨⟨hx, hb, _, hown, hts⟩, _, _⟩ := X
  intro H locs cells slots ls hP hL hB hl
  unfold wX8_reads_L319 at hf
  refine lv_iconst (v := 0) hx hb dX8_reads_319 (by decide) ?_
  exact sX8_reads_L320 Y hrc266 hf _ _ _ _ _ hP hL hB (lv_sub hl [0, 1, 2, 3, 4] rfl)
set_option maxHeartbeats 4000000 in
theorem sX8_reads_B266 {G : GG_} {p : Program} {l : Launch} {e : Env} {R : Room} {s : State} {m : MethodId} {args : Array Value} {below : List Frame} {meth : Method} {c : Code} {mc ms : Nat} (Y : MX_ G p R s m args meth c cX8_reads 8 RX8 (some Jvm.ClassFile.FieldType.boolean) 9 230 mc ms "reads") {post : Int32 → Hp → Prop} {rc266 : Int32 → Int32 → Prop} {x0 : Nat} {x1 : Int64} {x3 : Int64} {x5 : Int32} {x6 : Int32} {x7 : Int32} {σ : Hp} (hrc266 : ∀ (x6 : Int32) (x7 : Int32), rc266 x6 x7 → WG_ G p l e R s m args below meth c (MQ below (QI_ G post) args s mc ms (FR_ G)) (BU_ R) 8 266 [(0, rv_ x0), (1, .long x1), (3, .long x3), (5, .int x5), (6, .int x6), (7, .int x7)] [] σ) (hf : wX8_reads_B266 post rc266 x0 x1 x3 x5 x6 x7 σ) : WG_ G p l e R s m args below meth c (MQ below (QI_ G post) args s mc ms (FR_ G)) (BU_ R) 8 266 [(0, rv_ x0), (1, .long x1), (3, .long x3), (5, .int x5), (6, .int x6), (7, .int x7)] [] σ := by
  have ⟨X, hlk, hr, hRf, hRl, hRc, hnm⟩ := Y
  have ⟨⟨hx, hb, _, hown, hts⟩, _, _⟩ := X
  intro H locs cells slots ls hP hL hB hl
  unfold wX8_reads_B266 at hf
  refine lv_iload hx hb dX8_reads_266 (lv_at hl 5 rfl) ?_
  refine lv_iconst (v := 4) hx hb dX8_reads_268 (by decide) ?_
  refine lv_icmp_ge (tgt := 328) hx hb dX8_reads_269 (by decide) (fun c34 => ?_) (fun c34 => ?_)
  · have hf := hf.1 c34
    refine lv_iload hx hb dX8_reads_328 (lv_at hl 4 rfl) ?_
    refine lv_if_ne (tgt := 343) hx hb dX8_reads_330 (by decide) (fun c35 => ?_) (fun c35 => ?_)
    · have hf := hf.1 c35
      refine p_aload_n hx hb dX8_reads_343 rfl (lv_at hl 0 rfl) ?_
      refine lv_lload_n hx hb dX8_reads_344 rfl (lv_at hl 2 rfl) ?_
      refine lv_ldc2 hx hb hown (hts _ q1020) dX8_reads_345 ?_
      refine lv_ladd hx hb dX8_reads_348 ?_
      refine lv_iconst (v := 0) hx hb dX8_reads_349 (by decide) ?_
      obtain ⟨ht36, hf⟩ := hf
      refine p_calli hL (p_runV X cf7_ hP ht36 (metX8_sound l G _ _ _ _ _ X.2.2 hf) (cwV 2 hts (lw_V q1021 q1023 qs23 q105 q1024) rfl rfl rfl (by decide +kernel) ⟨Nat.le_trans (Nat.le_of_ble_eq_true rfl) hRf, Nat.le_trans (Nat.le_of_ble_eq_true rfl) hRl⟩) rfl hl.1 rfl (by decide) dX8_reads_350 (BU_call hB (Nat.zero_le _) (Nat.zero_le _))) (fun r37 σ38 H locs hf hP hL => ?_)
      have hB := BU_keep (τ := σ38) hB
      have hP := Pic_bu hP (bc_ σ) (bs_ σ)
      refine p_nmPB hP hB (fun σ39 hσ39 hP hB => ?_)
      have hf := hf σ39 hσ39
      refine lv_if_ne (tgt := 358) hx hb dX8_reads_353 (by decide) (fun c40 => ?_) (fun c40 => ?_)
      · have hf := hf.1 c40
        refine p_aload_n hx hb dX8_reads_358 rfl (lv_at hl 0 rfl) ?_
        obtain ⟨ht41, hf⟩ := hf
        refine p_gR X cf7_ (k := 0) (by decide) rfl hP ht41 q590 (fun _ h => h) dX8_reads_359 ?_
        refine p_aload_n hx hb dX8_reads_362 rfl (lv_at hl 0 rfl) ?_
        refine lv_lload_n hx hb dX8_reads_363 rfl (lv_at hl 2 rfl) ?_
        refine lv_ldc2 hx hb hown (hts _ q1020) dX8_reads_364 ?_
        refine lv_ladd hx hb dX8_reads_367 ?_
        refine lv_iconst (v := (-1)) hx hb dX8_reads_368 (by decide) ?_
        obtain ⟨mc42, ms43, hf⟩ := hf
        obtain ⟨hb44, hf⟩ := hf
        obtain ⟨hb45, hf⟩ := hf
        refine p_callr hL (p_runV X cf7_ (Pic_bu hP mc42 ms43) ht41 (metX8_found l G _ _ _ _ _ _ _ X.2.2 hf) (cwV 2 hts (lw_V q1050 q1052 qs28 q105 q1053) rfl rfl rfl (by decide +kernel) ⟨Nat.le_trans (Nat.le_of_ble_eq_true rfl) hRf, Nat.le_trans (Nat.le_of_ble_eq_true rfl) hRl⟩) rfl hl.1 rfl (by rw [(ca_r ca_n)]; decide) dX8_reads_369 (BU_call hB hb44 hb45)) (fun r46 σ47 H locs hf hP hL => ?_)
        have hB := BU_back (τ := σ47) hB hb44 hb45
        have hP := Pic_bu hP (bc_ σ39 - mc42) (bs_ σ39 - ms43)
        refine p_nmPB hP hB (fun σ48 hσ48 hP hB => ?_)
        have hf := hf σ48 hσ48
        obtain ⟨ht49, hf⟩ := hf
        obtain ⟨mc50, ms51, hf⟩ := hf
        obtain ⟨hb52, hf⟩ := hf
        obtain ⟨hb53, hf⟩ := hf
        refine p_calli hL (p_runV X cf10_ (Pic_bu hP mc50 ms51) ht49 (metJ2_add l G _ _ _ _ _ _ X.2.2 hf) (cwV 1 hts (lw_V q1088 q496 q497 q90 q498) rfl rfl rfl (by decide +kernel) ⟨Nat.le_trans (Nat.le_of_ble_eq_true rfl) hRf, Nat.le_trans (Nat.le_of_ble_eq_true rfl) hRl⟩) rfl hl.1 rfl (by decide) dX8_reads_372 (BU_call hB hb52 hb53)) (fun r54 σ55 H locs hf hP hL => ?_)
        have hB := BU_back (τ := σ55) hB hb52 hb53
        have hP := Pic_bu hP (bc_ σ48 - mc50) (bs_ σ48 - ms51)
        refine p_nmPB hP hB (fun σ56 hσ56 hP hB => ?_)
        have hf := hf σ56 hσ56
        refine lv_pop hx hb dX8_reads_375 rfl ?_
        refine lv_iconst (v := 0) hx hb dX8_reads_376 (by decide) ?_
        have hl := lv_sub hl [0, 2, 3] rfl
        refine p_istore (i := 7) hx hb dX8_reads_377 hl (by decide) ⟨⟨ne_ rfl, Or.inl (ne_ rfl)⟩, ⟨⟨ne_ rfl, Or.inl (ne_ rfl)⟩, ⟨⟨ne_ rfl, Or.inl (ne_ rfl)⟩, trivial⟩⟩⟩ (fun ls hl => ?_)
        exact sX8_reads_L379 Y hf _ _ _ _ _ hP hL hB (lv_sub hl [1, 2, 3, 0] rfl)
      · have hf := hf.2 c40
        refine lv_iconst (v := 0) hx hb dX8_reads_356 (by decide) ?_
        exact p_zret X hlk hP hL (BU_le hB hRc).1 (BU_le hB hRc).2 hr nr_0 dX8_reads_357 hf
    · have hf := hf.2 c35
      refine p_aload_n hx hb dX8_reads_333 rfl (lv_at hl 0 rfl) ?_
      refine lv_lload_n hx hb dX8_reads_334 rfl (lv_at hl 2 rfl) ?_
      refine lv_ldc2 hx hb hown (hts _ q1017) dX8_reads_335 ?_
      refine lv_ladd hx hb dX8_reads_338 ?_
      obtain ⟨ht57, hf⟩ := hf
      refine p_calli hL (p_runV X cf7_ hP ht57 (metX8_bad l G _ _ _ _ X.2.2 hf) (cwV 1 hts (lw_V q996 q998 qs21 q105 q999) rfl rfl rfl (by decide +kernel) ⟨Nat.le_trans (Nat.le_of_ble_eq_true rfl) hRf, Nat.le_trans (Nat.le_of_ble_eq_true rfl) hRl⟩) rfl hl.1 rfl (by decide) dX8_reads_339 (BU_call hB (Nat.zero_le _) (Nat.zero_le _))) (fun r58 σ59 H locs hf hP hL => ?_)
      have hB := BU_keep (τ := σ59) hB
      have hP := Pic_bu hP (bc_ σ) (bs_ σ)
      refine p_nmPB hP hB (fun σ60 hσ60 hP hB => ?_)
      have hf := hf σ60 hσ60
      obtain ⟨hn61, hf⟩ := hf
      exact p_zret X hlk hP hL (BU_le hB hRc).1 (BU_le hB hRc).2 hr hn61 dX8_reads_342 hf
  · have hf := hf.2 c34
    refine lv_iload hx hb dX8_reads_272 (lv_at hl 4 rfl) ?_
    refine lv_if_eq (tgt := 319) hx hb dX8_reads_274 (by decide) (fun c62 => ?_) (fun c62 => ?_)
    · have hf := hf.1 c62
      exact sX8_reads_L319 Y hrc266 hf _ _ _ _ _ hP hL hB (lv_sub hl [0, 1, 2, 3, 5] rfl)
    · have hf := hf.2 c62
      refine p_aload_n hx hb dX8_reads_277 rfl (lv_at hl 0 rfl) ?_
      obtain ⟨ht63, hf⟩ := hf
      refine p_gR X cf7_ (k := 3) (by decide) rfl hP ht63 q594 (fun _ h => h) dX8_reads_278 ?_
      refine lv_lload_n hx hb dX8_reads_281 rfl (lv_at hl 2 rfl) ?_
      refine lv_ldc2 hx hb hown (hts _ q1017) dX8_reads_282 ?_
      refine lv_ladd hx hb dX8_reads_285 ?_
      refine lv_iload hx hb dX8_reads_286 (lv_at hl 5 rfl) ?_
      refine lv_i2l hx hb dX8_reads_288 rfl ?_
      refine lv_ladd hx hb dX8_reads_289 ?_
      obtain ⟨ht64, hf⟩ := hf
      refine p_calli hL (p_runV X cf6_ hP ht64 (metX7_at l G _ _ _ _ X.2.2 hf) (cwV 1 hts (lw_V q1004 q967 q968 q104 q969) rfl rfl rfl (by decide +kernel) ⟨Nat.le_trans (Nat.le_of_ble_eq_true rfl) hRf, Nat.le_trans (Nat.le_of_ble_eq_true rfl) hRl⟩) rfl hl.1 rfl (by decide) dX8_reads_290 (BU_call hB (Nat.zero_le _) (Nat.zero_le _))) (fun r65 σ₁ H locs hf hP hL => ?_)
      obtain ⟨e₁, hf⟩ := hf
      rw [e₁] at hP
      refine lv_i2l hx hb dX8_reads_293 rfl ?_
      refine lv_lload_n hx hb dX8_reads_294 rfl (lv_at hl 1 rfl) ?_
      refine lv_ldc2 hx hb hown (hts _ q1018) dX8_reads_295 ?_
      refine lv_ladd hx hb dX8_reads_298 ?_
      refine lv_bipush (v := 8) hx hb dX8_reads_299 (by decide) ?_
      refine lv_iconst (v := 3) hx hb dX8_reads_301 (by decide) ?_
      refine lv_iload hx hb dX8_reads_302 (lv_at hl 5 rfl) ?_
      refine lv_isub hx hb dX8_reads_304 ?_
      refine lv_imul hx hb dX8_reads_305 ?_
      refine lv_lshr hx hb dX8_reads_306 rfl ?_
      refine lv_ldc2 hx hb hown (hts _ q1019) dX8_reads_307 ?_
      refine lv_land hx hb dX8_reads_310 ?_
      refine W.lcmp hx hb dX8_reads_311 ?_
      refine lv_if_ne (tgt := 319) hx hb dX8_reads_312 (by decide) (fun c66 => ?_) (fun c66 => ?_)
      · have hf := hf.1 c66
        exact sX8_reads_L319 Y hrc266 hf _ _ _ _ _ hP hL hB (lv_sub hl [0, 1, 2, 3, 5] rfl)
      · have hf := hf.2 c66
        refine lv_iconst (v := 1) hx hb dX8_reads_315 (by decide) ?_
        refine lv_goto (tgt := 320) hx hb dX8_reads_316 (by decide) ?_
        exact sX8_reads_L320 Y hrc266 hf _ _ _ _ _ hP hL hB (lv_sub hl [0, 1, 2, 3, 5] rfl)
set_option maxHeartbeats 4000000 in
theorem sX8_reads_L266 {G : GG_} {p : Program} {l : Launch} {e : Env} {R : Room} {s : State} {m : MethodId} {args : Array Value} {below : List Frame} {meth : Method} {c : Code} {mc ms : Nat} (Y : MX_ G p R s m args meth c cX8_reads 8 RX8 (some Jvm.ClassFile.FieldType.boolean) 9 230 mc ms "reads") {post : Int32 → Hp → Prop} {x0 : Nat} {x1 : Int64} {x3 : Int64} {x5 : Int32} {x6 : Int32} {x7 : Int32} {σ : Hp} (hf : wX8_reads_L266 post x0 x1 x3 x5 x6 x7 σ) : WG_ G p l e R s m args below meth c (MQ below (QI_ G post) args s mc ms (FR_ G)) (BU_ R) 8 266 [(0, rv_ x0), (1, .long x1), (3, .long x3), (5, .int x5), (6, .int x6), (7, .int x7)] [] σ := by
  unfold wX8_reads_L266 at hf
  obtain ⟨I, μ, h0, hI⟩ := hf
  have key : ∀ (n : Nat) (x6 : Int32) (x7 : Int32), I x6 x7 → μ x6 x7 < n → WG_ G p l e R s m args below meth c (MQ below (QI_ G post) args s mc ms (FR_ G)) (BU_ R) 8 266 [(0, rv_ x0), (1, .long x1), (3, .long x3), (5, .int x5), (6, .int x6), (7, .int x7)] [] σ := by
    intro n
    induction n with
    | zero => intro x6 x7 _ h; exact absurd h (Nat.not_lt_zero _)
    | succ n ih => intro x6 x7 hi hn; exact sX8_reads_B266 Y (fun x6' x7' h => ih x6' x7' h.1 (Nat.lt_of_lt_of_le h.2 (Nat.le_of_lt_succ hn))) (hI x6 x7 hi)
  exact key _ _ _ h0 (Nat.lt_succ_self _)
set_option maxHeartbeats 4000000 in
theorem sX8_reads_L217 {G : GG_} {p : Program} {l : Launch} {e : Env} {R : Room} {s : State} {m : MethodId} {args : Array Value} {below : List Frame} {meth : Method} {c : Code} {mc ms : Nat} (Y : MX_ G p R s m args meth c cX8_reads 8 RX8 (some Jvm.ClassFile.FieldType.boolean) 9 230 mc ms "reads") {post : Int32 → Hp → Prop} {x0 : Nat} {x3 : Int64} {σ : Hp} (hf : wX8_reads_L217 post x0 x3 σ) : WG_ G p l e R s m args below meth c (MQ below (QI_ G post) args s mc ms (FR_ G)) (BU_ R) 8 217 [(0, rv_ x0), (3, .long x3)] [] σ := by
  have ⟨X, hlk, hr, hRf, hRl, hRc, hnm⟩ := Y
  have ⟨⟨hx, hb, _, hown, hts⟩, _, _⟩ := X
  intro H locs cells slots ls hP hL hB hl
  unfold wX8_reads_L217 at hf
  refine p_aload_n hx hb dX8_reads_217 rfl (lv_at hl 0 rfl) ?_
  refine lv_lload_n hx hb dX8_reads_218 rfl (lv_at hl 1 rfl) ?_
  refine lv_ldc2 hx hb hown (hts _ q1014) dX8_reads_219 ?_
  refine lv_ladd hx hb dX8_reads_222 ?_
  obtain ⟨ht67, hf⟩ := hf
  refine p_calli hL (p_runV X cf7_ hP ht67 (metX8_bad l G _ _ _ _ X.2.2 hf) (cwV 1 hts (lw_V q996 q998 qs21 q105 q999) rfl rfl rfl (by decide +kernel) ⟨Nat.le_trans (Nat.le_of_ble_eq_true rfl) hRf, Nat.le_trans (Nat.le_of_ble_eq_true rfl) hRl⟩) rfl hl.1 rfl (by decide) dX8_reads_223 (BU_call hB (Nat.zero_le _) (Nat.zero_le _))) (fun r68 σ69 H locs hf hP hL => ?_)
  have hB := BU_keep (τ := σ69) hB
  have hP := Pic_bu hP (bc_ σ) (bs_ σ)
  refine p_nmPB hP hB (fun σ70 hσ70 hP hB => ?_)
  have hf := hf σ70 hσ70
  obtain ⟨hn71, hf⟩ := hf
  exact p_zret X hlk hP hL (BU_le hB hRc).1 (BU_le hB hRc).2 hr hn71 dX8_reads_226 hf
set_option maxHeartbeats 4000000 in
theorem sX8_reads_L163 {G : GG_} {p : Program} {l : Launch} {e : Env} {R : Room} {s : State} {m : MethodId} {args : Array Value} {below : List Frame} {meth : Method} {c : Code} {mc ms : Nat} (Y : MX_ G p R s m args meth c cX8_reads 8 RX8 (some Jvm.ClassFile.FieldType.boolean) 9 230 mc ms "reads") {post : Int32 → Hp → Prop} {x0 : Nat} {x3 : Int64} {σ : Hp} (hf : wX8_reads_L163 post x0 x3 σ) : WG_ G p l e R s m args below meth c (MQ below (QI_ G post) args s mc ms (FR_ G)) (BU_ R) 8 163 [(0, rv_ x0), (3, .long x3)] [] σ := by
  have ⟨X, hlk, hr, hRf, hRl, hRc, hnm⟩ := Y
  have ⟨⟨hx, hb, _, hown, hts⟩, _, _⟩ := X
  intro H locs cells slots ls hP hL hB hl
  unfold wX8_reads_L163 at hf
  refine p_aload_n hx hb dX8_reads_163 rfl (lv_at hl 0 rfl) ?_
  refine lv_lload_n hx hb dX8_reads_164 rfl (lv_at hl 1 rfl) ?_
  refine lv_ldc2 hx hb hown (hts _ q1008) dX8_reads_165 ?_
  refine lv_ladd hx hb dX8_reads_168 ?_
  obtain ⟨ht72, hf⟩ := hf
  refine p_calli hL (p_runV X cf7_ hP ht72 (metX8_bad l G _ _ _ _ X.2.2 hf) (cwV 1 hts (lw_V q996 q998 qs21 q105 q999) rfl rfl rfl (by decide +kernel) ⟨Nat.le_trans (Nat.le_of_ble_eq_true rfl) hRf, Nat.le_trans (Nat.le_of_ble_eq_true rfl) hRl⟩) rfl hl.1 rfl (by decide) dX8_reads_169 (BU_call hB (Nat.zero_le _) (Nat.zero_le _))) (fun r73 σ74 H locs hf hP hL => ?_)
  have hB := BU_keep (τ := σ74) hB
  have hP := Pic_bu hP (bc_ σ) (bs_ σ)
  refine p_nmPB hP hB (fun σ75 hσ75 hP hB => ?_)
  have hf := hf σ75 hσ75
  obtain ⟨hn76, hf⟩ := hf
  exact p_zret X hlk hP hL (BU_le hB hRc).1 (BU_le hB hRc).2 hr hn76 dX8_reads_172 hf
set_option maxHeartbeats 4000000 in
theorem sX8_reads_L102 {G : GG_} {p : Program} {l : Launch} {e : Env} {R : Room} {s : State} {m : MethodId} {args : Array Value} {below : List Frame} {meth : Method} {c : Code} {mc ms : Nat} (Y : MX_ G p R s m args meth c cX8_reads 8 RX8 (some Jvm.ClassFile.FieldType.boolean) 9 230 mc ms "reads") {post : Int32 → Hp → Prop} {rc74 : Int32 → Prop} {x0 : Nat} {x1 : Int64} {x3 : Int64} {x5 : Int32} {s0 : Int32} {s1 : Int64} {s2 : Nat} {σ : Hp} (hrc74 : ∀ (x5 : Int32), rc74 x5 → WG_ G p l e R s m args below meth c (MQ below (QI_ G post) args s mc ms (FR_ G)) (BU_ R) 8 74 [(0, rv_ x0), (1, .long x1), (3, .long x3), (5, .int x5)] [] σ) (hf : wX8_reads_L102 post rc74 x0 x1 x3 x5 s0 s1 s2 σ) : WG_ G p l e R s m args below meth c (MQ below (QI_ G post) args s mc ms (FR_ G)) (BU_ R) 8 102 [(0, rv_ x0), (1, .long x1), (3, .long x3), (5, .int x5)] [.int s0, .long s1, rv_ s2] σ := by
  have ⟨X, hlk, hr, hRf, hRl, hRc, hnm⟩ := Y
  have ⟨⟨hx, hb, _, hown, hts⟩, _, _⟩ := X
  intro H locs cells slots ls hP hL hB hl
  unfold wX8_reads_L102 at hf
  obtain ⟨ht77, hf⟩ := hf
  refine p_calli hL (p_runV X cf7_ hP ht77 (metX8_isHead l G _ _ _ _ _ X.2.2 hf) (cwV 2 hts (lw_V q1000 q1002 qs22 q105 q1003) rfl rfl rfl (by decide +kernel) ⟨Nat.le_trans (Nat.le_of_ble_eq_true rfl) hRf, Nat.le_trans (Nat.le_of_ble_eq_true rfl) hRl⟩) rfl hl.1 rfl (by decide) dX8_reads_102 (BU_call hB (Nat.zero_le _) (Nat.zero_le _))) (fun r78 σ₁ H locs hf hP hL => ?_)
  obtain ⟨e₁, hf⟩ := hf
  rw [e₁] at hP
  refine lv_if_ne (tgt := 122) hx hb dX8_reads_105 (by decide) (fun c79 => ?_) (fun c79 => ?_)
  · have hf := hf.1 c79
    have hl := lv_sub hl [3, 0, 1, 2] rfl
    refine p_iincc (i := 5) (k := 1) hx hb (by decide) dX8_reads_122 hl (by decide) ⟨⟨ne_ rfl, Or.inl (ne_ rfl)⟩, ⟨⟨ne_ rfl, Or.inl (ne_ rfl)⟩, ⟨⟨ne_ rfl, Or.inl (ne_ rfl)⟩, trivial⟩⟩⟩ (fun y80 hy80 ls hl => ?_)
    have hf := hf y80 hy80
    refine lv_goto (tgt := 74) hx hb dX8_reads_125 (by decide) ?_
    exact hrc74 _ hf _ _ _ _ _ hP hL hB (lv_sub hl [1, 2, 3, 0] rfl)
  · have hf := hf.2 c79
    refine p_aload_n hx hb dX8_reads_108 rfl (lv_at hl 0 rfl) ?_
    refine lv_lload_n hx hb dX8_reads_109 rfl (lv_at hl 2 rfl) ?_
    refine lv_iload hx hb dX8_reads_110 (lv_at hl 3 rfl) ?_
    refine lv_sipush (v := 2048) hx hb dX8_reads_112 (by decide) ?_
    refine lv_imul hx hb dX8_reads_115 ?_
    refine lv_i2l hx hb dX8_reads_116 rfl ?_
    refine lv_ladd hx hb dX8_reads_117 ?_
    obtain ⟨ht81, hf⟩ := hf
    refine p_calli hL (p_runV X cf7_ hP ht81 (metX8_bad l G _ _ _ _ X.2.2 hf) (cwV 1 hts (lw_V q996 q998 qs21 q105 q999) rfl rfl rfl (by decide +kernel) ⟨Nat.le_trans (Nat.le_of_ble_eq_true rfl) hRf, Nat.le_trans (Nat.le_of_ble_eq_true rfl) hRl⟩) rfl hl.1 rfl (by decide) dX8_reads_118 (BU_call hB (Nat.zero_le _) (Nat.zero_le _))) (fun r82 σ83 H locs hf hP hL => ?_)
    have hB := BU_keep (τ := σ83) hB
    have hP := Pic_bu hP (bc_ σ) (bs_ σ)
    refine p_nmPB hP hB (fun σ84 hσ84 hP hB => ?_)
    have hf := hf σ84 hσ84
    obtain ⟨hn85, hf⟩ := hf
    exact p_zret X hlk hP hL (BU_le hB hRc).1 (BU_le hB hRc).2 hr hn85 dX8_reads_121 hf
set_option maxHeartbeats 4000000 in
theorem sX8_reads_B74 {G : GG_} {p : Program} {l : Launch} {e : Env} {R : Room} {s : State} {m : MethodId} {args : Array Value} {below : List Frame} {meth : Method} {c : Code} {mc ms : Nat} (Y : MX_ G p R s m args meth c cX8_reads 8 RX8 (some Jvm.ClassFile.FieldType.boolean) 9 230 mc ms "reads") {post : Int32 → Hp → Prop} {rc74 : Int32 → Prop} {x0 : Nat} {x1 : Int64} {x3 : Int64} {x5 : Int32} {σ : Hp} (hrc74 : ∀ (x5 : Int32), rc74 x5 → WG_ G p l e R s m args below meth c (MQ below (QI_ G post) args s mc ms (FR_ G)) (BU_ R) 8 74 [(0, rv_ x0), (1, .long x1), (3, .long x3), (5, .int x5)] [] σ) (hf : wX8_reads_B74 post rc74 x0 x1 x3 x5 σ) : WG_ G p l e R s m args below meth c (MQ below (QI_ G post) args s mc ms (FR_ G)) (BU_ R) 8 74 [(0, rv_ x0), (1, .long x1), (3, .long x3), (5, .int x5)] [] σ := by
  have ⟨X, hlk, hr, hRf, hRl, hRc, hnm⟩ := Y
  have ⟨⟨hx, hb, _, hown, hts⟩, _, _⟩ := X
  intro H locs cells slots ls hP hL hB hl
  unfold wX8_reads_B74 at hf
  refine lv_iload hx hb dX8_reads_74 (lv_at hl 3 rfl) ?_
  refine lv_iconst (v := 2) hx hb dX8_reads_76 (by decide) ?_
  refine lv_icmp_ge (tgt := 128) hx hb dX8_reads_77 (by decide) (fun c86 => ?_) (fun c86 => ?_)
  · have hf := hf.1 c86
    refine p_aload_n hx hb dX8_reads_128 rfl (lv_at hl 0 rfl) ?_
    obtain ⟨ht87, hf⟩ := hf
    refine p_gR X cf7_ (k := 3) (by decide) rfl hP ht87 q594 (fun _ h => h) dX8_reads_129 ?_
    refine lv_lload_n hx hb dX8_reads_132 rfl (lv_at hl 2 rfl) ?_
    refine lv_ldc2 hx hb hown (hts _ q1008) dX8_reads_133 ?_
    refine lv_ladd hx hb dX8_reads_136 ?_
    refine lv_iconst (v := 2) hx hb dX8_reads_137 (by decide) ?_
    obtain ⟨ht88, hf⟩ := hf
    refine p_calli hL (p_runV X cf6_ hP ht88 (metX7_isBoth l G _ _ _ _ _ X.2.2 hf) (cwV 2 hts (lw_V q1009 q1010 q1011 q104 q1012) rfl rfl rfl (by decide +kernel) ⟨Nat.le_trans (Nat.le_of_ble_eq_true rfl) hRf, Nat.le_trans (Nat.le_of_ble_eq_true rfl) hRl⟩) rfl hl.1 rfl (by decide) dX8_reads_138 (BU_call hB (Nat.zero_le _) (Nat.zero_le _))) (fun r89 σ₁ H locs hf hP hL => ?_)
    obtain ⟨e₁, hf⟩ := hf
    rw [e₁] at hP
    refine lv_if_eq (tgt := 163) hx hb dX8_reads_141 (by decide) (fun c90 => ?_) (fun c90 => ?_)
    · have hf := hf.1 c90
      exact sX8_reads_L163 Y hf _ _ _ _ _ hP hL hB (lv_sub hl [0, 2] rfl)
    · have hf := hf.2 c90
      refine p_aload_n hx hb dX8_reads_144 rfl (lv_at hl 0 rfl) ?_
      refine p_gR X cf7_ (k := 3) (by decide) rfl hP ht87 q594 (fun _ h => h) dX8_reads_145 ?_
      refine lv_lload_n hx hb dX8_reads_148 rfl (lv_at hl 2 rfl) ?_
      refine lv_ldc2 hx hb hown (hts _ q1008) dX8_reads_149 ?_
      refine lv_ladd hx hb dX8_reads_152 ?_
      refine lv_iconst (v := 2) hx hb dX8_reads_153 (by decide) ?_
      refine p_calli hL (p_runV X cf6_ hP ht88 (metX7_low l G _ _ _ _ _ X.2.2 hf) (cwV 2 hts (lw_V q1013 q973 q974 q104 q975) rfl rfl rfl (by decide +kernel) ⟨Nat.le_trans (Nat.le_of_ble_eq_true rfl) hRf, Nat.le_trans (Nat.le_of_ble_eq_true rfl) hRl⟩) rfl hl.1 rfl (by decide) dX8_reads_154 (BU_call hB (Nat.zero_le _) (Nat.zero_le _))) (fun r91 σ₁ H locs hf hP hL => ?_)
      obtain ⟨e₁, hf⟩ := hf
      rw [e₁] at hP
      refine lv_sipush (v := 2048) hx hb dX8_reads_157 (by decide) ?_
      refine lv_icmp_eq (tgt := 173) hx hb dX8_reads_160 (by decide) (fun c92 => ?_) (fun c92 => ?_)
      · have hf := hf.1 c92
        refine p_aload_n hx hb dX8_reads_173 rfl (lv_at hl 0 rfl) ?_
        refine p_gR X cf7_ (k := 3) (by decide) rfl hP ht87 q594 (fun _ h => h) dX8_reads_174 ?_
        refine lv_lload_n hx hb dX8_reads_177 rfl (lv_at hl 2 rfl) ?_
        refine lv_ldc2 hx hb hown (hts _ q1014) dX8_reads_178 ?_
        refine lv_ladd hx hb dX8_reads_181 ?_
        refine lv_iconst (v := 4) hx hb dX8_reads_182 (by decide) ?_
        refine p_calli hL (p_runV X cf6_ hP ht88 (metX7_low l G _ _ _ _ _ X.2.2 hf) (cwV 2 hts (lw_V q1013 q973 q974 q104 q975) rfl rfl rfl (by decide +kernel) ⟨Nat.le_trans (Nat.le_of_ble_eq_true rfl) hRf, Nat.le_trans (Nat.le_of_ble_eq_true rfl) hRl⟩) rfl hl.1 rfl (by decide) dX8_reads_183 (BU_call hB (Nat.zero_le _) (Nat.zero_le _))) (fun r93 σ₁ H locs hf hP hL => ?_)
        obtain ⟨e₁, hf⟩ := hf
        rw [e₁] at hP
        have hl := lv_sub hl [0, 1, 2] rfl
        refine p_istore (i := 5) hx hb dX8_reads_186 hl (by decide) ⟨⟨ne_ rfl, Or.inl (ne_ rfl)⟩, ⟨⟨ne_ rfl, Or.inl (ne_ rfl)⟩, ⟨⟨ne_ rfl, Or.inl (ne_ rfl)⟩, trivial⟩⟩⟩ (fun ls hl => ?_)
        refine p_aload_n hx hb dX8_reads_188 rfl (lv_at hl 1 rfl) ?_
        refine p_gR X cf7_ (k := 3) (by decide) rfl hP ht87 q594 (fun _ h => h) dX8_reads_189 ?_
        refine lv_lload_n hx hb dX8_reads_192 rfl (lv_at hl 3 rfl) ?_
        refine lv_ldc2 hx hb hown (hts _ q1014) dX8_reads_193 ?_
        refine lv_ladd hx hb dX8_reads_196 ?_
        refine lv_iconst (v := 4) hx hb dX8_reads_197 (by decide) ?_
        refine p_calli hL (p_runV X cf6_ hP ht88 (metX7_isBoth l G _ _ _ _ _ X.2.2 hf) (cwV 2 hts (lw_V q1009 q1010 q1011 q104 q1012) rfl rfl rfl (by decide +kernel) ⟨Nat.le_trans (Nat.le_of_ble_eq_true rfl) hRf, Nat.le_trans (Nat.le_of_ble_eq_true rfl) hRl⟩) rfl hl.1 rfl (by decide) dX8_reads_198 (BU_call hB (Nat.zero_le _) (Nat.zero_le _))) (fun r94 σ₁ H locs hf hP hL => ?_)
        obtain ⟨e₁, hf⟩ := hf
        rw [e₁] at hP
        refine lv_if_eq (tgt := 217) hx hb dX8_reads_201 (by decide) (fun c95 => ?_) (fun c95 => ?_)
        · have hf := hf.1 c95
          exact sX8_reads_L217 Y hf _ _ _ _ _ hP hL hB (lv_sub hl [1, 3] rfl)
        · have hf := hf.2 c95
          refine lv_iload hx hb dX8_reads_204 (lv_at hl 0 rfl) ?_
          refine lv_if_lt (tgt := 217) hx hb dX8_reads_206 (by decide) (fun c96 => ?_) (fun c96 => ?_)
          · have hf := hf.1 c96
            exact sX8_reads_L217 Y hf _ _ _ _ _ hP hL hB (lv_sub hl [1, 3] rfl)
          · have hf := hf.2 c96
            refine lv_iload hx hb dX8_reads_209 (lv_at hl 0 rfl) ?_
            refine lv_sipush (v := 2048) hx hb dX8_reads_211 (by decide) ?_
            refine lv_icmp_le (tgt := 227) hx hb dX8_reads_214 (by decide) (fun c97 => ?_) (fun c97 => ?_)
            · have hf := hf.1 c97
              refine p_aload_n hx hb dX8_reads_227 rfl (lv_at hl 1 rfl) ?_
              refine p_gR X cf7_ (k := 3) (by decide) rfl hP ht87 q594 (fun _ h => h) dX8_reads_228 ?_
              refine lv_lload_n hx hb dX8_reads_231 rfl (lv_at hl 3 rfl) ?_
              refine lv_ldc2 hx hb hown (hts _ q1015) dX8_reads_232 ?_
              refine lv_ladd hx hb dX8_reads_235 ?_
              refine lv_iconst (v := 4) hx hb dX8_reads_236 (by decide) ?_
              refine p_calli hL (p_runV X cf6_ hP ht88 (metX7_low l G _ _ _ _ _ X.2.2 hf) (cwV 2 hts (lw_V q1013 q973 q974 q104 q975) rfl rfl rfl (by decide +kernel) ⟨Nat.le_trans (Nat.le_of_ble_eq_true rfl) hRf, Nat.le_trans (Nat.le_of_ble_eq_true rfl) hRl⟩) rfl hl.1 rfl (by decide) dX8_reads_237 (BU_call hB (Nat.zero_le _) (Nat.zero_le _))) (fun r98 σ₁ H locs hf hP hL => ?_)
              obtain ⟨e₁, hf⟩ := hf
              rw [e₁] at hP
              refine lv_i2l hx hb dX8_reads_240 rfl ?_
              refine lv_lload_n hx hb dX8_reads_241 rfl (lv_at hl 2 rfl) ?_
              refine lv_ldc2 hx hb hown (hts _ q1016) dX8_reads_242 ?_
              refine lv_ladd hx hb dX8_reads_245 ?_
              refine W.lcmp hx hb dX8_reads_246 ?_
              refine lv_if_eq (tgt := 260) hx hb dX8_reads_247 (by decide) (fun c99 => ?_) (fun c99 => ?_)
              · have hf := hf.1 c99
                refine lv_iconst (v := 1) hx hb dX8_reads_260 (by decide) ?_
                refine p_istore (i := 6) hx hb dX8_reads_261 hl (by decide) ⟨⟨ne_ rfl, Or.inr rfl⟩, ⟨⟨ne_ rfl, Or.inl (ne_ rfl)⟩, ⟨⟨ne_ rfl, Or.inl (ne_ rfl)⟩, ⟨⟨ne_ rfl, Or.inl (ne_ rfl)⟩, trivial⟩⟩⟩⟩ (fun ls hl => ?_)
                refine lv_iconst (v := 0) hx hb dX8_reads_263 (by decide) ?_
                refine p_istore (i := 7) hx hb dX8_reads_264 hl (by decide) ⟨⟨ne_ rfl, Or.inr rfl⟩, ⟨⟨ne_ rfl, Or.inl (ne_ rfl)⟩, ⟨⟨ne_ rfl, Or.inl (ne_ rfl)⟩, ⟨⟨ne_ rfl, Or.inl (ne_ rfl)⟩, ⟨⟨ne_ rfl, Or.inl (ne_ rfl)⟩, trivial⟩⟩⟩⟩⟩ (fun ls hl => ?_)
                exact sX8_reads_L266 Y hf _ _ _ _ _ hP hL hB (lv_sub hl [3, 4, 5, 2, 1, 0] rfl)
              · have hf := hf.2 c99
                refine p_aload_n hx hb dX8_reads_250 rfl (lv_at hl 1 rfl) ?_
                refine lv_lload_n hx hb dX8_reads_251 rfl (lv_at hl 3 rfl) ?_
                refine lv_ldc2 hx hb hown (hts _ q1015) dX8_reads_252 ?_
                refine lv_ladd hx hb dX8_reads_255 ?_
                refine p_calli hL (p_runV X cf7_ hP ht87 (metX8_bad l G _ _ _ _ X.2.2 hf) (cwV 1 hts (lw_V q996 q998 qs21 q105 q999) rfl rfl rfl (by decide +kernel) ⟨Nat.le_trans (Nat.le_of_ble_eq_true rfl) hRf, Nat.le_trans (Nat.le_of_ble_eq_true rfl) hRl⟩) rfl hl.1 rfl (by decide) dX8_reads_256 (BU_call hB (Nat.zero_le _) (Nat.zero_le _))) (fun r100 σ101 H locs hf hP hL => ?_)
                have hB := BU_keep (τ := σ101) hB
                have hP := Pic_bu hP (bc_ σ) (bs_ σ)
                refine p_nmPB hP hB (fun σ102 hσ102 hP hB => ?_)
                have hf := hf σ102 hσ102
                obtain ⟨hn103, hf⟩ := hf
                exact p_zret X hlk hP hL (BU_le hB hRc).1 (BU_le hB hRc).2 hr hn103 dX8_reads_259 hf
            · have hf := hf.2 c97
              exact sX8_reads_L217 Y hf _ _ _ _ _ hP hL hB (lv_sub hl [1, 3] rfl)
      · have hf := hf.2 c92
        exact sX8_reads_L163 Y hf _ _ _ _ _ hP hL hB (lv_sub hl [0, 2] rfl)
  · have hf := hf.2 c86
    refine p_aload_n hx hb dX8_reads_80 rfl (lv_at hl 0 rfl) ?_
    refine lv_lload_n hx hb dX8_reads_81 rfl (lv_at hl 2 rfl) ?_
    refine lv_iload hx hb dX8_reads_82 (lv_at hl 3 rfl) ?_
    refine lv_sipush (v := 2048) hx hb dX8_reads_84 (by decide) ?_
    refine lv_imul hx hb dX8_reads_87 ?_
    refine lv_i2l hx hb dX8_reads_88 rfl ?_
    refine lv_ladd hx hb dX8_reads_89 ?_
    refine lv_iload hx hb dX8_reads_90 (lv_at hl 3 rfl) ?_
    refine lv_if_ne (tgt := 99) hx hb dX8_reads_92 (by decide) (fun c104 => ?_) (fun c104 => ?_)
    · have hf := hf.1 c104
      refine lv_sipush (v := 255) hx hb dX8_reads_99 (by decide) ?_
      exact sX8_reads_L102 Y hrc74 hf _ _ _ _ _ hP hL hB (lv_sub hl [0, 1, 2, 3] rfl)
    · have hf := hf.2 c104
      refine lv_iconst (v := 1) hx hb dX8_reads_95 (by decide) ?_
      refine lv_goto (tgt := 102) hx hb dX8_reads_96 (by decide) ?_
      exact sX8_reads_L102 Y hrc74 hf _ _ _ _ _ hP hL hB (lv_sub hl [0, 1, 2, 3] rfl)
set_option maxHeartbeats 4000000 in
theorem sX8_reads_L74 {G : GG_} {p : Program} {l : Launch} {e : Env} {R : Room} {s : State} {m : MethodId} {args : Array Value} {below : List Frame} {meth : Method} {c : Code} {mc ms : Nat} (Y : MX_ G p R s m args meth c cX8_reads 8 RX8 (some Jvm.ClassFile.FieldType.boolean) 9 230 mc ms "reads") {post : Int32 → Hp → Prop} {x0 : Nat} {x1 : Int64} {x3 : Int64} {x5 : Int32} {σ : Hp} (hf : wX8_reads_L74 post x0 x1 x3 x5 σ) : WG_ G p l e R s m args below meth c (MQ below (QI_ G post) args s mc ms (FR_ G)) (BU_ R) 8 74 [(0, rv_ x0), (1, .long x1), (3, .long x3), (5, .int x5)] [] σ := by
  unfold wX8_reads_L74 at hf
  obtain ⟨I, μ, h0, hI⟩ := hf
  have key : ∀ (n : Nat) (x5 : Int32), I x5 → μ x5 < n → WG_ G p l e R s m args below meth c (MQ below (QI_ G post) args s mc ms (FR_ G)) (BU_ R) 8 74 [(0, rv_ x0), (1, .long x1), (3, .long x3), (5, .int x5)] [] σ := by
    intro n
    induction n with
    | zero => intro x5 _ h; exact absurd h (Nat.not_lt_zero _)
    | succ n ih => intro x5 hi hn; exact sX8_reads_B74 Y (fun x5' h => ih x5' h.1 (Nat.lt_of_lt_of_le h.2 (Nat.le_of_lt_succ hn))) (hI x5 hi)
  exact key _ _ h0 (Nat.lt_succ_self _)
set_option maxHeartbeats 4000000 in
theorem sX8_reads_B25 {G : GG_} {p : Program} {l : Launch} {e : Env} {R : Room} {s : State} {m : MethodId} {args : Array Value} {below : List Frame} {meth : Method} {c : Code} {mc ms : Nat} (Y : MX_ G p R s m args meth c cX8_reads 8 RX8 (some Jvm.ClassFile.FieldType.boolean) 9 230 mc ms "reads") {post : Int32 → Hp → Prop} {rc25 : Int32 → Prop} {x0 : Nat} {x1 : Int64} {x3 : Int64} {x5 : Int32} {σ : Hp} (hrc25 : ∀ (x5 : Int32), rc25 x5 → WG_ G p l e R s m args below meth c (MQ below (QI_ G post) args s mc ms (FR_ G)) (BU_ R) 8 25 [(0, rv_ x0), (1, .long x1), (3, .long x3), (5, .int x5)] [] σ) (hf : wX8_reads_B25 post rc25 x0 x1 x3 x5 σ) : WG_ G p l e R s m args below meth c (MQ below (QI_ G post) args s mc ms (FR_ G)) (BU_ R) 8 25 [(0, rv_ x0), (1, .long x1), (3, .long x3), (5, .int x5)] [] σ := by
  have ⟨X, hlk, hr, hRf, hRl, hRc, hnm⟩ := Y
  have ⟨⟨hx, hb, _, hown, hts⟩, _, _⟩ := X
  intro H locs cells slots ls hP hL hB hl
  unfold wX8_reads_B25 at hf
  refine lv_iload hx hb dX8_reads_25 (lv_at hl 3 rfl) ?_
  refine lv_iconst (v := 4) hx hb dX8_reads_27 (by decide) ?_
  refine lv_icmp_ge (tgt := 71) hx hb dX8_reads_28 (by decide) (fun c105 => ?_) (fun c105 => ?_)
  · have hf := hf.1 c105
    refine lv_iconst (v := 0) hx hb dX8_reads_71 (by decide) ?_
    have hl := lv_sub hl [0, 1, 2] rfl
    refine p_istore (i := 5) hx hb dX8_reads_72 hl (by decide) ⟨⟨ne_ rfl, Or.inl (ne_ rfl)⟩, ⟨⟨ne_ rfl, Or.inl (ne_ rfl)⟩, ⟨⟨ne_ rfl, Or.inl (ne_ rfl)⟩, trivial⟩⟩⟩ (fun ls hl => ?_)
    exact sX8_reads_L74 Y hf _ _ _ _ _ hP hL hB (lv_sub hl [1, 2, 3, 0] rfl)
  · have hf := hf.2 c105
    refine p_aload_n hx hb dX8_reads_31 rfl (lv_at hl 0 rfl) ?_
    obtain ⟨ht106, hf⟩ := hf
    refine p_gR X cf7_ (k := 3) (by decide) rfl hP ht106 q594 (fun _ h => h) dX8_reads_32 ?_
    refine lv_lload_n hx hb dX8_reads_35 rfl (lv_at hl 1 rfl) ?_
    refine lv_ldc2 hx hb hown (hts _ q990) dX8_reads_36 ?_
    refine lv_ladd hx hb dX8_reads_39 ?_
    refine lv_iload hx hb dX8_reads_40 (lv_at hl 3 rfl) ?_
    refine lv_i2l hx hb dX8_reads_42 rfl ?_
    refine lv_ladd hx hb dX8_reads_43 ?_
    refine lv_lconst (v := 1) hx hb dX8_reads_44 (by decide) ?_
    obtain ⟨ht107, hf⟩ := hf
    refine p_calli hL (p_runV X cf6_ hP ht107 (metX7_hasWritten l G _ _ _ _ _ X.2.2 hf) (cwV 2 hts (lw_V q992 q993 q994 q104 q995) rfl rfl rfl (by decide +kernel) ⟨Nat.le_trans (Nat.le_of_ble_eq_true rfl) hRf, Nat.le_trans (Nat.le_of_ble_eq_true rfl) hRl⟩) rfl hl.1 rfl (by decide) dX8_reads_45 (BU_call hB (Nat.zero_le _) (Nat.zero_le _))) (fun r108 σ₁ H locs hf hP hL => ?_)
    obtain ⟨e₁, hf⟩ := hf
    rw [e₁] at hP
    refine lv_if_ne (tgt := 65) hx hb dX8_reads_48 (by decide) (fun c109 => ?_) (fun c109 => ?_)
    · have hf := hf.1 c109
      have hl := lv_sub hl [3, 0, 1, 2] rfl
      refine p_iincc (i := 5) (k := 1) hx hb (by decide) dX8_reads_65 hl (by decide) ⟨⟨ne_ rfl, Or.inl (ne_ rfl)⟩, ⟨⟨ne_ rfl, Or.inl (ne_ rfl)⟩, ⟨⟨ne_ rfl, Or.inl (ne_ rfl)⟩, trivial⟩⟩⟩ (fun y110 hy110 ls hl => ?_)
      have hf := hf y110 hy110
      refine lv_goto (tgt := 25) hx hb dX8_reads_68 (by decide) ?_
      exact hrc25 _ hf _ _ _ _ _ hP hL hB (lv_sub hl [1, 2, 3, 0] rfl)
    · have hf := hf.2 c109
      refine p_aload_n hx hb dX8_reads_51 rfl (lv_at hl 0 rfl) ?_
      refine lv_lload_n hx hb dX8_reads_52 rfl (lv_at hl 2 rfl) ?_
      refine lv_iload hx hb dX8_reads_53 (lv_at hl 3 rfl) ?_
      refine lv_sipush (v := 2048) hx hb dX8_reads_55 (by decide) ?_
      refine lv_imul hx hb dX8_reads_58 ?_
      refine lv_i2l hx hb dX8_reads_59 rfl ?_
      refine lv_ladd hx hb dX8_reads_60 ?_
      refine p_calli hL (p_runV X cf7_ hP ht106 (metX8_bad l G _ _ _ _ X.2.2 hf) (cwV 1 hts (lw_V q996 q998 qs21 q105 q999) rfl rfl rfl (by decide +kernel) ⟨Nat.le_trans (Nat.le_of_ble_eq_true rfl) hRf, Nat.le_trans (Nat.le_of_ble_eq_true rfl) hRl⟩) rfl hl.1 rfl (by decide) dX8_reads_61 (BU_call hB (Nat.zero_le _) (Nat.zero_le _))) (fun r111 σ112 H locs hf hP hL => ?_)
      have hB := BU_keep (τ := σ112) hB
      have hP := Pic_bu hP (bc_ σ) (bs_ σ)
      refine p_nmPB hP hB (fun σ113 hσ113 hP hB => ?_)
      have hf := hf σ113 hσ113
      obtain ⟨hn114, hf⟩ := hf
      exact p_zret X hlk hP hL (BU_le hB hRc).1 (BU_le hB hRc).2 hr hn114 dX8_reads_64 hf
set_option maxHeartbeats 4000000 in
theorem sX8_reads_L25 {G : GG_} {p : Program} {l : Launch} {e : Env} {R : Room} {s : State} {m : MethodId} {args : Array Value} {below : List Frame} {meth : Method} {c : Code} {mc ms : Nat} (Y : MX_ G p R s m args meth c cX8_reads 8 RX8 (some Jvm.ClassFile.FieldType.boolean) 9 230 mc ms "reads") {post : Int32 → Hp → Prop} {x0 : Nat} {x1 : Int64} {x3 : Int64} {x5 : Int32} {σ : Hp} (hf : wX8_reads_L25 post x0 x1 x3 x5 σ) : WG_ G p l e R s m args below meth c (MQ below (QI_ G post) args s mc ms (FR_ G)) (BU_ R) 8 25 [(0, rv_ x0), (1, .long x1), (3, .long x3), (5, .int x5)] [] σ := by
  unfold wX8_reads_L25 at hf
  obtain ⟨I, μ, h0, hI⟩ := hf
  have key : ∀ (n : Nat) (x5 : Int32), I x5 → μ x5 < n → WG_ G p l e R s m args below meth c (MQ below (QI_ G post) args s mc ms (FR_ G)) (BU_ R) 8 25 [(0, rv_ x0), (1, .long x1), (3, .long x3), (5, .int x5)] [] σ := by
    intro n
    induction n with
    | zero => intro x5 _ h; exact absurd h (Nat.not_lt_zero _)
    | succ n ih => intro x5 hi hn; exact sX8_reads_B25 Y (fun x5' h => ih x5' h.1 (Nat.lt_of_lt_of_le h.2 (Nat.le_of_lt_succ hn))) (hI x5 hi)
  exact key _ _ h0 (Nat.lt_succ_self _)
set_option maxHeartbeats 4000000 in
theorem sX8_reads {G : GG_} {p : Program} {l : Launch} {e : Env} {R : Room} {s : State} {m : MethodId} {args : Array Value} {below : List Frame} {meth : Method} {c : Code} {mc ms : Nat} (Y : MX_ G p R s m args meth c cX8_reads 8 RX8 (some Jvm.ClassFile.FieldType.boolean) 9 230 mc ms "reads") {post : Int32 → Hp → Prop} {x0 : Nat} {x1 : Int64} {σ : Hp} (hf : wX8_reads x0 x1 σ post) : WG_ G p l e R s m args below meth c (MQ below (QI_ G post) args s mc ms (FR_ G)) (BU_ R) 8 0 [(0, rv_ x0), (1, .long x1)] [] σ := by
  have ⟨X, hlk, hr, hRf, hRl, hRc, hnm⟩ := Y
  have ⟨⟨hx, hb, _, hown, hts⟩, _, _⟩ := X
  intro H locs cells slots ls hP hL hB hl
  unfold wX8_reads at hf
  refine p_aload_n hx hb dX8_reads_0 rfl (lv_at hl 0 rfl) ?_
  obtain ⟨ht115, hf⟩ := hf
  refine p_gR X cf7_ (k := 0) (by decide) rfl hP ht115 q590 (fun _ h => h) dX8_reads_1 ?_
  obtain ⟨ht116, hf⟩ := hf
  refine p_callv hL (p_runV X cf10_ hP ht116 (metJ2_clear l G _ _ _ X.2.2 hf) (cwV 0 hts (lw_V q981 q850 q851 q90 q852) rfl rfl rfl (by decide +kernel) ⟨Nat.le_trans (Nat.le_of_ble_eq_true rfl) hRf, Nat.le_trans (Nat.le_of_ble_eq_true rfl) hRl⟩) rfl hl.1 rfl (by decide) dX8_reads_4 (BU_call hB (Nat.zero_le _) (Nat.zero_le _))) (fun σ117 H locs hf hP hL => ?_)
  have hB := BU_keep (τ := σ117) hB
  have hP := Pic_bu hP (bc_ σ) (bs_ σ)
  refine p_nmPB hP hB (fun σ118 hσ118 hP hB => ?_)
  have hf := hf σ118 hσ118
  refine p_aload_n hx hb dX8_reads_7 rfl (lv_at hl 0 rfl) ?_
  refine lv_iconst (v := 0) hx hb dX8_reads_8 (by decide) ?_
  obtain ⟨ht119, hf⟩ := hf
  refine p_pI X cf7_ (k := 2) (by decide) rfl hP hL ht119 (p_ow hP ht119 rfl) q593 (fun _ h => h) (Or.inl rfl) rfl rfl dX8_reads_9 (fun H locs hP hL => ?_)
  refine p_nmPB hP hB (fun σ120 hσ120 hP hB => ?_)
  have hf := hf σ120 hσ120
  have ht119 : tg_ σ120 x0 = 8 := by rw [hσ120]; exact ht119
  refine lv_lload_n hx hb dX8_reads_12 rfl (lv_at hl 1 rfl) ?_
  refine lv_ldc2 hx hb hown (hts _ q990) dX8_reads_13 ?_
  refine lv_ladd hx hb dX8_reads_16 ?_
  refine lv_ldc2 hx hb hown (hts _ q991) dX8_reads_17 ?_
  refine lv_lmul hx hb dX8_reads_20 ?_
  refine lv_topl (fun y121 hy121 => ?_)
  have hf := hf y121 hy121
  refine p_lstore_n (i := 3) hx hb dX8_reads_21 rfl hl (by decide) ⟨⟨ne_ rfl, ne_ rfl, Or.inl (ne_ rfl)⟩, ⟨⟨ne_ rfl, ne_ rfl, Or.inl (ne_ rfl)⟩, trivial⟩⟩ (fun ls hl => ?_)
  refine lv_iconst (v := 0) hx hb dX8_reads_22 (by decide) ?_
  refine p_istore (i := 5) hx hb dX8_reads_23 hl (by decide) ⟨⟨ne_ rfl, Or.inl (ne_ rfl)⟩, ⟨⟨ne_ rfl, Or.inl (ne_ rfl)⟩, ⟨⟨ne_ rfl, Or.inl (ne_ rfl)⟩, trivial⟩⟩⟩ (fun ls hl => ?_)
  exact sX8_reads_L25 Y hf _ _ _ _ _ hP hL hB (lv_sub hl [2, 3, 1, 0] rfl)
set_option maxHeartbeats 4000000 in
theorem metX8_reads (l : Launch) (G : GG_) (mc ms : Nat) (x0 : Nat) (x1 : Int64) (σ : Hp) (post : Int32 → Hp → Prop) (hG : GOK_ G) (hf : wX8_reads x0 x1 (bu_ σ mc ms) post) : Met l yX8_reads (ws_ yX8_reads cX8_reads 8 (some Jvm.ClassFile.FieldType.boolean)) { frames := 9, cells := mc, slots := ms, locals := 230 } (PC_ G [rv_ x0, .long x1] (bu_ σ mc ms)) (QI_ G post) mc ms (FR_ G) := by
  refine Met.ofW (cc := cX8_reads) (maxL := 8) (ret := (some Jvm.ClassFile.FieldType.boolean)) (by decide) rfl ?_
  intro p e s m args below meth c s₁ B hml hv
  obtain ⟨rfl, hP, hW⟩ := hv
  have hts := atoms_spec (ws := ws_ yX8_reads cX8_reads 8 (some Jvm.ClassFile.FieldType.boolean)) B.pre
  have hts : ∀ w ∈ lw_all, w.before _ s = true := fun w h => hts w (List.mem_cons_of_mem _ h)
  rw [lg_entry_eq]
  have hl := en_entry [rv_ x0, .long x1] [1, 2] (n := 8) (ca_r (ca_l ca_n)) (by decide)
  exact sX8_reads ⟨⟨⟨B.exec, B.bytes, hml, findClass_of_methodNamed B.named, hts⟩, hW, hG⟩, B.notSynchronized, B.returns, Nat.le_refl _, Nat.le_refl _, ⟨rfl, rfl⟩, (name_of_methodNamed B.named B.method).1⟩ hf _ _ _ _ _ hP (LO_nil G) (BU_in ⟨rfl, rfl⟩) hl
