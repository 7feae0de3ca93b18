set_option maxRecDepth 100000
abbrev cX9_isNew : ByteArray := prog_11_method_60_code
def yX9_isNew : MethodName := ⟨RX9, "isNew", "(III)Z"⟩
theorem dX9_isNew_0 : decode cX9_isNew 0 = .ok (.aload_n 0, 1) := by decide +kernel
theorem dX9_isNew_1 : decode cX9_isNew 1 = .ok (.getfield 283, 3) := by decide +kernel
theorem dX9_isNew_4 : decode cX9_isNew 4 = .ok (.bipush 30, 2) := by decide +kernel
theorem dX9_isNew_6 : decode cX9_isNew 6 = .ok (.if_icmp .ne 5, 3) := by decide +kernel
theorem dX9_isNew_9 : decode cX9_isNew 9 = .ok (.iconst 0, 1) := by decide +kernel
theorem dX9_isNew_10 : decode cX9_isNew 10 = .ok (.ireturn, 1) := by decide +kernel
theorem dX9_isNew_11 : decode cX9_isNew 11 = .ok (.aload_n 0, 1) := by decide +kernel
theorem dX9_isNew_12 : decode cX9_isNew 12 = .ok (.aload_n 0, 1) := by decide +kernel
theorem dX9_isNew_13 : decode cX9_isNew 13 = .ok (.getfield 283, 3) := by decide +kernel
theorem dX9_isNew_16 : decode cX9_isNew 16 = .ok (.iload_n 1, 1) := by decide +kernel
theorem dX9_isNew_17 : decode cX9_isNew 17 = .ok (.iload_n 2, 1) := by decide +kernel
theorem dX9_isNew_18 : decode cX9_isNew 18 = .ok (.iconst 0, 1) := by decide +kernel
theorem dX9_isNew_19 : decode cX9_isNew 19 = .ok (.invokevirtual 295, 3) := by decide +kernel
theorem dX9_isNew_22 : decode cX9_isNew 22 = .ok (.aload_n 0, 1) := by decide +kernel
theorem dX9_isNew_23 : decode cX9_isNew 23 = .ok (.getfield 283, 3) := by decide +kernel
theorem dX9_isNew_26 : decode cX9_isNew 26 = .ok (.istore 4, 2) := by decide +kernel
theorem dX9_isNew_28 : decode cX9_isNew 28 = .ok (.iload_n 3, 1) := by decide +kernel
theorem dX9_isNew_29 : decode cX9_isNew 29 = .ok (.ifCond .lt 37, 3) := by decide +kernel
theorem dX9_isNew_32 : decode cX9_isNew 32 = .ok (.aload_n 0, 1) := by decide +kernel
theorem dX9_isNew_33 : decode cX9_isNew 33 = .ok (.getfield 78, 3) := by decide +kernel
theorem dX9_isNew_36 : decode cX9_isNew 36 = .ok (.iload_n 3, 1) := by decide +kernel
theorem dX9_isNew_37 : decode cX9_isNew 37 = .ok (.laload, 1) := by decide +kernel
theorem dX9_isNew_38 : decode cX9_isNew 38 = .ok (.aload_n 0, 1) := by decide +kernel
theorem dX9_isNew_39 : decode cX9_isNew 39 = .ok (.getfield 69, 3) := by decide +kernel
theorem dX9_isNew_42 : decode cX9_isNew 42 = .ok (.iload_n 3, 1) := by decide +kernel
theorem dX9_isNew_43 : decode cX9_isNew 43 = .ok (.baload, 1) := by decide +kernel
theorem dX9_isNew_44 : decode cX9_isNew 44 = .ok (.aload_n 0, 1) := by decide +kernel
theorem dX9_isNew_45 : decode cX9_isNew 45 = .ok (.getfield 78, 3) := by decide +kernel
theorem dX9_isNew_48 : decode cX9_isNew 48 = .ok (.iload 4, 2) := by decide +kernel
theorem dX9_isNew_50 : decode cX9_isNew 50 = .ok (.laload, 1) := by decide +kernel
theorem dX9_isNew_51 : decode cX9_isNew 51 = .ok (.aload_n 0, 1) := by decide +kernel
theorem dX9_isNew_52 : decode cX9_isNew 52 = .ok (.getfield 69, 3) := by decide +kernel
theorem dX9_isNew_55 : decode cX9_isNew 55 = .ok (.iload 4, 2) := by decide +kernel
theorem dX9_isNew_57 : decode cX9_isNew 57 = .ok (.baload, 1) := by decide +kernel
theorem dX9_isNew_58 : decode cX9_isNew 58 = .ok (.invokestatic 177, 3) := by decide +kernel
theorem dX9_isNew_61 : decode cX9_isNew 61 = .ok (.ifCond .lt 5, 3) := by decide +kernel
theorem dX9_isNew_64 : decode cX9_isNew 64 = .ok (.iconst 0, 1) := by decide +kernel
theorem dX9_isNew_65 : decode cX9_isNew 65 = .ok (.ireturn, 1) := by decide +kernel
theorem dX9_isNew_66 : decode cX9_isNew 66 = .ok (.aload_n 0, 1) := by decide +kernel
theorem dX9_isNew_67 : decode cX9_isNew 67 = .ok (.getfield 69, 3) := by decide +kernel
theorem dX9_isNew_70 : decode cX9_isNew 70 = .ok (.iload 4, 2) := by decide +kernel
theorem dX9_isNew_72 : decode cX9_isNew 72 = .ok (.baload, 1) := by decide +kernel
theorem dX9_isNew_73 : decode cX9_isNew 73 = .ok (.ifCond .ne 5, 3) := by decide +kernel
theorem dX9_isNew_76 : decode cX9_isNew 76 = .ok (.iconst 1, 1) := by decide +kernel
theorem dX9_isNew_77 : decode cX9_isNew 77 = .ok (.ireturn, 1) := by decide +kernel
theorem dX9_isNew_78 : decode cX9_isNew 78 = .ok (.aload_n 0, 1) := by decide +kernel
theorem dX9_isNew_79 : decode cX9_isNew 79 = .ok (.getfield 81, 3) := by decide +kernel
theorem dX9_isNew_82 : decode cX9_isNew 82 = .ok (.iload 4, 2) := by decide +kernel
theorem dX9_isNew_84 : decode cX9_isNew 84 = .ok (.iaload, 1) := by decide +kernel
theorem dX9_isNew_85 : decode cX9_isNew 85 = .ok (.bipush 6, 2) := by decide +kernel
theorem dX9_isNew_87 : decode cX9_isNew 87 = .ok (.if_icmp .le 5, 3) := by decide +kernel
theorem dX9_isNew_90 : decode cX9_isNew 90 = .ok (.iconst 0, 1) := by decide +kernel
theorem dX9_isNew_91 : decode cX9_isNew 91 = .ok (.ireturn, 1) := by decide +kernel
theorem dX9_isNew_92 : decode cX9_isNew 92 = .ok (.iconst 0, 1) := by decide +kernel
theorem dX9_isNew_93 : decode cX9_isNew 93 = .ok (.istore 5, 2) := by decide +kernel
theorem dX9_isNew_95 : decode cX9_isNew 95 = .ok (.iload 5, 2) := by decide +kernel
theorem dX9_isNew_97 : decode cX9_isNew 97 = .ok (.iload 4, 2) := by decide +kernel
theorem dX9_isNew_99 : decode cX9_isNew 99 = .ok (.if_icmp .ge 79, 3) := by decide +kernel
theorem dX9_isNew_102 : decode cX9_isNew 102 = .ok (.aload_n 0, 1) := by decide +kernel
theorem dX9_isNew_103 : decode cX9_isNew 103 = .ok (.getfield 69, 3) := by decide +kernel
theorem dX9_isNew_106 : decode cX9_isNew 106 = .ok (.iload 5, 2) := by decide +kernel
theorem dX9_isNew_108 : decode cX9_isNew 108 = .ok (.baload, 1) := by decide +kernel
theorem dX9_isNew_109 : decode cX9_isNew 109 = .ok (.ifCond .eq 63, 3) := by decide +kernel
theorem dX9_isNew_112 : decode cX9_isNew 112 = .ok (.aload_n 0, 1) := by decide +kernel
theorem dX9_isNew_113 : decode cX9_isNew 113 = .ok (.getfield 75, 3) := by decide +kernel
theorem dX9_isNew_116 : decode cX9_isNew 116 = .ok (.iload 4, 2) := by decide +kernel
theorem dX9_isNew_118 : decode cX9_isNew 118 = .ok (.iaload, 1) := by decide +kernel
theorem dX9_isNew_119 : decode cX9_isNew 119 = .ok (.aload_n 0, 1) := by decide +kernel
theorem dX9_isNew_120 : decode cX9_isNew 120 = .ok (.getfield 75, 3) := by decide +kernel
theorem dX9_isNew_123 : decode cX9_isNew 123 = .ok (.iload 5, 2) := by decide +kernel
theorem dX9_isNew_125 : decode cX9_isNew 125 = .ok (.iaload, 1) := by decide +kernel
theorem dX9_isNew_126 : decode cX9_isNew 126 = .ok (.aload_n 0, 1) := by decide +kernel
theorem dX9_isNew_127 : decode cX9_isNew 127 = .ok (.getfield 72, 3) := by decide +kernel
theorem dX9_isNew_130 : decode cX9_isNew 130 = .ok (.iload 5, 2) := by decide +kernel
theorem dX9_isNew_132 : decode cX9_isNew 132 = .ok (.iaload, 1) := by decide +kernel
theorem dX9_isNew_133 : decode cX9_isNew 133 = .ok (.sipush 2048, 3) := by decide +kernel
theorem dX9_isNew_136 : decode cX9_isNew 136 = .ok (.idiv, 1) := by decide +kernel
theorem dX9_isNew_137 : decode cX9_isNew 137 = .ok (.iadd, 1) := by decide +kernel
theorem dX9_isNew_138 : decode cX9_isNew 138 = .ok (.if_icmp .ge 34, 3) := by decide +kernel
theorem dX9_isNew_141 : decode cX9_isNew 141 = .ok (.aload_n 0, 1) := by decide +kernel
theorem dX9_isNew_142 : decode cX9_isNew 142 = .ok (.getfield 75, 3) := by decide +kernel
theorem dX9_isNew_145 : decode cX9_isNew 145 = .ok (.iload 5, 2) := by decide +kernel
theorem dX9_isNew_147 : decode cX9_isNew 147 = .ok (.iaload, 1) := by decide +kernel
theorem dX9_isNew_148 : decode cX9_isNew 148 = .ok (.aload_n 0, 1) := by decide +kernel
theorem dX9_isNew_149 : decode cX9_isNew 149 = .ok (.getfield 75, 3) := by decide +kernel
theorem dX9_isNew_152 : decode cX9_isNew 152 = .ok (.iload 4, 2) := by decide +kernel
theorem dX9_isNew_154 : decode cX9_isNew 154 = .ok (.iaload, 1) := by decide +kernel
theorem dX9_isNew_155 : decode cX9_isNew 155 = .ok (.aload_n 0, 1) := by decide +kernel
theorem dX9_isNew_156 : decode cX9_isNew 156 = .ok (.getfield 72, 3) := by decide +kernel
theorem dX9_isNew_159 : decode cX9_isNew 159 = .ok (.iload 4, 2) := by decide +kernel
theorem dX9_isNew_161 : decode cX9_isNew 161 = .ok (.iaload, 1) := by decide +kernel
theorem dX9_isNew_162 : decode cX9_isNew 162 = .ok (.sipush 2048, 3) := by decide +kernel
theorem dX9_isNew_165 : decode cX9_isNew 165 = .ok (.idiv, 1) := by decide +kernel
theorem dX9_isNew_166 : decode cX9_isNew 166 = .ok (.iadd, 1) := by decide +kernel
theorem dX9_isNew_167 : decode cX9_isNew 167 = .ok (.if_icmp .ge 5, 3) := by decide +kernel
theorem dX9_isNew_170 : decode cX9_isNew 170 = .ok (.iconst 0, 1) := by decide +kernel
theorem dX9_isNew_171 : decode cX9_isNew 171 = .ok (.ireturn, 1) := by decide +kernel
theorem dX9_isNew_172 : decode cX9_isNew 172 = .ok (.iinc 5 1, 3) := by decide +kernel
theorem dX9_isNew_175 : decode cX9_isNew 175 = .ok (.goto (-80), 3) := by decide +kernel
theorem dX9_isNew_178 : decode cX9_isNew 178 = .ok (.iconst 1, 1) := by decide +kernel
theorem dX9_isNew_179 : decode cX9_isNew 179 = .ok (.ireturn, 1) := by decide +kernel
/-- WriteOnceDiscModel.isNew(III)Z -/
def wX9_isNew_L172 (post : Int32 → Hp → Prop) (rc95 : Int32 → Prop) (x0 : Nat) (x4 : Int32) (x5 : Int32) (σ : Hp) : Prop :=
(∀ y1 : Int32, y1 = x5 + 1 → rc95 y1)
def wX9_isNew_B95 (post : Int32 → Hp → Prop) (rc95 : Int32 → Prop) (x0 : Nat) (x4 : Int32) (x5 : Int32) (σ : Hp) : Prop :=
((x4 ≤ x5 →
  post (1 : Int32) σ) ∧
 (¬ x4 ≤ x5 →
  (tg_ σ x0 = 9 ∧ (tg_ σ (fR_ σ 8 30 x0) = 101 ∧ (vp_in x5 (ln_ σ (fR_ σ 8 30 x0)) ∧ (((aI_ σ (fR_ σ 8 30 x0) (x5).toNatClampNeg) = 0 →
   wX9_isNew_L172 post rc95 x0 x4 x5 σ) ∧
  (¬ (aI_ σ (fR_ σ 8 30 x0) (x5).toNatClampNeg) = 0 →
   (tg_ σ (fR_ σ 8 32 x0) = 102 ∧ (vp_in x4 (ln_ σ (fR_ σ 8 32 x0)) ∧ (vp_in x5 (ln_ σ (fR_ σ 8 32 x0)) ∧ (tg_ σ (fR_ σ 8 31 x0) = 102 ∧ (vp_in x5 (ln_ σ (fR_ σ 8 31 x0)) ∧ ((((aI_ σ (fR_ σ 8 32 x0) (x5).toNatClampNeg) + ((aI_ σ (fR_ σ 8 31 x0) (x5).toNatClampNeg) / (2048 : Int32))) ≤ (aI_ σ (fR_ σ 8 32 x0) (x4).toNatClampNeg) →
    wX9_isNew_L172 post rc95 x0 x4 x5 σ) ∧
   (¬ ((aI_ σ (fR_ σ 8 32 x0) (x5).toNatClampNeg) + ((aI_ σ (fR_ σ 8 31 x0) (x5).toNatClampNeg) / (2048 : Int32))) ≤ (aI_ σ (fR_ σ 8 32 x0) (x4).toNatClampNeg) →
    (vp_in x5 (ln_ σ (fR_ σ 8 32 x0)) ∧ (vp_in x4 (ln_ σ (fR_ σ 8 32 x0)) ∧ (vp_in x4 (ln_ σ (fR_ σ 8 31 x0)) ∧ ((((aI_ σ (fR_ σ 8 32 x0) (x4).toNatClampNeg) + ((aI_ σ (fR_ σ 8 31 x0) (x4).toNatClampNeg) / (2048 : Int32))) ≤ (aI_ σ (fR_ σ 8 32 x0) (x5).toNatClampNeg) →
     wX9_isNew_L172 post rc95 x0 x4 x5 σ) ∧
    (¬ ((aI_ σ (fR_ σ 8 32 x0) (x4).toNatClampNeg) + ((aI_ σ (fR_ σ 8 31 x0) (x4).toNatClampNeg) / (2048 : Int32))) ≤ (aI_ σ (fR_ σ 8 32 x0) (x5).toNatClampNeg) →
     post (0 : Int32) σ)))))))))))))))))))
def wX9_isNew_L95 (post : Int32 → Hp → Prop) (x0 : Nat) (x4 : Int32) (x5 : Int32) (σ : Hp) : Prop :=
 ∃ (I : Int32 → Prop) (μ : Int32 → Nat), I x5 ∧ ∀ (x5 : Int32), I x5 → wX9_isNew_B95 post (fun x5' => I x5' ∧ μ x5' < μ x5) x0 x4 x5 σ
def wX9_isNew_L66 (post : Int32 → Hp → Prop) (x0 : Nat) (x4 : Int32) (σ : Hp) : Prop :=
(tg_ σ x0 = 9 ∧ (tg_ σ (fR_ σ 8 30 x0) = 101 ∧ (vp_in x4 (ln_ σ (fR_ σ 8 30 x0)) ∧ ((¬ (aI_ σ (fR_ σ 8 30 x0) (x4).toNatClampNeg) = 0 →
  (tg_ σ (fR_ σ 8 34 x0) = 102 ∧ (vp_in x4 (ln_ σ (fR_ σ 8 34 x0)) ∧ (((aI_ σ (fR_ σ 8 34 x0) (x4).toNatClampNeg) ≤ (6 : Int32) →
   wX9_isNew_L95 post x0 x4 (0 : Int32) σ) ∧
  (¬ (aI_ σ (fR_ σ 8 34 x0) (x4).toNatClampNeg) ≤ (6 : Int32) →
   post (0 : Int32) σ))))) ∧
 ((aI_ σ (fR_ σ 8 30 x0) (x4).toNatClampNeg) = 0 →
  post (1 : Int32) σ)))))
def wX9_isNew (x0 : Nat) (x1 : Int32) (x2 : Int32) (x3 : Int32) (σ : Hp) (post : Int32 → Hp → Prop) : Prop :=
(tg_ σ x0 = 9 ∧ ((¬ (fI_ σ 8 27 x0) = (30 : Int32) →
  (wX9_begin x0 (fI_ σ 8 27 x0) x1 x2 (0 : Int32) σ (fun σ26 => (tg_ σ26 x0 = 9 ∧ (∀ y28 : Int32, y28 = (fI_ σ26 8 27 x0) → ((x3 < 0 →
   wX9_isNew_L66 post x0 y28 σ26) ∧
  (¬ x3 < 0 →
   (tg_ σ26 (fR_ σ26 8 33 x0) = 103 ∧ (vp_in x3 (ln_ σ26 (fR_ σ26 8 33 x0)) ∧ (tg_ σ26 (fR_ σ26 8 30 x0) = 101 ∧ (vp_in x3 (ln_ σ26 (fR_ σ26 8 30 x0)) ∧ (vp_in y28 (ln_ σ26 (fR_ σ26 8 33 x0)) ∧ (vp_in y28 (ln_ σ26 (fR_ σ26 8 30 x0)) ∧ (wX9_compare (aL_ σ26 (fR_ σ26 8 33 x0) (x3).toNatClampNeg) (aI_ σ26 (fR_ σ26 8 30 x0) (x3).toNatClampNeg) (aL_ σ26 (fR_ σ26 8 33 x0) (y28).toNatClampNeg) (aI_ σ26 (fR_ σ26 8 30 x0) (y28).toNatClampNeg) σ26 (fun r36 => ((r36 < 0 →
    wX9_isNew_L66 post x0 y28 σ26) ∧
   (¬ r36 < 0 →
    post (0 : Int32) σ26))))))))))))))))) ∧
 ((fI_ σ 8 27 x0) = (30 : Int32) →
  post (0 : Int32) σ)))
set_option maxHeartbeats 4000000 in
theorem sX9_isNew_L172 {G : GG_} {p : Program} {l : Launch} {e : Env} {R : Room} {s : State} {m : MethodId} {args : Array Value} {below : List Frame} {meth : Method} {c : Code} (Y : MX_ G p R s m args meth c cX9_isNew 6 RX9 (some Jvm.ClassFile.FieldType.boolean) 5 115 0 0 "isNew") {post : Int32 → Hp → Prop} {rc95 : Int32 → Prop} {x0 : Nat} {x4 : Int32} {x5 : Int32} {σ : Hp} (hrc95 : ∀ (x5 : Int32), rc95 x5 → WG_ G p l e R s m args below meth c (MQ below (QI_ G post) args s 0 0 (FR_ G)) BN_ 6 95 [(0, rv_ x0), (4, .int x4), (5, .int x5)] [] σ) (hf : wX9_isNew_L172 post rc95 x0 x4 x5 σ) : WG_ G p l e R s m args below meth c (MQ below (QI_ G post) args s 0 0 (FR_ G)) BN_ 6 172 [(0, rv_ x0), (4, .int x4), (5, .int x5)] [] σ := by
  have ⟨X, hlk, hr, hRf, hRl, hRc, hnm⟩ := Y
  have ⟨⟨hx, hb, _, hown, hts⟩, _, _⟩ := X
  intro H locs cells slots ls hP hL hB hl
  obtain ⟨rfl, rfl⟩ := hB
  unfold wX9_isNew_L172 at hf
  have hl := lv_sub hl [2, 0, 1] rfl
  refine p_iincc (i := 5) (k := 1) hx hb (by decide) dX9_isNew_172 hl (by decide) ⟨⟨ne_ rfl, Or.inl (ne_ rfl)⟩, ⟨⟨ne_ rfl, Or.inr rfl⟩, trivial⟩⟩ (fun y1 hy1 ls hl => ?_)
  have hf := hf y1 hy1
  refine lv_goto (tgt := 95) hx hb dX9_isNew_175 (by decide) ?_
  exact hrc95 _ hf _ _ _ _ _ hP hL ⟨rfl, rfl⟩ (lv_sub hl [1, 2, 0] rfl)
set_option maxHeartbeats 4000000 in
theorem sX9_isNew_B95 {G : GG_} {p : Program} {l : Launch} {e : Env} {R : Room} {s : State} {m : MethodId} {args : Array Value} {below : List Frame} {meth : Method} {c : Code} (Y : MX_ G p R s m args meth c cX9_isNew 6 RX9 (some Jvm.ClassFile.FieldType.boolean) 5 115 0 0 "isNew") {post : Int32 → Hp → Prop} {rc95 : Int32 → Prop} {x0 : Nat} {x4 : Int32} {x5 : Int32} {σ : Hp} (hrc95 : ∀ (x5 : Int32), rc95 x5 → WG_ G p l e R s m args below meth c (MQ below (QI_ G post) args s 0 0 (FR_ G)) BN_ 6 95 [(0, rv_ x0), (4, .int x4), (5, .int x5)] [] σ) (hf : wX9_isNew_B95 post rc95 x0 x4 x5 σ) : WG_ G p l e R s m args below meth c (MQ below (QI_ G post) args s 0 0 (FR_ G)) BN_ 6 95 [(0, rv_ x0), (4, .int x4), (5, .int x5)] [] σ := by
  have ⟨X, hlk, hr, hRf, hRl, hRc, hnm⟩ := Y
  have ⟨⟨hx, hb, _, hown, hts⟩, _, _⟩ := X
  intro H locs cells slots ls hP hL hB hl
  obtain ⟨rfl, rfl⟩ := hB
  unfold wX9_isNew_B95 at hf
  refine lv_iload hx hb dX9_isNew_95 (lv_at hl 2 rfl) ?_
  refine lv_iload hx hb dX9_isNew_97 (lv_at hl 1 rfl) ?_
  refine lv_icmp_ge (tgt := 178) hx hb dX9_isNew_99 (by decide) (fun c2 => ?_) (fun c2 => ?_)
  · have hf := hf.1 c2
    refine lv_iconst (v := 1) hx hb dX9_isNew_178 (by decide) ?_
    exact p_zret X hlk hP hL (Nat.le_refl _) (Nat.le_refl _) hr nr_1 dX9_isNew_179 hf
  · have hf := hf.2 c2
    refine p_aload_n hx hb dX9_isNew_102 rfl (lv_at hl 0 rfl) ?_
    obtain ⟨ht3, hf⟩ := hf
    refine p_gR X cf8_ (k := 30) (by decide) rfl hP ht3 q1324 (fun _ h => h) dX9_isNew_103 ?_
    refine lv_iload hx hb dX9_isNew_106 (lv_at hl 2 rfl) ?_
    obtain ⟨ht4, hf⟩ := hf
    obtain ⟨hi5, hf⟩ := hf
    refine p_zald X hP ht4 hi5 dX9_isNew_108 ?_
    refine lv_if_eq (tgt := 172) hx hb dX9_isNew_109 (by decide) (fun c6 => ?_) (fun c6 => ?_)
    · have hf := hf.1 c6
      exact sX9_isNew_L172 Y hrc95 hf _ _ _ _ _ hP hL ⟨rfl, rfl⟩ (lv_sub hl [0, 1, 2] rfl)
    · have hf := hf.2 c6
      refine p_aload_n hx hb dX9_isNew_112 rfl (lv_at hl 0 rfl) ?_
      refine p_gR X cf8_ (k := 32) (by decide) rfl hP ht3 q1326 (fun _ h => h) dX9_isNew_113 ?_
      refine lv_iload hx hb dX9_isNew_116 (lv_at hl 1 rfl) ?_
      obtain ⟨ht7, hf⟩ := hf
      obtain ⟨hi8, hf⟩ := hf
      refine p_iald X hP ht7 hi8 dX9_isNew_118 ?_
      refine p_aload_n hx hb dX9_isNew_119 rfl (lv_at hl 0 rfl) ?_
      refine p_gR X cf8_ (k := 32) (by decide) rfl hP ht3 q1326 (fun _ h => h) dX9_isNew_120 ?_
      refine lv_iload hx hb dX9_isNew_123 (lv_at hl 2 rfl) ?_
      obtain ⟨hi9, hf⟩ := hf
      refine p_iald X hP ht7 hi9 dX9_isNew_125 ?_
      refine p_aload_n hx hb dX9_isNew_126 rfl (lv_at hl 0 rfl) ?_
      refine p_gR X cf8_ (k := 31) (by decide) rfl hP ht3 q1325 (fun _ h => h) dX9_isNew_127 ?_
      refine lv_iload hx hb dX9_isNew_130 (lv_at hl 2 rfl) ?_
      obtain ⟨ht10, hf⟩ := hf
      obtain ⟨hi11, hf⟩ := hf
      refine p_iald X hP ht10 hi11 dX9_isNew_132 ?_
      refine lv_sipush (v := 2048) hx hb dX9_isNew_133 (by decide) ?_
      refine lv_idiv hx hb dX9_isNew_136 (by decide) ?_
      refine lv_iadd hx hb dX9_isNew_137 ?_
      refine lv_icmp_ge (tgt := 172) hx hb dX9_isNew_138 (by decide) (fun c12 => ?_) (fun c12 => ?_)
      · have hf := hf.1 c12
        exact sX9_isNew_L172 Y hrc95 hf _ _ _ _ _ hP hL ⟨rfl, rfl⟩ (lv_sub hl [0, 1, 2] rfl)
      · have hf := hf.2 c12
        refine p_aload_n hx hb dX9_isNew_141 rfl (lv_at hl 0 rfl) ?_
        refine p_gR X cf8_ (k := 32) (by decide) rfl hP ht3 q1326 (fun _ h => h) dX9_isNew_142 ?_
        refine lv_iload hx hb dX9_isNew_145 (lv_at hl 2 rfl) ?_
        obtain ⟨hi13, hf⟩ := hf
        refine p_iald X hP ht7 hi13 dX9_isNew_147 ?_
        refine p_aload_n hx hb dX9_isNew_148 rfl (lv_at hl 0 rfl) ?_
        refine p_gR X cf8_ (k := 32) (by decide) rfl hP ht3 q1326 (fun _ h => h) dX9_isNew_149 ?_
        refine lv_iload hx hb dX9_isNew_152 (lv_at hl 1 rfl) ?_
        obtain ⟨hi14, hf⟩ := hf
        refine p_iald X hP ht7 hi14 dX9_isNew_154 ?_
        refine p_aload_n hx hb dX9_isNew_155 rfl (lv_at hl 0 rfl) ?_
        refine p_gR X cf8_ (k := 31) (by decide) rfl hP ht3 q1325 (fun _ h => h) dX9_isNew_156 ?_
        refine lv_iload hx hb dX9_isNew_159 (lv_at hl 1 rfl) ?_
        obtain ⟨hi15, hf⟩ := hf
        refine p_iald X hP ht10 hi15 dX9_isNew_161 ?_
        refine lv_sipush (v := 2048) hx hb dX9_isNew_162 (by decide) ?_
        refine lv_idiv hx hb dX9_isNew_165 (by decide) ?_
        refine lv_iadd hx hb dX9_isNew_166 ?_
        refine lv_icmp_ge (tgt := 172) hx hb dX9_isNew_167 (by decide) (fun c16 => ?_) (fun c16 => ?_)
        · have hf := hf.1 c16
          exact sX9_isNew_L172 Y hrc95 hf _ _ _ _ _ hP hL ⟨rfl, rfl⟩ (lv_sub hl [0, 1, 2] rfl)
        · have hf := hf.2 c16
          refine lv_iconst (v := 0) hx hb dX9_isNew_170 (by decide) ?_
          exact p_zret X hlk hP hL (Nat.le_refl _) (Nat.le_refl _) hr nr_0 dX9_isNew_171 hf
set_option maxHeartbeats 4000000 in
theorem sX9_isNew_L95 {G : GG_} {p : Program} {l : Launch} {e : Env} {R : Room} {s : State} {m : MethodId} {args : Array Value} {below : List Frame} {meth : Method} {c : Code} (Y : MX_ G p R s m args meth c cX9_isNew 6 RX9 (some Jvm.ClassFile.FieldType.boolean) 5 115 0 0 "isNew") {post : Int32 → Hp → Prop} {x0 : Nat} {x4 : Int32} {x5 : Int32} {σ : Hp} (hf : wX9_isNew_L95 post x0 x4 x5 σ) : WG_ G p l e R s m args below meth c (MQ below (QI_ G post) args s 0 0 (FR_ G)) BN_ 6 95 [(0, rv_ x0), (4, .int x4), (5, .int x5)] [] σ := by
  unfold wX9_isNew_L95 at hf
  obtain ⟨I, μ, h0, hI⟩ := hf
  have key : ∀ (n : Nat) (x5 : Int32), I x5 → μ x5 < n → WG_ G p l e R s m args below meth c (MQ below (QI_ G post) args s 0 0 (FR_ G)) BN_ 6 95 [(0, rv_ x0), (4, .int x4), (5, .int x5)] [] σ := by
    intro n
    induction n with
    | zero => intro x5 _ h; exact absurd h (Nat.not_lt_zero _)
    | succ n ih => intro x5 hi hn; exact sX9_isNew_B95 Y (fun x5' h => ih x5' h.1 (Nat.lt_of_lt_of_le h.2 (Nat.le_of_lt_succ hn))) (hI x5 hi)
  exact key _ _ h0 (Nat.lt_succ_self _)
set_option maxHeartbeats 4000000 in
theorem sX9_isNew_L66 {G : GG_} {p : Program} {l : Launch} {e : Env} {R : Room} {s : State} {m : MethodId} {args : Array Value} {below : List Frame} {meth : Method} {c : Code} (Y : MX_ G p R s m args meth c cX9_isNew 6 RX9 (some Jvm.ClassFile.FieldType.boolean) 5 115 0 0 "isNew") {post : Int32 → Hp → Prop} {x0 : Nat} {x4 : Int32} {σ : Hp} (hf : wX9_isNew_L66 post x0 x4 σ) : WG_ G p l e R s m args below meth c (MQ below (QI_ G post) args s 0 0 (FR_ G)) BN_ 6 66 [(0, rv_ x0), (4, .int x4)] [] σ := by
  have ⟨X, hlk, hr, hRf, hRl, hRc, hnm⟩ := Y
  have ⟨⟨hx, hb, _, hown, hts⟩, _, _⟩ := X
  intro H locs cells slots ls hP hL hB hl
  obtain ⟨rfl, rfl⟩ := hB
  unfold wX9_isNew_L66 at hf
  refine p_aload_n hx hb dX9_isNew_66 rfl (lv_at hl 0 rfl) ?_
  obtain ⟨ht17, hf⟩ := hf
  refine p_gR X cf8_ (k := 30) (by decide) rfl hP ht17 q1324 (fun _ h => h) dX9_isNew_67 ?_
  refine lv_iload hx hb dX9_isNew_70 (lv_at hl 1 rfl) ?_
  obtain ⟨ht18, hf⟩ := hf
  obtain ⟨hi19, hf⟩ := hf
  refine p_zald X hP ht18 hi19 dX9_isNew_72 ?_
  refine lv_if_ne (tgt := 78) hx hb dX9_isNew_73 (by decide) (fun c20 => ?_) (fun c20 => ?_)
  · have hf := hf.1 c20
    refine p_aload_n hx hb dX9_isNew_78 rfl (lv_at hl 0 rfl) ?_
    refine p_gR X cf8_ (k := 34) (by decide) rfl hP ht17 q1328 (fun _ h => h) dX9_isNew_79 ?_
    refine lv_iload hx hb dX9_isNew_82 (lv_at hl 1 rfl) ?_
    obtain ⟨ht21, hf⟩ := hf
    obtain ⟨hi22, hf⟩ := hf
    refine p_iald X hP ht21 hi22 dX9_isNew_84 ?_
    refine lv_bipush (v := 6) hx hb dX9_isNew_85 (by decide) ?_
    refine lv_icmp_le (tgt := 92) hx hb dX9_isNew_87 (by decide) (fun c23 => ?_) (fun c23 => ?_)
    · have hf := hf.1 c23
      refine lv_iconst (v := 0) hx hb dX9_isNew_92 (by decide) ?_
      refine p_istore (i := 5) hx hb dX9_isNew_93 hl (by decide) ⟨⟨ne_ rfl, Or.inl (ne_ rfl)⟩, ⟨⟨ne_ rfl, Or.inr rfl⟩, trivial⟩⟩ (fun ls hl => ?_)
      exact sX9_isNew_L95 Y hf _ _ _ _ _ hP hL ⟨rfl, rfl⟩ (lv_sub hl [1, 2, 0] rfl)
    · have hf := hf.2 c23
      refine lv_iconst (v := 0) hx hb dX9_isNew_90 (by decide) ?_
      exact p_zret X hlk hP hL (Nat.le_refl _) (Nat.le_refl _) hr nr_0 dX9_isNew_91 hf
  · have hf := hf.2 c20
    refine lv_iconst (v := 1) hx hb dX9_isNew_76 (by decide) ?_
    exact p_zret X hlk hP hL (Nat.le_refl _) (Nat.le_refl _) hr nr_1 dX9_isNew_77 hf
set_option maxHeartbeats 4000000 in
theorem sX9_isNew {G : GG_} {p : Program} {l : Launch} {e : Env} {R : Room} {s : State} {m : MethodId} {args : Array Value} {below : List Frame} {meth : Method} {c : Code} (Y : MX_ G p R s m args meth c cX9_isNew 6 RX9 (some Jvm.ClassFile.FieldType.boolean) 5 115 0 0 "isNew") {post : Int32 → Hp → Prop} {x0 : Nat} {x1 : Int32} {x2 : Int32} {x3 : Int32} {σ : Hp} (hf : wX9_isNew x0 x1 x2 x3 σ post) : WG_ G p l e R s m args below meth c (MQ below (QI_ G post) args s 0 0 (FR_ G)) BN_ 6 0 [(0, rv_ x0), (1, .int x1), (2, .int x2), (3, .int x3)] [] σ := by
  have ⟨X, hlk, hr, hRf, hRl, hRc, hnm⟩ := Y
  have ⟨⟨hx, hb, _, hown, hts⟩, _, _⟩ := X
  intro H locs cells slots ls hP hL hB hl
  obtain ⟨rfl, rfl⟩ := hB
  unfold wX9_isNew at hf
  refine p_aload_n hx hb dX9_isNew_0 rfl (lv_at hl 0 rfl) ?_
  obtain ⟨ht24, hf⟩ := hf
  refine p_gI X cf8_ (k := 27) (by decide) rfl hP ht24 q1321 (fun _ h => h) dX9_isNew_1 ?_
  refine lv_bipush (v := 30) hx hb dX9_isNew_4 (by decide) ?_
  refine lv_icmp_ne (tgt := 11) hx hb dX9_isNew_6 (by decide) (fun c25 => ?_) (fun c25 => ?_)
  · have hf := hf.1 c25
    refine p_aload_n hx hb dX9_isNew_11 rfl (lv_at hl 0 rfl) ?_
    refine p_aload_n hx hb dX9_isNew_12 rfl (lv_at hl 0 rfl) ?_
    refine p_gI X cf8_ (k := 27) (by decide) rfl hP ht24 q1321 (fun _ h => h) dX9_isNew_13 ?_
    refine lv_iload_n hx hb dX9_isNew_16 rfl (lv_at hl 1 rfl) ?_
    refine lv_iload_n hx hb dX9_isNew_17 rfl (lv_at hl 2 rfl) ?_
    refine lv_iconst (v := 0) hx hb dX9_isNew_18 (by decide) ?_
    refine p_callv hL (p_runV X cf8_ hP ht24 (metX9_begin l G _ _ _ _ _ _ _ X.2.2 hf) (cwV 4 hts (lw_V q1645 q1647 qs79 q106 q1648) rfl rfl rfl (by decide +kernel) ⟨Nat.le_trans (Nat.le_of_ble_eq_true rfl) hRf, Nat.le_trans (Nat.le_of_ble_eq_true rfl) hRl⟩) rfl hl.1 rfl (by decide) dX9_isNew_19 ⟨Nat.zero_le _, Nat.zero_le _⟩) (fun σ26 H locs hf hP hL => ?_)
    refine p_aload_n hx hb dX9_isNew_22 rfl (lv_at hl 0 rfl) ?_
    obtain ⟨ht27, hf⟩ := hf
    refine p_gI X cf8_ (k := 27) (by decide) rfl hP ht27 q1321 (fun _ h => h) dX9_isNew_23 ?_
    have hl := lv_sub hl [0, 3] rfl
    refine lv_topi (fun y28 hy28 => ?_)
    have hf := hf y28 hy28
    refine p_istore (i := 4) hx hb dX9_isNew_26 hl (by decide) ⟨⟨ne_ rfl, Or.inl (ne_ rfl)⟩, ⟨⟨ne_ rfl, Or.inr rfl⟩, trivial⟩⟩ (fun ls hl => ?_)
    refine lv_iload_n hx hb dX9_isNew_28 rfl (lv_at hl 2 rfl) ?_
    refine lv_if_lt (tgt := 66) hx hb dX9_isNew_29 (by decide) (fun c29 => ?_) (fun c29 => ?_)
    · have hf := hf.1 c29
      exact sX9_isNew_L66 Y hf _ _ _ _ _ hP hL ⟨rfl, rfl⟩ (lv_sub hl [1, 0] rfl)
    · have hf := hf.2 c29
      refine p_aload_n hx hb dX9_isNew_32 rfl (lv_at hl 1 rfl) ?_
      refine p_gR X cf8_ (k := 33) (by decide) rfl hP ht27 q1327 (fun _ h => h) dX9_isNew_33 ?_
      refine lv_iload_n hx hb dX9_isNew_36 rfl (lv_at hl 2 rfl) ?_
      obtain ⟨ht30, hf⟩ := hf
      obtain ⟨hi31, hf⟩ := hf
      refine p_lald X hP ht30 hi31 dX9_isNew_37 ?_
      refine p_aload_n hx hb dX9_isNew_38 rfl (lv_at hl 1 rfl) ?_
      refine p_gR X cf8_ (k := 30) (by decide) rfl hP ht27 q1324 (fun _ h => h) dX9_isNew_39 ?_
      refine lv_iload_n hx hb dX9_isNew_42 rfl (lv_at hl 2 rfl) ?_
      obtain ⟨ht32, hf⟩ := hf
      obtain ⟨hi33, hf⟩ := hf
      refine p_zald X hP ht32 hi33 dX9_isNew_43 ?_
      refine p_aload_n hx hb dX9_isNew_44 rfl (lv_at hl 1 rfl) ?_
      refine p_gR X cf8_ (k := 33) (by decide) rfl hP ht27 q1327 (fun _ h => h) dX9_isNew_45 ?_
      refine lv_iload hx hb dX9_isNew_48 (lv_at hl 0 rfl) ?_
      obtain ⟨hi34, hf⟩ := hf
      refine p_lald X hP ht30 hi34 dX9_isNew_50 ?_
      refine p_aload_n hx hb dX9_isNew_51 rfl (lv_at hl 1 rfl) ?_
      refine p_gR X cf8_ (k := 30) (by decide) rfl hP ht27 q1324 (fun _ h => h) dX9_isNew_52 ?_
      refine lv_iload hx hb dX9_isNew_55 (lv_at hl 0 rfl) ?_
      obtain ⟨hi35, hf⟩ := hf
      refine p_zald X hP ht32 hi35 dX9_isNew_57 ?_
      refine p_calli hL (p_runS X hP (metX9_compare l G _ _ _ _ _ _ X.2.2 hf) (va_cwS 4 hts (lw_S q1532 q1533 q106 q1534) rfl rfl rfl (by decide +kernel) ⟨Nat.le_trans (Nat.le_of_ble_eq_true rfl) hRf, Nat.le_trans (Nat.le_of_ble_eq_true rfl) hRl⟩) rfl hl.1 rfl (by decide) dX9_isNew_58 ⟨Nat.zero_le _, Nat.zero_le _⟩) (fun r36 σ₁ H locs hf hP hL => ?_)
      obtain ⟨e₁, hf⟩ := hf
      rw [e₁] at hP
      refine lv_if_lt (tgt := 66) hx hb dX9_isNew_61 (by decide) (fun c37 => ?_) (fun c37 => ?_)
      · have hf := hf.1 c37
        exact sX9_isNew_L66 Y hf _ _ _ _ _ hP hL ⟨rfl, rfl⟩ (lv_sub hl [1, 0] rfl)
      · have hf := hf.2 c37
        refine lv_iconst (v := 0) hx hb dX9_isNew_64 (by decide) ?_
        exact p_zret X hlk hP hL (Nat.le_refl _) (Nat.le_refl _) hr nr_0 dX9_isNew_65 hf
  · have hf := hf.2 c25
    refine lv_iconst (v := 0) hx hb dX9_isNew_9 (by decide) ?_
    exact p_zret X hlk hP hL (Nat.le_refl _) (Nat.le_refl _) hr nr_0 dX9_isNew_10 hf
set_option maxHeartbeats 4000000 in
theorem metX9_isNew (l : Launch) (G : GG_) (x0 : Nat) (x1 : Int32) (x2 : Int32) (x3 : Int32) (σ : Hp) (post : Int32 → Hp → Prop) (hG : GOK_ G) (hf : wX9_isNew x0 x1 x2 x3 σ post) : Met l yX9_isNew (ws_ yX9_isNew cX9_isNew 6 (some Jvm.ClassFile.FieldType.boolean)) { frames := 5, cells := 0, slots := 0, locals := 115 } (PC_ G [rv_ x0, .int x1, .int x2, .int x3] σ) (QI_ G post) 0 0 (FR_ G) := by
  refine Met.ofW (cc := cX9_isNew) (maxL := 6) (ret := (some Jvm.ClassFile.FieldType.boolean)) (by decide) rfl ?_
  intro p e s m args below meth c s₁ B hml hv
  obtain ⟨rfl, hP, hW⟩ := hv
  have hts := atoms_spec (ws := ws_ yX9_isNew cX9_isNew 6 (some Jvm.ClassFile.FieldType.boolean)) B.pre
  have hts : ∀ w ∈ lw_all, w.before _ s = true := fun w h => hts w (List.mem_cons_of_mem _ h)
  rw [lg_entry_eq]
  have hl := en_entry [rv_ x0, .int x1, .int x2, .int x3] [1, 1, 1, 1] (n := 6) (ca_r (ca_i (ca_i (ca_i ca_n)))) (by decide)
  exact sX9_isNew ⟨⟨⟨B.exec, B.bytes, hml, findClass_of_methodNamed B.named, hts⟩, hW, hG⟩, B.notSynchronized, B.returns, Nat.le_refl _, Nat.le_refl _, ⟨rfl, rfl⟩, (name_of_methodNamed B.named B.method).1⟩ hf _ _ _ _ _ hP (LO_nil G) ⟨rfl, rfl⟩ hl
abbrev cX9_isGone : ByteArray := prog_11_method_59_code
def yX9_isGone : MethodName := ⟨RX9, "isGone", "(I)Z"⟩
theorem dX9_isGone_0 : decode cX9_isGone 0 = .ok (.sipush 2048, 3) := by decide +kernel
theorem dX9_isGone_3 : decode cX9_isGone 3 = .ok (.aload_n 0, 1) := by decide +kernel
theorem dX9_isGone_4 : decode cX9_isGone 4 = .ok (.getfield 75, 3) := by decide +kernel
theorem dX9_isGone_7 : decode cX9_isGone 7 = .ok (.iload_n 1, 1) := by decide +kernel
theorem dX9_isGone_8 : decode cX9_isGone 8 = .ok (.iaload, 1) := by decide +kernel
theorem dX9_isGone_9 : decode cX9_isGone 9 = .ok (.imul, 1) := by decide +kernel
theorem dX9_isGone_10 : decode cX9_isGone 10 = .ok (.istore_n 2, 1) := by decide +kernel
theorem dX9_isGone_11 : decode cX9_isGone 11 = .ok (.iconst 0, 1) := by decide +kernel
theorem dX9_isGone_12 : decode cX9_isGone 12 = .ok (.istore_n 3, 1) := by decide +kernel
theorem dX9_isGone_13 : decode cX9_isGone 13 = .ok (.iconst (-1), 1) := by decide +kernel
theorem dX9_isGone_14 : decode cX9_isGone 14 = .ok (.istore 4, 2) := by decide +kernel
theorem dX9_isGone_16 : decode cX9_isGone 16 = .ok (.iconst 0, 1) := by decide +kernel
theorem dX9_isGone_17 : decode cX9_isGone 17 = .ok (.istore 5, 2) := by decide +kernel
theorem dX9_isGone_19 : decode cX9_isGone 19 = .ok (.iload 5, 2) := by decide +kernel
theorem dX9_isGone_21 : decode cX9_isGone 21 = .ok (.aload_n 0, 1) := by decide +kernel
theorem dX9_isGone_22 : decode cX9_isGone 22 = .ok (.getfield 72, 3) := by decide +kernel
theorem dX9_isGone_25 : decode cX9_isGone 25 = .ok (.iload_n 1, 1) := by decide +kernel
theorem dX9_isGone_26 : decode cX9_isGone 26 = .ok (.iaload, 1) := by decide +kernel
theorem dX9_isGone_27 : decode cX9_isGone 27 = .ok (.if_icmp .ge 185, 3) := by decide +kernel
theorem dX9_isGone_30 : decode cX9_isGone 30 = .ok (.aload_n 0, 1) := by decide +kernel
theorem dX9_isGone_31 : decode cX9_isGone 31 = .ok (.iload_n 2, 1) := by decide +kernel
theorem dX9_isGone_32 : decode cX9_isGone 32 = .ok (.iload 5, 2) := by decide +kernel
theorem dX9_isGone_34 : decode cX9_isGone 34 = .ok (.iadd, 1) := by decide +kernel
theorem dX9_isGone_35 : decode cX9_isGone 35 = .ok (.invokevirtual 225, 3) := by decide +kernel
theorem dX9_isGone_38 : decode cX9_isGone 38 = .ok (.ifCond .ne 21, 3) := by decide +kernel
theorem dX9_isGone_41 : decode cX9_isGone 41 = .ok (.iload 5, 2) := by decide +kernel
theorem dX9_isGone_43 : decode cX9_isGone 43 = .ok (.iload 5, 2) := by decide +kernel
theorem dX9_isGone_45 : decode cX9_isGone 45 = .ok (.sipush 2048, 3) := by decide +kernel
theorem dX9_isGone_48 : decode cX9_isGone 48 = .ok (.irem, 1) := by decide +kernel
theorem dX9_isGone_49 : decode cX9_isGone 49 = .ok (.isub, 1) := by decide +kernel
theorem dX9_isGone_50 : decode cX9_isGone 50 = .ok (.sipush 2048, 3) := by decide +kernel
theorem dX9_isGone_53 : decode cX9_isGone 53 = .ok (.iadd, 1) := by decide +kernel
theorem dX9_isGone_54 : decode cX9_isGone 54 = .ok (.istore 5, 2) := by decide +kernel
theorem dX9_isGone_56 : decode cX9_isGone 56 = .ok (.goto (-37), 3) := by decide +kernel
theorem dX9_isGone_59 : decode cX9_isGone 59 = .ok (.iload_n 2, 1) := by decide +kernel
theorem dX9_isGone_60 : decode cX9_isGone 60 = .ok (.iload 5, 2) := by decide +kernel
theorem dX9_isGone_62 : decode cX9_isGone 62 = .ok (.iadd, 1) := by decide +kernel
theorem dX9_isGone_63 : decode cX9_isGone 63 = .ok (.istore 6, 2) := by decide +kernel
theorem dX9_isGone_65 : decode cX9_isGone 65 = .ok (.aload_n 0, 1) := by decide +kernel
theorem dX9_isGone_66 : decode cX9_isGone 66 = .ok (.iload 6, 2) := by decide +kernel
theorem dX9_isGone_68 : decode cX9_isGone 68 = .ok (.iload_n 3, 1) := by decide +kernel
theorem dX9_isGone_69 : decode cX9_isGone 69 = .ok (.iconst 2, 1) := by decide +kernel
theorem dX9_isGone_70 : decode cX9_isGone 70 = .ok (.if_icmp .ge 7, 3) := by decide +kernel
theorem dX9_isGone_73 : decode cX9_isGone 73 = .ok (.iload_n 3, 1) := by decide +kernel
theorem dX9_isGone_74 : decode cX9_isGone 74 = .ok (.goto 4, 3) := by decide +kernel
theorem dX9_isGone_77 : decode cX9_isGone 77 = .ok (.iconst 2, 1) := by decide +kernel
theorem dX9_isGone_78 : decode cX9_isGone 78 = .ok (.invokevirtual 292, 3) := by decide +kernel
theorem dX9_isGone_81 : decode cX9_isGone 81 = .ok (.ifCond .ne 5, 3) := by decide +kernel
theorem dX9_isGone_84 : decode cX9_isGone 84 = .ok (.iconst 0, 1) := by decide +kernel
theorem dX9_isGone_85 : decode cX9_isGone 85 = .ok (.ireturn, 1) := by decide +kernel
theorem dX9_isGone_86 : decode cX9_isGone 86 = .ok (.iload_n 3, 1) := by decide +kernel
theorem dX9_isGone_87 : decode cX9_isGone 87 = .ok (.iconst 2, 1) := by decide +kernel
theorem dX9_isGone_88 : decode cX9_isGone 88 = .ok (.if_icmp .ge 72, 3) := by decide +kernel
theorem dX9_isGone_91 : decode cX9_isGone 91 = .ok (.iload_n 3, 1) := by decide +kernel
theorem dX9_isGone_92 : decode cX9_isGone 92 = .ok (.ifCond .eq 7, 3) := by decide +kernel
theorem dX9_isGone_95 : decode cX9_isGone 95 = .ok (.iload_n 1, 1) := by decide +kernel
theorem dX9_isGone_96 : decode cX9_isGone 96 = .ok (.ifCond .ne 7, 3) := by decide +kernel
theorem dX9_isGone_99 : decode cX9_isGone 99 = .ok (.iload_n 1, 1) := by decide +kernel
theorem dX9_isGone_100 : decode cX9_isGone 100 = .ok (.goto 9, 3) := by decide +kernel
theorem dX9_isGone_103 : decode cX9_isGone 103 = .ok (.aload_n 0, 1) := by decide +kernel
theorem dX9_isGone_104 : decode cX9_isGone 104 = .ok (.getfield 66, 3) := by decide +kernel
theorem dX9_isGone_107 : decode cX9_isGone 107 = .ok (.iload_n 1, 1) := by decide +kernel
theorem dX9_isGone_108 : decode cX9_isGone 108 = .ok (.iaload, 1) := by decide +kernel
theorem dX9_isGone_109 : decode cX9_isGone 109 = .ok (.istore 7, 2) := by decide +kernel
theorem dX9_isGone_111 : decode cX9_isGone 111 = .ok (.aload_n 0, 1) := by decide +kernel
theorem dX9_isGone_112 : decode cX9_isGone 112 = .ok (.iload 6, 2) := by decide +kernel
theorem dX9_isGone_114 : decode cX9_isGone 114 = .ok (.iconst 2, 1) := by decide +kernel
theorem dX9_isGone_115 : decode cX9_isGone 115 = .ok (.iadd, 1) := by decide +kernel
theorem dX9_isGone_116 : decode cX9_isGone 116 = .ok (.iconst 4, 1) := by decide +kernel
theorem dX9_isGone_117 : decode cX9_isGone 117 = .ok (.invokevirtual 266, 3) := by decide +kernel
theorem dX9_isGone_120 : decode cX9_isGone 120 = .ok (.aload_n 0, 1) := by decide +kernel
theorem dX9_isGone_121 : decode cX9_isGone 121 = .ok (.getfield 75, 3) := by decide +kernel
theorem dX9_isGone_124 : decode cX9_isGone 124 = .ok (.iload 7, 2) := by decide +kernel
theorem dX9_isGone_126 : decode cX9_isGone 126 = .ok (.iaload, 1) := by decide +kernel
theorem dX9_isGone_127 : decode cX9_isGone 127 = .ok (.if_icmp .ne 23, 3) := by decide +kernel
theorem dX9_isGone_130 : decode cX9_isGone 130 = .ok (.aload_n 0, 1) := by decide +kernel
theorem dX9_isGone_131 : decode cX9_isGone 131 = .ok (.iload 6, 2) := by decide +kernel
theorem dX9_isGone_133 : decode cX9_isGone 133 = .ok (.bipush 10, 2) := by decide +kernel
theorem dX9_isGone_135 : decode cX9_isGone 135 = .ok (.iadd, 1) := by decide +kernel
theorem dX9_isGone_136 : decode cX9_isGone 136 = .ok (.iconst 4, 1) := by decide +kernel
theorem dX9_isGone_137 : decode cX9_isGone 137 = .ok (.invokevirtual 266, 3) := by decide +kernel
theorem dX9_isGone_140 : decode cX9_isGone 140 = .ok (.aload_n 0, 1) := by decide +kernel
theorem dX9_isGone_141 : decode cX9_isGone 141 = .ok (.getfield 72, 3) := by decide +kernel
theorem dX9_isGone_144 : decode cX9_isGone 144 = .ok (.iload 7, 2) := by decide +kernel
theorem dX9_isGone_146 : decode cX9_isGone 146 = .ok (.iaload, 1) := by decide +kernel
theorem dX9_isGone_147 : decode cX9_isGone 147 = .ok (.if_icmp .eq 10, 3) := by decide +kernel
theorem dX9_isGone_150 : decode cX9_isGone 150 = .ok (.aload_n 0, 1) := by decide +kernel
theorem dX9_isGone_151 : decode cX9_isGone 151 = .ok (.iload 6, 2) := by decide +kernel
theorem dX9_isGone_153 : decode cX9_isGone 153 = .ok (.invokevirtual 263, 3) := by decide +kernel
theorem dX9_isGone_156 : decode cX9_isGone 156 = .ok (.ireturn, 1) := by decide +kernel
theorem dX9_isGone_157 : decode cX9_isGone 157 = .ok (.goto 38, 3) := by decide +kernel
theorem dX9_isGone_160 : decode cX9_isGone 160 = .ok (.aload_n 0, 1) := by decide +kernel
theorem dX9_isGone_161 : decode cX9_isGone 161 = .ok (.iload_n 1, 1) := by decide +kernel
theorem dX9_isGone_162 : decode cX9_isGone 162 = .ok (.iload 6, 2) := by decide +kernel
theorem dX9_isGone_164 : decode cX9_isGone 164 = .ok (.iload 4, 2) := by decide +kernel
theorem dX9_isGone_166 : decode cX9_isGone 166 = .ok (.invokevirtual 305, 3) := by decide +kernel
theorem dX9_isGone_169 : decode cX9_isGone 169 = .ok (.ifCond .ne 10, 3) := by decide +kernel
theorem dX9_isGone_172 : decode cX9_isGone 172 = .ok (.aload_n 0, 1) := by decide +kernel
theorem dX9_isGone_173 : decode cX9_isGone 173 = .ok (.iload 6, 2) := by decide +kernel
theorem dX9_isGone_175 : decode cX9_isGone 175 = .ok (.invokevirtual 263, 3) := by decide +kernel
theorem dX9_isGone_178 : decode cX9_isGone 178 = .ok (.ireturn, 1) := by decide +kernel
theorem dX9_isGone_179 : decode cX9_isGone 179 = .ok (.aload_n 0, 1) := by decide +kernel
theorem dX9_isGone_180 : decode cX9_isGone 180 = .ok (.getfield 283, 3) := by decide +kernel
theorem dX9_isGone_183 : decode cX9_isGone 183 = .ok (.istore 4, 2) := by decide +kernel
theorem dX9_isGone_185 : decode cX9_isGone 185 = .ok (.aload_n 0, 1) := by decide +kernel
theorem dX9_isGone_186 : decode cX9_isGone 186 = .ok (.dup, 1) := by decide +kernel
theorem dX9_isGone_187 : decode cX9_isGone 187 = .ok (.getfield 283, 3) := by decide +kernel
theorem dX9_isGone_190 : decode cX9_isGone 190 = .ok (.iconst 1, 1) := by decide +kernel
theorem dX9_isGone_191 : decode cX9_isGone 191 = .ok (.iadd, 1) := by decide +kernel
theorem dX9_isGone_192 : decode cX9_isGone 192 = .ok (.putfield 283, 3) := by decide +kernel
theorem dX9_isGone_195 : decode cX9_isGone 195 = .ok (.iinc 3 1, 3) := by decide +kernel
theorem dX9_isGone_198 : decode cX9_isGone 198 = .ok (.iload 5, 2) := by decide +kernel
theorem dX9_isGone_200 : decode cX9_isGone 200 = .ok (.aload_n 0, 1) := by decide +kernel
theorem dX9_isGone_201 : decode cX9_isGone 201 = .ok (.iload 6, 2) := by decide +kernel
theorem dX9_isGone_203 : decode cX9_isGone 203 = .ok (.invokevirtual 225, 3) := by decide +kernel
theorem dX9_isGone_206 : decode cX9_isGone 206 = .ok (.iadd, 1) := by decide +kernel
theorem dX9_isGone_207 : decode cX9_isGone 207 = .ok (.istore 5, 2) := by decide +kernel
theorem dX9_isGone_209 : decode cX9_isGone 209 = .ok (.goto (-190), 3) := by decide +kernel
theorem dX9_isGone_212 : decode cX9_isGone 212 = .ok (.iload_n 3, 1) := by decide +kernel
theorem dX9_isGone_213 : decode cX9_isGone 213 = .ok (.iconst 1, 1) := by decide +kernel
theorem dX9_isGone_214 : decode cX9_isGone 214 = .ok (.if_icmp .gt 11, 3) := by decide +kernel
theorem dX9_isGone_217 : decode cX9_isGone 217 = .ok (.aload_n 0, 1) := by decide +kernel
theorem dX9_isGone_218 : decode cX9_isGone 218 = .ok (.iload_n 2, 1) := by decide +kernel
theorem dX9_isGone_219 : decode cX9_isGone 219 = .ok (.invokevirtual 263, 3) := by decide +kernel
theorem dX9_isGone_222 : decode cX9_isGone 222 = .ok (.ifCond .eq 7, 3) := by decide +kernel
theorem dX9_isGone_225 : decode cX9_isGone 225 = .ok (.iconst 1, 1) := by decide +kernel
theorem dX9_isGone_226 : decode cX9_isGone 226 = .ok (.goto 4, 3) := by decide +kernel
theorem dX9_isGone_229 : decode cX9_isGone 229 = .ok (.iconst 0, 1) := by decide +kernel
theorem dX9_isGone_230 : decode cX9_isGone 230 = .ok (.ireturn, 1) := by decide +kernel
/-- WriteOnceDiscModel.isGone(I)Z -/
def wX9_isGone_L225 (post : Int32 → Hp → Prop) (σ : Hp) : Prop :=
post (1 : Int32) σ
def wX9_isGone_L195 (post : Int32 → Hp → Prop) (rc19 : Int32 → Int32 → Int32 → Hp → Prop) (x0 : Nat) (x1 : Int32) (x2 : Int32) (x3 : Int32) (x4 : Int32) (x5 : Int32) (x6 : Int32) (σ : Hp) : Prop :=
(∀ y1 : Int32, y1 = x3 + 1 → (tg_ σ x0 = 9 ∧ (wX9_get x0 x6 σ (fun r3 => (∀ y4 : Int32, y4 = (x5 + r3) → rc19 y1 x4 y4 σ)))))
def wX9_isGone_L150 (post : Int32 → Hp → Prop) (x0 : Nat) (x6 : Int32) (σ : Hp) : Prop :=
(tg_ σ x0 = 9 ∧ (wX9_no x0 x6 σ (fun r6 σ7 => (nr_ .boolean r6 ∧ post r6 σ7))))
def wX9_isGone_L109 (post : Int32 → Hp → Prop) (rc19 : Int32 → Int32 → Int32 → Hp → Prop) (x0 : Nat) (x1 : Int32) (x2 : Int32) (x3 : Int32) (x4 : Int32) (x5 : Int32) (x6 : Int32) (s0 : Int32) (σ : Hp) : Prop :=
(tg_ σ x0 = 9 ∧ (wX9_lowAt x0 (x6 + (2 : Int32)) (4 : Int32) σ (fun r10 => (tg_ σ (fR_ σ 8 32 x0) = 102 ∧ (vp_in s0 (ln_ σ (fR_ σ 8 32 x0)) ∧ ((¬ r10 = (aI_ σ (fR_ σ 8 32 x0) (s0).toNatClampNeg) →
  wX9_isGone_L150 post x0 x6 σ) ∧
 (r10 = (aI_ σ (fR_ σ 8 32 x0) (s0).toNatClampNeg) →
  (wX9_lowAt x0 (x6 + (10 : Int32)) (4 : Int32) σ (fun r14 => (tg_ σ (fR_ σ 8 31 x0) = 102 ∧ (vp_in s0 (ln_ σ (fR_ σ 8 31 x0)) ∧ ((r14 = (aI_ σ (fR_ σ 8 31 x0) (s0).toNatClampNeg) →
   wX9_isGone_L195 post rc19 x0 x1 x2 x3 x4 x5 x6 σ) ∧
  (¬ r14 = (aI_ σ (fR_ σ 8 31 x0) (s0).toNatClampNeg) →
   wX9_isGone_L150 post x0 x6 σ)))))))))))))
def wX9_isGone_L99 (post : Int32 → Hp → Prop) (rc19 : Int32 → Int32 → Int32 → Hp → Prop) (x0 : Nat) (x1 : Int32) (x2 : Int32) (x3 : Int32) (x4 : Int32) (x5 : Int32) (x6 : Int32) (σ : Hp) : Prop :=
wX9_isGone_L109 post rc19 x0 x1 x2 x3 x4 x5 x6 x1 σ
def wX9_isGone_L78 (post : Int32 → Hp → Prop) (rc19 : Int32 → Int32 → Int32 → Hp → Prop) (x0 : Nat) (x1 : Int32) (x2 : Int32) (x3 : Int32) (x4 : Int32) (x5 : Int32) (x6 : Int32) (s0 : Int32) (s1 : Int32) (s2 : Nat) (σ : Hp) : Prop :=
(tg_ σ s2 = 9 ∧ (wX9_isRecord s2 s1 s0 σ (fun r19 σ20 => ((¬ r19 = 0 →
  (((2 : Int32) ≤ x3 →
   (tg_ σ20 x0 = 9 ∧ (wX9_isNew x0 x1 x6 x4 σ20 (fun r24 σ25 => ((¬ r24 = 0 →
    (tg_ σ25 x0 = 9 ∧ (∀ y28 : Int32, y28 = (fI_ σ25 8 27 x0) → (∀ σ29, σ29 = sI_ σ25 8 27 x0 ((fI_ σ25 8 27 x0) + (1 : Int32)) → wX9_isGone_L195 post rc19 x0 x1 x2 x3 y28 x5 x6 σ29)))) ∧
   (r24 = 0 →
    (tg_ σ25 x0 = 9 ∧ (wX9_no x0 x6 σ25 (fun r31 σ32 => (nr_ .boolean r31 ∧ post r31 σ32)))))))))) ∧
  (¬ (2 : Int32) ≤ x3 →
   ((x3 = 0 →
    wX9_isGone_L99 post rc19 x0 x1 x2 x3 x4 x5 x6 σ20) ∧
   (¬ x3 = 0 →
    ((¬ x1 = 0 →
     (tg_ σ20 x0 = 9 ∧ (tg_ σ20 (fR_ σ20 8 29 x0) = 102 ∧ (vp_in x1 (ln_ σ20 (fR_ σ20 8 29 x0)) ∧ wX9_isGone_L109 post rc19 x0 x1 x2 x3 x4 x5 x6 (aI_ σ20 (fR_ σ20 8 29 x0) (x1).toNatClampNeg) σ20)))) ∧
    (x1 = 0 →
     wX9_isGone_L99 post rc19 x0 x1 x2 x3 x4 x5 x6 σ20))))))) ∧
 (r19 = 0 →
  post (0 : Int32) σ20)))))
def wX9_isGone_B19 (post : Int32 → Hp → Prop) (rc19 : Int32 → Int32 → Int32 → Hp → Prop) (x0 : Nat) (x1 : Int32) (x2 : Int32) (x3 : Int32) (x4 : Int32) (x5 : Int32) (σ : Hp) : Prop :=
(tg_ σ x0 = 9 ∧ (tg_ σ (fR_ σ 8 31 x0) = 102 ∧ (vp_in x1 (ln_ σ (fR_ σ 8 31 x0)) ∧ (((aI_ σ (fR_ σ 8 31 x0) (x1).toNatClampNeg) ≤ x5 →
  (((1 : Int32) < x3 →
   wX9_isGone_L225 post σ) ∧
  (¬ (1 : Int32) < x3 →
   (wX9_no x0 x2 σ (fun r44 σ45 => ((r44 = 0 →
    post (0 : Int32) σ45) ∧
   (¬ r44 = 0 →
    wX9_isGone_L225 post σ45))))))) ∧
 (¬ (aI_ σ (fR_ σ 8 31 x0) (x1).toNatClampNeg) ≤ x5 →
  (wX9_get x0 (x2 + x5) σ (fun r47 => ((¬ r47 = 0 →
   (∀ y49 : Int32, y49 = (x2 + x5) → (((2 : Int32) ≤ x3 →
    wX9_isGone_L78 post rc19 x0 x1 x2 x3 x4 x5 y49 (2 : Int32) y49 x0 σ) ∧
   (¬ (2 : Int32) ≤ x3 →
    wX9_isGone_L78 post rc19 x0 x1 x2 x3 x4 x5 y49 x3 y49 x0 σ)))) ∧
  (r47 = 0 →
   (∀ y51 : Int32, y51 = ((x5 - (x5 - x5 / (2048 : Int32) * (2048 : Int32))) + (2048 : Int32)) → rc19 x3 x4 y51 σ))))))))))
def wX9_isGone_L19 (post : Int32 → Hp → Prop) (x0 : Nat) (x1 : Int32) (x2 : Int32) (x3 : Int32) (x4 : Int32) (x5 : Int32) (σ : Hp) : Prop :=
 ∃ (I : Int32 → Int32 → Int32 → Hp → Prop) (μ : Int32 → Int32 → Int32 → Hp → Nat), I x3 x4 x5 σ ∧ ∀ (x3 : Int32) (x4 : Int32) (x5 : Int32) (σ : Hp), I x3 x4 x5 σ → wX9_isGone_B19 post (fun x3' x4' x5' σ' => I x3' x4' x5' σ' ∧ μ x3' x4' x5' σ' < μ x3 x4 x5 σ) x0 x1 x2 x3 x4 x5 σ
def wX9_isGone (x0 : Nat) (x1 : Int32) (σ : Hp) (post : Int32 → Hp → Prop) : Prop :=
(tg_ σ x0 = 9 ∧ (tg_ σ (fR_ σ 8 32 x0) = 102 ∧ (vp_in x1 (ln_ σ (fR_ σ 8 32 x0)) ∧ (∀ y55 : Int32, y55 = ((2048 : Int32) * (aI_ σ (fR_ σ 8 32 x0) (x1).toNatClampNeg)) → wX9_isGone_L19 post x0 x1 y55 (0 : Int32) (-1 : Int32) (0 : Int32) σ))))
set_option maxHeartbeats 4000000 in
theorem sX9_isGone_L225 {G : GG_} {p : Program} {l : Launch} {e : Env} {R : Room} {s : State} {m : MethodId} {args : Array Value} {below : List Frame} {meth : Method} {c : Code} (Y : MX_ G p R s m args meth c cX9_isGone 8 RX9 (some Jvm.ClassFile.FieldType.boolean) 6 140 0 0 "isGone") {post : Int32 → Hp → Prop} {σ : Hp} (hf : wX9_isGone_L225 post σ) : WG_ G p l e R s m args below meth c (MQ below (QI_ G post) args s 0 0 (FR_ G)) BN_ 8 225 [] [] σ := by
  have ⟨X, hlk, hr, hRf, hRl, hRc, hnm⟩ := Y
  have ⟨⟨hx, hb, _, hown, hts⟩, _, _⟩ := X
  intro H locs cells slots ls hP hL hB hl
  obtain ⟨rfl, rfl⟩ := hB
  unfold wX9_isGone_L225 at hf
  refine lv_iconst (v := 1) hx hb dX9_isGone_225 (by decide) ?_
  refine lv_goto (tgt := 230) hx hb dX9_isGone_226 (by decide) ?_
  exact p_zret X hlk hP hL (Nat.le_refl _) (Nat.le_refl _) hr nr_1 dX9_isGone_230 hf
set_option maxHeartbeats 4000000 in
theorem sX9_isGone_L195 {G : GG_} {p : Program} {l : Launch} {e : Env} {R : Room} {s : State} {m : MethodId} {args : Array Value} {below : List Frame} {meth : Method} {c : Code} (Y : MX_ G p R s m args meth c cX9_isGone 8 RX9 (some Jvm.ClassFile.FieldType.boolean) 6 140 0 0 "isGone") {post : Int32 → Hp → Prop} {rc19 : Int32 → Int32 → Int32 → Hp → Prop} {x0 : Nat} {x1 : Int32} {x2 : Int32} {x3 : Int32} {x4 : Int32} {x5 : Int32} {x6 : Int32} {σ : Hp} (hrc19 : ∀ (x3 : Int32) (x4 : Int32) (x5 : Int32) (σ : Hp), rc19 x3 x4 x5 σ → WG_ G p l e R s m args below meth c (MQ below (QI_ G post) args s 0 0 (FR_ G)) BN_ 8 19 [(0, rv_ x0), (1, .int x1), (2, .int x2), (3, .int x3), (4, .int x4), (5, .int x5)] [] σ) (hf : wX9_isGone_L195 post rc19 x0 x1 x2 x3 x4 x5 x6 σ) : WG_ G p l e R s m args below meth c (MQ below (QI_ G post) args s 0 0 (FR_ G)) BN_ 8 195 [(0, rv_ x0), (1, .int x1), (2, .int x2), (3, .int x3), (4, .int x4), (5, .int x5), (6, .int x6)] [] σ := by
  have ⟨X, hlk, hr, hRf, hRl, hRc, hnm⟩ := Y
  have ⟨⟨hx, hb, _, hown, hts⟩, _, _⟩ := X
  intro H locs cells slots ls hP hL hB hl
  obtain ⟨rfl, rfl⟩ := hB
  unfold wX9_isGone_L195 at hf
  have hl := lv_sub hl [3, 0, 1, 2, 4, 5, 6] rfl
  refine p_iincc (i := 3) (k := 1) hx hb (by decide) dX9_isGone_195 hl (by decide) ⟨⟨ne_ rfl, Or.inl (ne_ rfl)⟩, ⟨⟨ne_ rfl, Or.inl (ne_ rfl)⟩, ⟨⟨ne_ rfl, Or.inr rfl⟩, ⟨⟨ne_ rfl, Or.inl (ne_ rfl)⟩, ⟨⟨ne_ rfl, Or.inl (ne_ rfl)⟩, ⟨⟨ne_ rfl, Or.inl (ne_ rfl)⟩, trivial⟩⟩⟩⟩⟩⟩ (fun y1 hy1 ls hl => ?_)
  have hf := hf y1 hy1
  refine lv_iload hx hb dX9_isGone_198 (lv_at hl 5 rfl) ?_
  refine p_aload_n hx hb dX9_isGone_200 rfl (lv_at hl 1 rfl) ?_
  refine lv_iload hx hb dX9_isGone_201 (lv_at hl 6 rfl) ?_
  obtain ⟨ht2, hf⟩ := hf
  refine p_calli hL (p_runV X cf8_ hP ht2 (metX9_get l G _ _ _ _ X.2.2 hf) (cwV 1 hts (lw_V q1508 q1510 qs52 q106 q1511) rfl rfl rfl (by decide +kernel) ⟨Nat.le_trans (Nat.le_of_ble_eq_true rfl) hRf, Nat.le_trans (Nat.le_of_ble_eq_true rfl) hRl⟩) rfl hl.1 rfl (by rw [(ca_i ca_n)]; decide) dX9_isGone_203 ⟨Nat.zero_le _, Nat.zero_le _⟩) (fun r3 σ₁ H locs hf hP hL => ?_)
  obtain ⟨e₁, hf⟩ := hf
  rw [e₁] at hP
  refine lv_iadd hx hb dX9_isGone_206 ?_
  have hl := lv_sub hl [0, 1, 2, 3, 4] rfl
  refine lv_topi (fun y4 hy4 => ?_)
  have hf := hf y4 hy4
  refine p_istore (i := 5) hx hb dX9_isGone_207 hl (by decide) ⟨⟨ne_ rfl, Or.inl (ne_ rfl)⟩, ⟨⟨ne_ rfl, Or.inl (ne_ rfl)⟩, ⟨⟨ne_ rfl, Or.inl (ne_ rfl)⟩, ⟨⟨ne_ rfl, Or.inl (ne_ rfl)⟩, ⟨⟨ne_ rfl, Or.inr rfl⟩, trivial⟩⟩⟩⟩⟩ (fun ls hl => ?_)
  refine lv_goto (tgt := 19) hx hb dX9_isGone_209 (by decide) ?_
  exact hrc19 _ _ _ _ hf _ _ _ _ _ hP hL ⟨rfl, rfl⟩ (lv_sub hl [2, 3, 4, 1, 5, 0] rfl)
set_option maxHeartbeats 4000000 in
theorem sX9_isGone_L150 {G : GG_} {p : Program} {l : Launch} {e : Env} {R : Room} {s : State} {m : MethodId} {args : Array Value} {below : List Frame} {meth : Method} {c : Code} (Y : MX_ G p R s m args meth c cX9_isGone 8 RX9 (some Jvm.ClassFile.FieldType.boolean) 6 140 0 0 "isGone") {post : Int32 → Hp → Prop} {x0 : Nat} {x6 : Int32} {σ : Hp} (hf : wX9_isGone_L150 post x0 x6 σ) : WG_ G p l e R s m args below meth c (MQ below (QI_ G post) args s 0 0 (FR_ G)) BN_ 8 150 [(0, rv_ x0), (6, .int x6)] [] σ := by
  have ⟨X, hlk, hr, hRf, hRl, hRc, hnm⟩ := Y
  have ⟨⟨hx, hb, _, hown, hts⟩, _, _⟩ := X
  intro H locs cells slots ls hP hL hB hl
  obtain ⟨rfl, rfl⟩ := hB
  unfold wX9_isGone_L150 at hf
  refine p_aload_n hx hb dX9_isGone_150 rfl (lv_at hl 0 rfl) ?_
  refine lv_iload hx hb dX9_isGone_151 (lv_at hl 1 rfl) ?_
  obtain ⟨ht5, hf⟩ := hf
  refine p_calli hL (p_runV X cf8_ hP ht5 (metX9_no l G _ _ _ _ X.2.2 hf) (cwV 1 hts (lw_V q1619 q1621 qs73 q106 q1622) rfl rfl rfl (by decide +kernel) ⟨Nat.le_trans (Nat.le_of_ble_eq_true rfl) hRf, Nat.le_trans (Nat.le_of_ble_eq_true rfl) hRl⟩) rfl hl.1 rfl (by decide) dX9_isGone_153 ⟨Nat.zero_le _, Nat.zero_le _⟩) (fun r6 σ7 H locs hf hP hL => ?_)
  obtain ⟨hn8, hf⟩ := hf
  exact p_zret X hlk hP hL (Nat.le_refl _) (Nat.le_refl _) hr hn8 dX9_isGone_156 hf
set_option maxHeartbeats 4000000 in
theorem sX9_isGone_L109 {G : GG_} {p : Program} {l : Launch} {e : Env} {R : Room} {s : State} {m : MethodId} {args : Array Value} {below : List Frame} {meth : Method} {c : Code} (Y : MX_ G p R s m args meth c cX9_isGone 8 RX9 (some Jvm.ClassFile.FieldType.boolean) 6 140 0 0 "isGone") {post : Int32 → Hp → Prop} {rc19 : Int32 → Int32 → Int32 → Hp → Prop} {x0 : Nat} {x1 : Int32} {x2 : Int32} {x3 : Int32} {x4 : Int32} {x5 : Int32} {x6 : Int32} {s0 : Int32} {σ : Hp} (hrc19 : ∀ (x3 : Int32) (x4 : Int32) (x5 : Int32) (σ : Hp), rc19 x3 x4 x5 σ → WG_ G p l e R s m args below meth c (MQ below (QI_ G post) args s 0 0 (FR_ G)) BN_ 8 19 [(0, rv_ x0), (1, .int x1), (2, .int x2), (3, .int x3), (4, .int x4), (5, .int x5)] [] σ) (hf : wX9_isGone_L109 post rc19 x0 x1 x2 x3 x4 x5 x6 s0 σ) : WG_ G p l e R s m args below meth c (MQ below (QI_ G post) args s 0 0 (FR_ G)) BN_ 8 109 [(0, rv_ x0), (1, .int x1), (2, .int x2), (3, .int x3), (4, .int x4), (5, .int x5), (6, .int x6)] [.int s0] σ := by
  have ⟨X, hlk, hr, hRf, hRl, hRc, hnm⟩ := Y
  have ⟨⟨hx, hb, _, hown, hts⟩, _, _⟩ := X
  intro H locs cells slots ls hP hL hB hl
  obtain ⟨rfl, rfl⟩ := hB
  unfold wX9_isGone_L109 at hf
  refine p_istore (i := 7) hx hb dX9_isGone_109 hl (by decide) ⟨⟨ne_ rfl, Or.inl (ne_ rfl)⟩, ⟨⟨ne_ rfl, Or.inl (ne_ rfl)⟩, ⟨⟨ne_ rfl, Or.inl (ne_ rfl)⟩, ⟨⟨ne_ rfl, Or.inl (ne_ rfl)⟩, ⟨⟨ne_ rfl, Or.inl (ne_ rfl)⟩, ⟨⟨ne_ rfl, Or.inl (ne_ rfl)⟩, ⟨⟨ne_ rfl, Or.inr rfl⟩, trivial⟩⟩⟩⟩⟩⟩⟩ (fun ls hl => ?_)
  refine p_aload_n hx hb dX9_isGone_111 rfl (lv_at hl 1 rfl) ?_
  refine lv_iload hx hb dX9_isGone_112 (lv_at hl 7 rfl) ?_
  refine lv_iconst (v := 2) hx hb dX9_isGone_114 (by decide) ?_
  refine lv_iadd hx hb dX9_isGone_115 ?_
  refine lv_iconst (v := 4) hx hb dX9_isGone_116 (by decide) ?_
  obtain ⟨ht9, hf⟩ := hf
  refine p_calli hL (p_runV X cf8_ hP ht9 (metX9_lowAt l G _ _ _ _ _ X.2.2 hf) (cwV 2 hts (lw_V q1607 q1609 qs70 q106 q1610) rfl rfl rfl (by decide +kernel) ⟨Nat.le_trans (Nat.le_of_ble_eq_true rfl) hRf, Nat.le_trans (Nat.le_of_ble_eq_true rfl) hRl⟩) rfl hl.1 rfl (by decide) dX9_isGone_117 ⟨Nat.zero_le _, Nat.zero_le _⟩) (fun r10 σ₁ H locs hf hP hL => ?_)
  obtain ⟨e₁, hf⟩ := hf
  rw [e₁] at hP
  refine p_aload_n hx hb dX9_isGone_120 rfl (lv_at hl 1 rfl) ?_
  refine p_gR X cf8_ (k := 32) (by decide) rfl hP ht9 q1326 (fun _ h => h) dX9_isGone_121 ?_
  refine lv_iload hx hb dX9_isGone_124 (lv_at hl 0 rfl) ?_
  obtain ⟨ht11, hf⟩ := hf
  obtain ⟨hi12, hf⟩ := hf
  refine p_iald X hP ht11 hi12 dX9_isGone_126 ?_
  refine lv_icmp_ne (tgt := 150) hx hb dX9_isGone_127 (by decide) (fun c13 => ?_) (fun c13 => ?_)
  · have hf := hf.1 c13
    exact sX9_isGone_L150 Y hf _ _ _ _ _ hP hL ⟨rfl, rfl⟩ (lv_sub hl [1, 7] rfl)
  · have hf := hf.2 c13
    refine p_aload_n hx hb dX9_isGone_130 rfl (lv_at hl 1 rfl) ?_
    refine lv_iload hx hb dX9_isGone_131 (lv_at hl 7 rfl) ?_
    refine lv_bipush (v := 10) hx hb dX9_isGone_133 (by decide) ?_
    refine lv_iadd hx hb dX9_isGone_135 ?_
    refine lv_iconst (v := 4) hx hb dX9_isGone_136 (by decide) ?_
    refine p_calli hL (p_runV X cf8_ hP ht9 (metX9_lowAt l G _ _ _ _ _ X.2.2 hf) (cwV 2 hts (lw_V q1607 q1609 qs70 q106 q1610) rfl rfl rfl (by decide +kernel) ⟨Nat.le_trans (Nat.le_of_ble_eq_true rfl) hRf, Nat.le_trans (Nat.le_of_ble_eq_true rfl) hRl⟩) rfl hl.1 rfl (by decide) dX9_isGone_137 ⟨Nat.zero_le _, Nat.zero_le _⟩) (fun r14 σ₁ H locs hf hP hL => ?_)
    obtain ⟨e₁, hf⟩ := hf
    rw [e₁] at hP
    refine p_aload_n hx hb dX9_isGone_140 rfl (lv_at hl 1 rfl) ?_
    refine p_gR X cf8_ (k := 31) (by decide) rfl hP ht9 q1325 (fun _ h => h) dX9_isGone_141 ?_
    refine lv_iload hx hb dX9_isGone_144 (lv_at hl 0 rfl) ?_
    obtain ⟨ht15, hf⟩ := hf
    obtain ⟨hi16, hf⟩ := hf
    refine p_iald X hP ht15 hi16 dX9_isGone_146 ?_
    refine lv_icmp_eq (tgt := 157) hx hb dX9_isGone_147 (by decide) (fun c17 => ?_) (fun c17 => ?_)
    · have hf := hf.1 c17
      refine lv_goto (tgt := 195) hx hb dX9_isGone_157 (by decide) ?_
      exact sX9_isGone_L195 Y hrc19 hf _ _ _ _ _ hP hL ⟨rfl, rfl⟩ (lv_sub hl [1, 2, 3, 4, 5, 6, 7] rfl)
    · have hf := hf.2 c17
      exact sX9_isGone_L150 Y hf _ _ _ _ _ hP hL ⟨rfl, rfl⟩ (lv_sub hl [1, 7] rfl)
set_option maxHeartbeats 4000000 in
theorem sX9_isGone_L99 {G : GG_} {p : Program} {l : Launch} {e : Env} {R : Room} {s : State} {m : MethodId} {args : Array Value} {below : List Frame} {meth : Method} {c : Code} (Y : MX_ G p R s m args meth c cX9_isGone 8 RX9 (some Jvm.ClassFile.FieldType.boolean) 6 140 0 0 "isGone") {post : Int32 → Hp → Prop} {rc19 : Int32 → Int32 → Int32 → Hp → Prop} {x0 : Nat} {x1 : Int32} {x2 : Int32} {x3 : Int32} {x4 : Int32} {x5 : Int32} {x6 : Int32} {σ : Hp} (hrc19 : ∀ (x3 : Int32) (x4 : Int32) (x5 : Int32) (σ : Hp), rc19 x3 x4 x5 σ → WG_ G p l e R s m args below meth c (MQ below (QI_ G post) args s 0 0 (FR_ G)) BN_ 8 19 [(0, rv_ x0), (1, .int x1), (2, .int x2), (3, .int x3), (4, .int x4), (5, .int x5)] [] σ) (hf : wX9_isGone_L99 post rc19 x0 x1 x2 x3 x4 x5 x6 σ) : WG_ G p l e R s m args below meth c (MQ below (QI_ G post) args s 0 0 (FR_ G)) BN_ 8 99 [(0, rv_ x0), (1, .int x1), (2, .int x2), (3, .int x3), (4, .int x4), (5, .int x5), (6, .int x6)] [] σ := by
  have ⟨X, hlk, hr, hRf, hRl, hRc, hnm⟩ := Y
  have ⟨⟨hx, hb, _, hown, hts⟩, _, _⟩ := X
  intro H locs cells slots ls hP hL hB hl
  obtain ⟨rfl, rfl⟩ := hB
  unfold wX9_isGone_L99 at hf
  refine lv_iload_n hx hb dX9_isGone_99 rfl (lv_at hl 1 rfl) ?_
  refine lv_goto (tgt := 109) hx hb dX9_isGone_100 (by decide) ?_
  exact sX9_isGone_L109 Y hrc19 hf _ _ _ _ _ hP hL ⟨rfl, rfl⟩ (lv_sub hl [0, 1, 2, 3, 4, 5, 6] rfl)
set_option maxHeartbeats 4000000 in
theorem sX9_isGone_L78 {G : GG_} {p : Program} {l : Launch} {e : Env} {R : Room} {s : State} {m : MethodId} {args : Array Value} {below : List Frame} {meth : Method} {c : Code} (Y : MX_ G p R s m args meth c cX9_isGone 8 RX9 (some Jvm.ClassFile.FieldType.boolean) 6 140 0 0 "isGone") {post : Int32 → Hp → Prop} {rc19 : Int32 → Int32 → Int32 → Hp → Prop} {x0 : Nat} {x1 : Int32} {x2 : Int32} {x3 : Int32} {x4 : Int32} {x5 : Int32} {x6 : Int32} {s0 : Int32} {s1 : Int32} {s2 : Nat} {σ : Hp} (hrc19 : ∀ (x3 : Int32) (x4 : Int32) (x5 : Int32) (σ : Hp), rc19 x3 x4 x5 σ → WG_ G p l e R s m args below meth c (MQ below (QI_ G post) args s 0 0 (FR_ G)) BN_ 8 19 [(0, rv_ x0), (1, .int x1), (2, .int x2), (3, .int x3), (4, .int x4), (5, .int x5)] [] σ) (hf : wX9_isGone_L78 post rc19 x0 x1 x2 x3 x4 x5 x6 s0 s1 s2 σ) : WG_ G p l e R s m args below meth c (MQ below (QI_ G post) args s 0 0 (FR_ G)) BN_ 8 78 [(0, rv_ x0), (1, .int x1), (2, .int x2), (3, .int x3), (4, .int x4), (5, .int x5), (6, .int x6)] [.int s0, .int s1, rv_ s2] σ := by
  have ⟨X, hlk, hr, hRf, hRl, hRc, hnm⟩ := Y
  have ⟨⟨hx, hb, _, hown, hts⟩, _, _⟩ := X
  intro H locs cells slots ls hP hL hB hl
  obtain ⟨rfl, rfl⟩ := hB
  unfold wX9_isGone_L78 at hf
  obtain ⟨ht18, hf⟩ := hf
  refine p_calli hL (p_runV X cf8_ hP ht18 (metX9_isRecord l G _ _ _ _ _ X.2.2 hf) (cwV 2 hts (lw_V q1631 q1633 qs76 q106 q1634) rfl rfl rfl (by decide +kernel) ⟨Nat.le_trans (Nat.le_of_ble_eq_true rfl) hRf, Nat.le_trans (Nat.le_of_ble_eq_true rfl) hRl⟩) rfl hl.1 rfl (by decide) dX9_isGone_78 ⟨Nat.zero_le _, Nat.zero_le _⟩) (fun r19 σ20 H locs hf hP hL => ?_)
  refine lv_if_ne (tgt := 86) hx hb dX9_isGone_81 (by decide) (fun c21 => ?_) (fun c21 => ?_)
  · have hf := hf.1 c21
    refine lv_iload_n hx hb dX9_isGone_86 rfl (lv_at hl 3 rfl) ?_
    refine lv_iconst (v := 2) hx hb dX9_isGone_87 (by decide) ?_
    refine lv_icmp_ge (tgt := 160) hx hb dX9_isGone_88 (by decide) (fun c22 => ?_) (fun c22 => ?_)
    · have hf := hf.1 c22
      refine p_aload_n hx hb dX9_isGone_160 rfl (lv_at hl 0 rfl) ?_
      refine lv_iload_n hx hb dX9_isGone_161 rfl (lv_at hl 1 rfl) ?_
      refine lv_iload hx hb dX9_isGone_162 (lv_at hl 6 rfl) ?_
      refine lv_iload hx hb dX9_isGone_164 (lv_at hl 4 rfl) ?_
      obtain ⟨ht23, hf⟩ := hf
      refine p_calli hL (p_runV X cf8_ hP ht23 (metX9_isNew l G _ _ _ _ _ _ X.2.2 hf) (cwV 3 hts (lw_V q1653 q1655 qs81 q106 q1656) rfl rfl rfl (by decide +kernel) ⟨Nat.le_trans (Nat.le_of_ble_eq_true rfl) hRf, Nat.le_trans (Nat.le_of_ble_eq_true rfl) hRl⟩) rfl hl.1 rfl (by decide) dX9_isGone_166 ⟨Nat.zero_le _, Nat.zero_le _⟩) (fun r24 σ25 H locs hf hP hL => ?_)
      refine lv_if_ne (tgt := 179) hx hb dX9_isGone_169 (by decide) (fun c26 => ?_) (fun c26 => ?_)
      · have hf := hf.1 c26
        refine p_aload_n hx hb dX9_isGone_179 rfl (lv_at hl 0 rfl) ?_
        obtain ⟨ht27, hf⟩ := hf
        refine p_gI X cf8_ (k := 27) (by decide) rfl hP ht27 q1321 (fun _ h => h) dX9_isGone_180 ?_
        have hl := lv_sub hl [0, 1, 2, 3, 5, 6] rfl
        refine lv_topi (fun y28 hy28 => ?_)
        have hf := hf y28 hy28
        refine p_istore (i := 4) hx hb dX9_isGone_183 hl (by decide) ⟨⟨ne_ rfl, Or.inl (ne_ rfl)⟩, ⟨⟨ne_ rfl, Or.inl (ne_ rfl)⟩, ⟨⟨ne_ rfl, Or.inl (ne_ rfl)⟩, ⟨⟨ne_ rfl, Or.inr rfl⟩, ⟨⟨ne_ rfl, Or.inl (ne_ rfl)⟩, ⟨⟨ne_ rfl, Or.inl (ne_ rfl)⟩, trivial⟩⟩⟩⟩⟩⟩ (fun ls hl => ?_)
        refine p_aload_n hx hb dX9_isGone_185 rfl (lv_at hl 1 rfl) ?_
        refine lv_dup hx hb dX9_isGone_186 (rv_cat _) ?_
        refine p_gI X cf8_ (k := 27) (by decide) rfl hP ht27 q1321 (fun _ h => h) dX9_isGone_187 ?_
        refine lv_iconst (v := 1) hx hb dX9_isGone_190 (by decide) ?_
        refine lv_iadd hx hb dX9_isGone_191 ?_
        refine p_pI X cf8_ (k := 27) (by decide) rfl hP hL ht27 (p_ow hP ht27 rfl) q1321 (fun _ h => h) (Or.inl rfl) rfl rfl dX9_isGone_192 (fun H locs hP hL => ?_)
        refine p_nmP hP (fun σ29 hσ29 hP => ?_)
        have hf := hf σ29 hσ29
        have ht27 : tg_ σ29 x0 = 9 := by rw [hσ29]; exact ht27
        exact sX9_isGone_L195 Y hrc19 hf _ _ _ _ _ hP hL ⟨rfl, rfl⟩ (lv_sub hl [1, 2, 3, 4, 0, 5, 6] rfl)
      · have hf := hf.2 c26
        refine p_aload_n hx hb dX9_isGone_172 rfl (lv_at hl 0 rfl) ?_
        refine lv_iload hx hb dX9_isGone_173 (lv_at hl 6 rfl) ?_
        obtain ⟨ht30, hf⟩ := hf
        refine p_calli hL (p_runV X cf8_ hP ht30 (metX9_no l G _ _ _ _ X.2.2 hf) (cwV 1 hts (lw_V q1619 q1621 qs73 q106 q1622) rfl rfl rfl (by decide +kernel) ⟨Nat.le_trans (Nat.le_of_ble_eq_true rfl) hRf, Nat.le_trans (Nat.le_of_ble_eq_true rfl) hRl⟩) rfl hl.1 rfl (by decide) dX9_isGone_175 ⟨Nat.zero_le _, Nat.zero_le _⟩) (fun r31 σ32 H locs hf hP hL => ?_)
        obtain ⟨hn33, hf⟩ := hf
        exact p_zret X hlk hP hL (Nat.le_refl _) (Nat.le_refl _) hr hn33 dX9_isGone_178 hf
    · have hf := hf.2 c22
      refine lv_iload_n hx hb dX9_isGone_91 rfl (lv_at hl 3 rfl) ?_
      refine lv_if_eq (tgt := 99) hx hb dX9_isGone_92 (by decide) (fun c34 => ?_) (fun c34 => ?_)
      · have hf := hf.1 c34
        exact sX9_isGone_L99 Y hrc19 hf _ _ _ _ _ hP hL ⟨rfl, rfl⟩ (lv_sub hl [0, 1, 2, 3, 4, 5, 6] rfl)
      · have hf := hf.2 c34
        refine lv_iload_n hx hb dX9_isGone_95 rfl (lv_at hl 1 rfl) ?_
        refine lv_if_ne (tgt := 103) hx hb dX9_isGone_96 (by decide) (fun c35 => ?_) (fun c35 => ?_)
        · have hf := hf.1 c35
          refine p_aload_n hx hb dX9_isGone_103 rfl (lv_at hl 0 rfl) ?_
          obtain ⟨ht36, hf⟩ := hf
          refine p_gR X cf8_ (k := 29) (by decide) rfl hP ht36 q1323 (fun _ h => h) dX9_isGone_104 ?_
          refine lv_iload_n hx hb dX9_isGone_107 rfl (lv_at hl 1 rfl) ?_
          obtain ⟨ht37, hf⟩ := hf
          obtain ⟨hi38, hf⟩ := hf
          refine p_iald X hP ht37 hi38 dX9_isGone_108 ?_
          exact sX9_isGone_L109 Y hrc19 hf _ _ _ _ _ hP hL ⟨rfl, rfl⟩ (lv_sub hl [0, 1, 2, 3, 4, 5, 6] rfl)
        · have hf := hf.2 c35
          exact sX9_isGone_L99 Y hrc19 hf _ _ _ _ _ hP hL ⟨rfl, rfl⟩ (lv_sub hl [0, 1, 2, 3, 4, 5, 6] rfl)
  · have hf := hf.2 c21
    refine lv_iconst (v := 0) hx hb dX9_isGone_84 (by decide) ?_
    exact p_zret X hlk hP hL (Nat.le_refl _) (Nat.le_refl _) hr nr_0 dX9_isGone_85 hf
set_option maxHeartbeats 4000000 in
theorem sX9_isGone_B19 {G : GG_} {p : Program} {l : Launch} {e : Env} {R : Room} {s : State} {m : MethodId} {args : Array Value} {below : List Frame} {meth : Method} {c : Code} (Y : MX_ G p R s m args meth c cX9_isGone 8 RX9 (some Jvm.ClassFile.FieldType.boolean) 6 140 0 0 "isGone") {post : Int32 → Hp → Prop} {rc19 : Int32 → Int32 → Int32 → Hp → Prop} {x0 : Nat} {x1 : Int32} {x2 : Int32} {x3 : Int32} {x4 : Int32} {x5 : Int32} {σ : Hp} (hrc19 : ∀ (x3 : Int32) (x4 : Int32) (x5 : Int32) (σ : Hp), rc19 x3 x4 x5 σ → WG_ G p l e R s m args below meth c (MQ below (QI_ G post) args s 0 0 (FR_ G)) BN_ 8 19 [(0, rv_ x0), (1, .int x1), (2, .int x2), (3, .int x3), (4, .int x4), (5, .int x5)] [] σ) (hf : wX9_isGone_B19 post rc19 x0 x1 x2 x3 x4 x5 σ) : WG_ G p l e R s m args below meth c (MQ below (QI_ G post) args s 0 0 (FR_ G)) BN_ 8 19 [(0, rv_ x0), (1, .int x1), (2, .int x2), (3, .int x3), (4, .int x4), (5, .int x5)] [] σ := by
  have ⟨X, hlk, hr, hRf, hRl, hRc, hnm⟩ := Y
  have ⟨⟨hx, hb, _, hown, hts⟩, _, _⟩ := X
  intro H locs cells slots ls hP hL hB hl
  obtain ⟨rfl, rfl⟩ := hB
  unfold wX9_isGone_B19 at hf
  refine lv_iload hx hb dX9_isGone_19 (lv_at hl 5 rfl) ?_
  refine p_aload_n hx hb dX9_isGone_21 rfl (lv_at hl 0 rfl) ?_
  obtain ⟨ht39, hf⟩ := hf
  refine p_gR X cf8_ (k := 31) (by decide) rfl hP ht39 q1325 (fun _ h => h) dX9_isGone_22 ?_
  refine lv_iload_n hx hb dX9_isGone_25 rfl (lv_at hl 1 rfl) ?_
  obtain ⟨ht40, hf⟩ := hf
  obtain ⟨hi41, hf⟩ := hf
  refine p_iald X hP ht40 hi41 dX9_isGone_26 ?_
  refine lv_icmp_ge (tgt := 212) hx hb dX9_isGone_27 (by decide) (fun c42 => ?_) (fun c42 => ?_)
  · have hf := hf.1 c42
    refine lv_iload_n hx hb dX9_isGone_212 rfl (lv_at hl 3 rfl) ?_
    refine lv_iconst (v := 1) hx hb dX9_isGone_213 (by decide) ?_
    refine lv_icmp_gt (tgt := 225) hx hb dX9_isGone_214 (by decide) (fun c43 => ?_) (fun c43 => ?_)
    · have hf := hf.1 c43
      exact sX9_isGone_L225 Y hf _ _ _ _ _ hP hL ⟨rfl, rfl⟩ (lv_sub hl [] rfl)
    · have hf := hf.2 c43
      refine p_aload_n hx hb dX9_isGone_217 rfl (lv_at hl 0 rfl) ?_
      refine lv_iload_n hx hb dX9_isGone_218 rfl (lv_at hl 2 rfl) ?_
      refine p_calli hL (p_runV X cf8_ hP ht39 (metX9_no l G _ _ _ _ X.2.2 hf) (cwV 1 hts (lw_V q1619 q1621 qs73 q106 q1622) rfl rfl rfl (by decide +kernel) ⟨Nat.le_trans (Nat.le_of_ble_eq_true rfl) hRf, Nat.le_trans (Nat.le_of_ble_eq_true rfl) hRl⟩) rfl hl.1 rfl (by decide) dX9_isGone_219 ⟨Nat.zero_le _, Nat.zero_le _⟩) (fun r44 σ45 H locs hf hP hL => ?_)
      refine lv_if_eq (tgt := 229) hx hb dX9_isGone_222 (by decide) (fun c46 => ?_) (fun c46 => ?_)
      · have hf := hf.1 c46
        refine lv_iconst (v := 0) hx hb dX9_isGone_229 (by decide) ?_
        exact p_zret X hlk hP hL (Nat.le_refl _) (Nat.le_refl _) hr nr_0 dX9_isGone_230 hf
      · have hf := hf.2 c46
        exact sX9_isGone_L225 Y hf _ _ _ _ _ hP hL ⟨rfl, rfl⟩ (lv_sub hl [] rfl)
  · have hf := hf.2 c42
    refine p_aload_n hx hb dX9_isGone_30 rfl (lv_at hl 0 rfl) ?_
    refine lv_iload_n hx hb dX9_isGone_31 rfl (lv_at hl 2 rfl) ?_
    refine lv_iload hx hb dX9_isGone_32 (lv_at hl 5 rfl) ?_
    refine lv_iadd hx hb dX9_isGone_34 ?_
    refine p_calli hL (p_runV X cf8_ hP ht39 (metX9_get l G _ _ _ _ X.2.2 hf) (cwV 1 hts (lw_V q1508 q1510 qs52 q106 q1511) rfl rfl rfl (by decide +kernel) ⟨Nat.le_trans (Nat.le_of_ble_eq_true rfl) hRf, Nat.le_trans (Nat.le_of_ble_eq_true rfl) hRl⟩) rfl hl.1 rfl (by decide) dX9_isGone_35 ⟨Nat.zero_le _, Nat.zero_le _⟩) (fun r47 σ₁ H locs hf hP hL => ?_)
    obtain ⟨e₁, hf⟩ := hf
    rw [e₁] at hP
    refine lv_if_ne (tgt := 59) hx hb dX9_isGone_38 (by decide) (fun c48 => ?_) (fun c48 => ?_)
    · have hf := hf.1 c48
      refine lv_iload_n hx hb dX9_isGone_59 rfl (lv_at hl 2 rfl) ?_
      refine lv_iload hx hb dX9_isGone_60 (lv_at hl 5 rfl) ?_
      refine lv_iadd hx hb dX9_isGone_62 ?_
      refine lv_topi (fun y49 hy49 => ?_)
      have hf := hf y49 hy49
      refine p_istore (i := 6) hx hb dX9_isGone_63 hl (by decide) ⟨⟨ne_ rfl, Or.inl (ne_ rfl)⟩, ⟨⟨ne_ rfl, Or.inl (ne_ rfl)⟩, ⟨⟨ne_ rfl, Or.inl (ne_ rfl)⟩, ⟨⟨ne_ rfl, Or.inl (ne_ rfl)⟩, ⟨⟨ne_ rfl, Or.inl (ne_ rfl)⟩, ⟨⟨ne_ rfl, Or.inr rfl⟩, trivial⟩⟩⟩⟩⟩⟩ (fun ls hl => ?_)
      refine p_aload_n hx hb dX9_isGone_65 rfl (lv_at hl 1 rfl) ?_
      refine lv_iload hx hb dX9_isGone_66 (lv_at hl 0 rfl) ?_
      refine lv_iload_n hx hb dX9_isGone_68 rfl (lv_at hl 4 rfl) ?_
      refine lv_iconst (v := 2) hx hb dX9_isGone_69 (by decide) ?_
      refine lv_icmp_ge (tgt := 77) hx hb dX9_isGone_70 (by decide) (fun c50 => ?_) (fun c50 => ?_)
      · have hf := hf.1 c50
        refine lv_iconst (v := 2) hx hb dX9_isGone_77 (by decide) ?_
        exact sX9_isGone_L78 Y hrc19 hf _ _ _ _ _ hP hL ⟨rfl, rfl⟩ (lv_sub hl [1, 2, 3, 4, 5, 6, 0] rfl)
      · have hf := hf.2 c50
        refine lv_iload_n hx hb dX9_isGone_73 rfl (lv_at hl 4 rfl) ?_
        refine lv_goto (tgt := 78) hx hb dX9_isGone_74 (by decide) ?_
        exact sX9_isGone_L78 Y hrc19 hf _ _ _ _ _ hP hL ⟨rfl, rfl⟩ (lv_sub hl [1, 2, 3, 4, 5, 6, 0] rfl)
    · have hf := hf.2 c48
      refine lv_iload hx hb dX9_isGone_41 (lv_at hl 5 rfl) ?_
      refine lv_iload hx hb dX9_isGone_43 (lv_at hl 5 rfl) ?_
      refine lv_sipush (v := 2048) hx hb dX9_isGone_45 (by decide) ?_
      refine lv_irem hx hb dX9_isGone_48 (by decide) ?_
      refine lv_isub hx hb dX9_isGone_49 ?_
      refine lv_sipush (v := 2048) hx hb dX9_isGone_50 (by decide) ?_
      refine lv_iadd hx hb dX9_isGone_53 ?_
      have hl := lv_sub hl [0, 1, 2, 3, 4] rfl
      refine lv_topi (fun y51 hy51 => ?_)
      have hf := hf y51 hy51
      refine p_istore (i := 5) hx hb dX9_isGone_54 hl (by decide) ⟨⟨ne_ rfl, Or.inl (ne_ rfl)⟩, ⟨⟨ne_ rfl, Or.inl (ne_ rfl)⟩, ⟨⟨ne_ rfl, Or.inl (ne_ rfl)⟩, ⟨⟨ne_ rfl, Or.inl (ne_ rfl)⟩, ⟨⟨ne_ rfl, Or.inr rfl⟩, trivial⟩⟩⟩⟩⟩ (fun ls hl => ?_)
      refine lv_goto (tgt := 19) hx hb dX9_isGone_56 (by decide) ?_
      exact hrc19 _ _ _ _ hf _ _ _ _ _ hP hL ⟨rfl, rfl⟩ (lv_sub hl [1, 2, 3, 4, 5, 0] rfl)
set_option maxHeartbeats 4000000 in
theorem sX9_isGone_L19 {G : GG_} {p : Program} {l : Launch} {e : Env} {R : Room} {s : State} {m : MethodId} {args : Array Value} {below : List Frame} {meth : Method} {c : Code} (Y : MX_ G p R s m args meth c cX9_isGone 8 RX9 (some Jvm.ClassFile.FieldType.boolean) 6 140 0 0 "isGone") {post : Int32 → Hp → Prop} {x0 : Nat} {x1 : Int32} {x2 : Int32} {x3 : Int32} {x4 : Int32} {x5 : Int32} {σ : Hp} (hf : wX9_isGone_L19 post x0 x1 x2 x3 x4 x5 σ) : WG_ G p l e R s m args below meth c (MQ below (QI_ G post) args s 0 0 (FR_ G)) BN_ 8 19 [(0, rv_ x0), (1, .int x1), (2, .int x2), (3, .int x3), (4, .int x4), (5, .int x5)] [] σ := by
  unfold wX9_isGone_L19 at hf
  obtain ⟨I, μ, h0, hI⟩ := hf
  have key : ∀ (n : Nat) (x3 : Int32) (x4 : Int32) (x5 : Int32) (σ : Hp), I x3 x4 x5 σ → μ x3 x4 x5 σ < n → WG_ G p l e R s m args below meth c (MQ below (QI_ G post) args s 0 0 (FR_ G)) BN_ 8 19 [(0, rv_ x0), (1, .int x1), (2, .int x2), (3, .int x3), (4, .int x4), (5, .int x5)] [] σ := by
    intro n
    induction n with
    | zero => intro x3 x4 x5 σ _ h; exact absurd h (Nat.not_lt_zero _)
    | succ n ih => intro x3 x4 x5 σ hi hn; exact sX9_isGone_B19 Y (fun x3' x4' x5' σ' h => ih x3' x4' x5' σ' h.1 (Nat.lt_of_lt_of_le h.2 (Nat.le_of_lt_succ hn))) (hI x3 x4 x5 σ hi)
  exact key _ _ _ _ _ h0 (Nat.lt_succ_self _)
set_option maxHeartbeats 4000000 in
theorem sX9_isGone {G : GG_} {p : Program} {l : Launch} {e : Env} {R : Room} {s : State} {m : MethodId} {args : Array Value} {below : List Frame} {meth : Method} {c : Code} (Y : MX_ G p R s m args meth c cX9_isGone 8 RX9 (some Jvm.ClassFile.FieldType.boolean) 6 140 0 0 "isGone") {post : Int32 → Hp → Prop} {x0 : Nat} {x1 : Int32} {σ : Hp} (hf : wX9_isGone x0 x1 σ post) : WG_ G p l e R s m args below meth c (MQ below (QI_ G post) args s 0 0 (FR_ G)) BN_ 8 0 [(0, rv_ x0), (1, .int x1)] [] σ := by
  have ⟨X, hlk, hr, hRf, hRl, hRc, hnm⟩ := Y
  have ⟨⟨hx, hb, _, hown, hts⟩, _, _⟩ := X
  intro H locs cells slots ls hP hL hB hl
  obtain ⟨rfl, rfl⟩ := hB
  unfold wX9_isGone at hf
  refine lv_sipush (v := 2048) hx hb dX9_isGone_0 (by decide) ?_
  refine p_aload_n hx hb dX9_isGone_3 rfl (lv_at hl 0 rfl) ?_
  obtain ⟨ht52, hf⟩ := hf
  refine p_gR X cf8_ (k := 32) (by decide) rfl hP ht52 q1326 (fun _ h => h) dX9_isGone_4 ?_
  refine lv_iload_n hx hb dX9_isGone_7 rfl (lv_at hl 1 rfl) ?_
  obtain ⟨ht53, hf⟩ := hf
  obtain ⟨hi54, hf⟩ := hf
  refine p_iald X hP ht53 hi54 dX9_isGone_8 ?_
  refine lv_imul hx hb dX9_isGone_9 ?_
  refine lv_topi (fun y55 hy55 => ?_)
  have hf := hf y55 hy55
  refine p_istore_n (i := 2) hx hb dX9_isGone_10 rfl hl (by decide) ⟨⟨ne_ rfl, Or.inl (ne_ rfl)⟩, ⟨⟨ne_ rfl, Or.inr rfl⟩, trivial⟩⟩ (fun ls hl => ?_)
  refine lv_iconst (v := 0) hx hb dX9_isGone_11 (by decide) ?_
  refine p_istore_n (i := 3) hx hb dX9_isGone_12 rfl hl (by decide) ⟨⟨ne_ rfl, Or.inr rfl⟩, ⟨⟨ne_ rfl, Or.inl (ne_ rfl)⟩, ⟨⟨ne_ rfl, Or.inl (ne_ rfl)⟩, trivial⟩⟩⟩ (fun ls hl => ?_)
  refine lv_iconst (v := (-1)) hx hb dX9_isGone_13 (by decide) ?_
  refine p_istore (i := 4) hx hb dX9_isGone_14 hl (by decide) ⟨⟨ne_ rfl, Or.inr rfl⟩, ⟨⟨ne_ rfl, Or.inl (ne_ rfl)⟩, ⟨⟨ne_ rfl, Or.inl (ne_ rfl)⟩, ⟨⟨ne_ rfl, Or.inl (ne_ rfl)⟩, trivial⟩⟩⟩⟩ (fun ls hl => ?_)
  refine lv_iconst (v := 0) hx hb dX9_isGone_16 (by decide) ?_
  refine p_istore (i := 5) hx hb dX9_isGone_17 hl (by decide) ⟨⟨ne_ rfl, Or.inr rfl⟩, ⟨⟨ne_ rfl, Or.inl (ne_ rfl)⟩, ⟨⟨ne_ rfl, Or.inl (ne_ rfl)⟩, ⟨⟨ne_ rfl, Or.inl (ne_ rfl)⟩, ⟨⟨ne_ rfl, Or.inl (ne_ rfl)⟩, trivial⟩⟩⟩⟩⟩ (fun ls hl => ?_)
  exact sX9_isGone_L19 Y hf _ _ _ _ _ hP hL ⟨rfl, rfl⟩ (lv_sub hl [4, 5, 3, 2, 1, 0] rfl)
set_option maxHeartbeats 4000000 in
theorem metX9_isGone (l : Launch) (G : GG_) (x0 : Nat) (x1 : Int32) (σ : Hp) (post : Int32 → Hp → Prop) (hG : GOK_ G) (hf : wX9_isGone x0 x1 σ post) : Met l yX9_isGone (ws_ yX9_isGone cX9_isGone 8 (some Jvm.ClassFile.FieldType.boolean)) { frames := 6, cells := 0, slots := 0, locals := 140 } (PC_ G [rv_ x0, .int x1] σ) (QI_ G post) 0 0 (FR_ G) := by
  refine Met.ofW (cc := cX9_isGone) (maxL := 8) (ret := (some Jvm.ClassFile.FieldType.boolean)) (by decide) rfl ?_
  intro p e s m args below meth c s₁ B hml hv
  obtain ⟨rfl, hP, hW⟩ := hv
  have hts := atoms_spec (ws := ws_ yX9_isGone cX9_isGone 8 (some Jvm.ClassFile.FieldType.boolean)) B.pre
  have hts : ∀ w ∈ lw_all, w.before _ s = true := fun w h => hts w (List.mem_cons_of_mem _ h)
  rw [lg_entry_eq]
  have hl := en_entry [rv_ x0, .int x1] [1, 1] (n := 8) (ca_r (ca_i ca_n)) (by decide)
  exact sX9_isGone ⟨⟨⟨B.exec, B.bytes, hml, findClass_of_methodNamed B.named, hts⟩, hW, hG⟩, B.notSynchronized, B.returns, Nat.le_refl _, Nat.le_refl _, ⟨rfl, rfl⟩, (name_of_methodNamed B.named B.method).1⟩ hf _ _ _ _ _ hP (LO_nil G) ⟨rfl, rfl⟩ hl
abbrev cX9_expect : ByteArray := prog_11_method_61_code
def yX9_expect : MethodName := ⟨RX9, "expect", "(II)I"⟩
theorem dX9_expect_0 : decode cX9_expect 0 = .ok (.aload_n 0, 1) := by decide +kernel
theorem dX9_expect_1 : decode cX9_expect 1 = .ok (.getfield 257, 3) := by decide +kernel
theorem dX9_expect_4 : decode cX9_expect 4 = .ok (.ifCond .ge 21, 3) := by decide +kernel
theorem dX9_expect_7 : decode cX9_expect 7 = .ok (.aload_n 0, 1) := by decide +kernel
theorem dX9_expect_8 : decode cX9_expect 8 = .ok (.iload_n 1, 1) := by decide +kernel
theorem dX9_expect_9 : decode cX9_expect 9 = .ok (.invokevirtual 225, 3) := by decide +kernel
theorem dX9_expect_12 : decode cX9_expect 12 = .ok (.iload_n 2, 1) := by decide +kernel
theorem dX9_expect_13 : decode cX9_expect 13 = .ok (.sipush 255, 3) := by decide +kernel
theorem dX9_expect_16 : decode cX9_expect 16 = .ok (.iand, 1) := by decide +kernel
theorem dX9_expect_17 : decode cX9_expect 17 = .ok (.if_icmp .eq 8, 3) := by decide +kernel
theorem dX9_expect_20 : decode cX9_expect 20 = .ok (.aload_n 0, 1) := by decide +kernel
theorem dX9_expect_21 : decode cX9_expect 21 = .ok (.iload_n 1, 1) := by decide +kernel
theorem dX9_expect_22 : decode cX9_expect 22 = .ok (.putfield 257, 3) := by decide +kernel
theorem dX9_expect_25 : decode cX9_expect 25 = .ok (.iload_n 1, 1) := by decide +kernel
theorem dX9_expect_26 : decode cX9_expect 26 = .ok (.iconst 1, 1) := by decide +kernel
theorem dX9_expect_27 : decode cX9_expect 27 = .ok (.iadd, 1) := by decide +kernel
theorem dX9_expect_28 : decode cX9_expect 28 = .ok (.ireturn, 1) := by decide +kernel
/-- WriteOnceDiscModel.expect(II)I -/
def wX9_expect_L25 (post : Int32 → Hp → Prop) (x1 : Int32) (σ : Hp) : Prop :=
post (x1 + (1 : Int32)) σ
def wX9_expect (x0 : Nat) (x1 : Int32) (x2 : Int32) (σ : Hp) (post : Int32 → Hp → Prop) : Prop :=
(tg_ σ x0 = 9 ∧ ((0 ≤ (fI_ σ 8 28 x0) →
  wX9_expect_L25 post x1 σ) ∧
 (¬ 0 ≤ (fI_ σ 8 28 x0) →
  (wX9_get x0 x1 σ (fun r3 => ((r3 = (x2 &&& (255 : Int32)) →
   wX9_expect_L25 post x1 σ) ∧
  (¬ r3 = (x2 &&& (255 : Int32)) →
   (∀ σ5, σ5 = sI_ σ 8 28 x0 x1 → wX9_expect_L25 post x1 σ5))))))))
set_option maxHeartbeats 4000000 in
theorem sX9_expect_L25 {G : GG_} {p : Program} {l : Launch} {e : Env} {R : Room} {s : State} {m : MethodId} {args : Array Value} {below : List Frame} {meth : Method} {c : Code} (Y : MX_ G p R s m args meth c cX9_expect 3 RX9 (some Jvm.ClassFile.FieldType.int) 2 41 0 0 "expect") {post : Int32 → Hp → Prop} {x1 : Int32} {σ : Hp} (hf : wX9_expect_L25 post x1 σ) : WG_ G p l e R s m args below meth c (MQ below (QI_ G post) args s 0 0 (FR_ G)) BN_ 3 25 [(1, .int x1)] [] σ := by
  have ⟨X, hlk, hr, hRf, hRl, hRc, hnm⟩ := Y
  have ⟨⟨hx, hb, _, hown, hts⟩, _, _⟩ := X
  intro H locs cells slots ls hP hL hB hl
  obtain ⟨rfl, rfl⟩ := hB
  unfold wX9_expect_L25 at hf
  refine lv_iload_n hx hb dX9_expect_25 rfl (lv_at hl 0 rfl) ?_
  refine lv_iconst (v := 1) hx hb dX9_expect_26 (by decide) ?_
  refine lv_iadd hx hb dX9_expect_27 ?_
  exact p_iret X hlk hP hL (Nat.le_refl _) (Nat.le_refl _) hr dX9_expect_28 hf
set_option maxHeartbeats 4000000 in
theorem sX9_expect {G : GG_} {p : Program} {l : Launch} {e : Env} {R : Room} {s : State} {m : MethodId} {args : Array Value} {below : List Frame} {meth : Method} {c : Code} (Y : MX_ G p R s m args meth c cX9_expect 3 RX9 (some Jvm.ClassFile.FieldType.int) 2 41 0 0 "expect") {post : Int32 → Hp → Prop} {x0 : Nat} {x1 : Int32} {x2 : Int32} {σ : Hp} (hf : wX9_expect x0 x1 x2 σ post) : WG_ G p l e R s m args below meth c (MQ below (QI_ G post) args s 0 0 (FR_ G)) BN_ 3 0 [(0, rv_ x0), (1, .int x1), (2, .int x2)] [] σ := by
  have ⟨X, hlk, hr, hRf, hRl, hRc, hnm⟩ := Y
  have ⟨⟨hx, hb, _, hown, hts⟩, _, _⟩ := X
  intro H locs cells slots ls hP hL hB hl
  obtain ⟨rfl, rfl⟩ := hB
  unfold wX9_expect at hf
  refine p_aload_n hx hb dX9_expect_0 rfl (lv_at hl 0 rfl) ?_
  obtain ⟨ht1, hf⟩ := hf
  refine p_gI X cf8_ (k := 28) (by decide) rfl hP ht1 q1322 (fun _ h => h) dX9_expect_1 ?_
  refine lv_if_ge (tgt := 25) hx hb dX9_expect_4 (by decide) (fun c2 => ?_) (fun c2 => ?_)
  · have hf := hf.1 c2
    exact sX9_expect_L25 Y hf _ _ _ _ _ hP hL ⟨rfl, rfl⟩ (lv_sub hl [1] rfl)
  · have hf := hf.2 c2
    refine p_aload_n hx hb dX9_expect_7 rfl (lv_at hl 0 rfl) ?_
    refine lv_iload_n hx hb dX9_expect_8 rfl (lv_at hl 1 rfl) ?_
    refine p_calli hL (p_runV X cf8_ hP ht1 (metX9_get l G _ _ _ _ X.2.2 hf) (cwV 1 hts (lw_V q1508 q1510 qs52 q106 q1511) rfl rfl rfl (by decide +kernel) ⟨Nat.le_trans (Nat.le_of_ble_eq_true rfl) hRf, Nat.le_trans (Nat.le_of_ble_eq_true rfl) hRl⟩) rfl hl.1 rfl (by decide) dX9_expect_9 ⟨Nat.zero_le _, Nat.zero_le _⟩) (fun r3 σ₁ H locs hf hP hL => ?_)
    obtain ⟨e₁, hf⟩ := hf
    rw [e₁] at hP
    refine lv_iload_n hx hb dX9_expect_12 rfl (lv_at hl 2 rfl) ?_
    refine lv_sipush (v := 255) hx hb dX9_expect_13 (by decide) ?_
    refine lv_iand hx hb dX9_expect_16 ?_
    refine lv_icmp_eq (tgt := 25) hx hb dX9_expect_17 (by decide) (fun c4 => ?_) (fun c4 => ?_)
    · have hf := hf.1 c4
      exact sX9_expect_L25 Y hf _ _ _ _ _ hP hL ⟨rfl, rfl⟩ (lv_sub hl [1] rfl)
    · have hf := hf.2 c4
      refine p_aload_n hx hb dX9_expect_20 rfl (lv_at hl 0 rfl) ?_
      refine lv_iload_n hx hb dX9_expect_21 rfl (lv_at hl 1 rfl) ?_
      refine p_pI X cf8_ (k := 28) (by decide) rfl hP hL ht1 (p_ow hP ht1 rfl) q1322 (fun _ h => h) (Or.inl rfl) rfl rfl dX9_expect_22 (fun H locs hP hL => ?_)
      refine p_nmP hP (fun σ5 hσ5 hP => ?_)
      have hf := hf σ5 hσ5
      have ht1 : tg_ σ5 x0 = 9 := by rw [hσ5]; exact ht1
      exact sX9_expect_L25 Y hf _ _ _ _ _ hP hL ⟨rfl, rfl⟩ (lv_sub hl [1] rfl)
set_option maxHeartbeats 4000000 in
theorem metX9_expect (l : Launch) (G : GG_) (x0 : Nat) (x1 : Int32) (x2 : Int32) (σ : Hp) (post : Int32 → Hp → Prop) (hG : GOK_ G) (hf : wX9_expect x0 x1 x2 σ post) : Met l yX9_expect (ws_ yX9_expect cX9_expect 3 (some Jvm.ClassFile.FieldType.int)) { frames := 2, cells := 0, slots := 0, locals := 41 } (PC_ G [rv_ x0, .int x1, .int x2] σ) (QI_ G post) 0 0 (FR_ G) := by
  refine Met.ofW (cc := cX9_expect) (maxL := 3) (ret := (some Jvm.ClassFile.FieldType.int)) (by decide) rfl ?_
  intro p e s m args below meth c s₁ B hml hv
  obtain ⟨rfl, hP, hW⟩ := hv
  have hts := atoms_spec (ws := ws_ yX9_expect cX9_expect 3 (some Jvm.ClassFile.FieldType.int)) B.pre
  have hts : ∀ w ∈ lw_all, w.before _ s = true := fun w h => hts w (List.mem_cons_of_mem _ h)
  rw [lg_entry_eq]
  have hl := en_entry [rv_ x0, .int x1, .int x2] [1, 1, 1] (n := 3) (ca_r (ca_i (ca_i ca_n))) (by decide)
  exact sX9_expect ⟨⟨⟨B.exec, B.bytes, hml, findClass_of_methodNamed B.named, hts⟩, hW, hG⟩, B.notSynchronized, B.returns, Nat.le_refl _, Nat.le_refl _, ⟨rfl, rfl⟩, (name_of_methodNamed B.named B.method).1⟩ hf _ _ _ _ _ hP (LO_nil G) ⟨rfl, rfl⟩ hl
abbrev cX9_tableIs : ByteArray := prog_11_method_62_code
def yX9_tableIs : MethodName := ⟨RX9, "tableIs", "(I)I"⟩
theorem dX9_tableIs_0 : decode cX9_tableIs 0 = .ok (.aload_n 0, 1) := by decide +kernel
theorem dX9_tableIs_1 : decode cX9_tableIs 1 = .ok (.iconst (-1), 1) := by decide +kernel
theorem dX9_tableIs_2 : decode cX9_tableIs 2 = .ok (.putfield 257, 3) := by decide +kernel
theorem dX9_tableIs_5 : decode cX9_tableIs 5 = .ok (.iconst 0, 1) := by decide +kernel
theorem dX9_tableIs_6 : decode cX9_tableIs 6 = .ok (.istore_n 2, 1) := by decide +kernel
theorem dX9_tableIs_7 : decode cX9_tableIs 7 = .ok (.iconst 0, 1) := by decide +kernel
theorem dX9_tableIs_8 : decode cX9_tableIs 8 = .ok (.istore_n 3, 1) := by decide +kernel
theorem dX9_tableIs_9 : decode cX9_tableIs 9 = .ok (.iload_n 3, 1) := by decide +kernel
theorem dX9_tableIs_10 : decode cX9_tableIs 10 = .ok (.iconst 2, 1) := by decide +kernel
theorem dX9_tableIs_11 : decode cX9_tableIs 11 = .ok (.if_icmp .ge 311, 3) := by decide +kernel
theorem dX9_tableIs_14 : decode cX9_tableIs 14 = .ok (.aload_n 0, 1) := by decide +kernel
theorem dX9_tableIs_15 : decode cX9_tableIs 15 = .ok (.getfield 257, 3) := by decide +kernel
theorem dX9_tableIs_18 : decode cX9_tableIs 18 = .ok (.ifCond .ge 304, 3) := by decide +kernel
theorem dX9_tableIs_21 : decode cX9_tableIs 21 = .ok (.sipush 2048, 3) := by decide +kernel
theorem dX9_tableIs_24 : decode cX9_tableIs 24 = .ok (.iload_n 1, 1) := by decide +kernel
theorem dX9_tableIs_25 : decode cX9_tableIs 25 = .ok (.iload_n 3, 1) := by decide +kernel
theorem dX9_tableIs_26 : decode cX9_tableIs 26 = .ok (.iadd, 1) := by decide +kernel
theorem dX9_tableIs_27 : decode cX9_tableIs 27 = .ok (.imul, 1) := by decide +kernel
theorem dX9_tableIs_28 : decode cX9_tableIs 28 = .ok (.istore 4, 2) := by decide +kernel
theorem dX9_tableIs_30 : decode cX9_tableIs 30 = .ok (.iload 4, 2) := by decide +kernel
theorem dX9_tableIs_32 : decode cX9_tableIs 32 = .ok (.istore 5, 2) := by decide +kernel
theorem dX9_tableIs_34 : decode cX9_tableIs 34 = .ok (.iconst 0, 1) := by decide +kernel
theorem dX9_tableIs_35 : decode cX9_tableIs 35 = .ok (.istore 6, 2) := by decide +kernel
theorem dX9_tableIs_37 : decode cX9_tableIs 37 = .ok (.iload 6, 2) := by decide +kernel
theorem dX9_tableIs_39 : decode cX9_tableIs 39 = .ok (.aload_n 0, 1) := by decide +kernel
theorem dX9_tableIs_40 : decode cX9_tableIs 40 = .ok (.getfield 283, 3) := by decide +kernel
theorem dX9_tableIs_43 : decode cX9_tableIs 43 = .ok (.if_icmp .ge 267, 3) := by decide +kernel
theorem dX9_tableIs_46 : decode cX9_tableIs 46 = .ok (.aload_n 0, 1) := by decide +kernel
theorem dX9_tableIs_47 : decode cX9_tableIs 47 = .ok (.getfield 69, 3) := by decide +kernel
theorem dX9_tableIs_50 : decode cX9_tableIs 50 = .ok (.iload 6, 2) := by decide +kernel
theorem dX9_tableIs_52 : decode cX9_tableIs 52 = .ok (.baload, 1) := by decide +kernel
theorem dX9_tableIs_53 : decode cX9_tableIs 53 = .ok (.ifCond .ne 6, 3) := by decide +kernel
theorem dX9_tableIs_56 : decode cX9_tableIs 56 = .ok (.goto 248, 3) := by decide +kernel
theorem dX9_tableIs_59 : decode cX9_tableIs 59 = .ok (.iload 6, 2) := by decide +kernel
theorem dX9_tableIs_61 : decode cX9_tableIs 61 = .ok (.ifCond .ne 7, 3) := by decide +kernel
theorem dX9_tableIs_64 : decode cX9_tableIs 64 = .ok (.iconst 1, 1) := by decide +kernel
theorem dX9_tableIs_65 : decode cX9_tableIs 65 = .ok (.goto 13, 3) := by decide +kernel
theorem dX9_tableIs_68 : decode cX9_tableIs 68 = .ok (.aload_n 0, 1) := by decide +kernel
theorem dX9_tableIs_69 : decode cX9_tableIs 69 = .ok (.getfield 78, 3) := by decide +kernel
theorem dX9_tableIs_72 : decode cX9_tableIs 72 = .ok (.iload 6, 2) := by decide +kernel
theorem dX9_tableIs_74 : decode cX9_tableIs 74 = .ok (.laload, 1) := by decide +kernel
theorem dX9_tableIs_75 : decode cX9_tableIs 75 = .ok (.invokestatic 165, 3) := by decide +kernel
theorem dX9_tableIs_78 : decode cX9_tableIs 78 = .ok (.istore 7, 2) := by decide +kernel
theorem dX9_tableIs_80 : decode cX9_tableIs 80 = .ok (.iconst 0, 1) := by decide +kernel
theorem dX9_tableIs_81 : decode cX9_tableIs 81 = .ok (.istore 8, 2) := by decide +kernel
theorem dX9_tableIs_83 : decode cX9_tableIs 83 = .ok (.iconst 0, 1) := by decide +kernel
theorem dX9_tableIs_84 : decode cX9_tableIs 84 = .ok (.istore 9, 2) := by decide +kernel
theorem dX9_tableIs_86 : decode cX9_tableIs 86 = .ok (.iload 9, 2) := by decide +kernel
theorem dX9_tableIs_88 : decode cX9_tableIs 88 = .ok (.aload_n 0, 1) := by decide +kernel
theorem dX9_tableIs_89 : decode cX9_tableIs 89 = .ok (.getfield 66, 3) := by decide +kernel
theorem dX9_tableIs_92 : decode cX9_tableIs 92 = .ok (.iload 6, 2) := by decide +kernel
theorem dX9_tableIs_94 : decode cX9_tableIs 94 = .ok (.iaload, 1) := by decide +kernel
theorem dX9_tableIs_95 : decode cX9_tableIs 95 = .ok (.if_icmp .le 13, 3) := by decide +kernel
theorem dX9_tableIs_98 : decode cX9_tableIs 98 = .ok (.iload 9, 2) := by decide +kernel
theorem dX9_tableIs_100 : decode cX9_tableIs 100 = .ok (.ifCond .ne 34, 3) := by decide +kernel
theorem dX9_tableIs_103 : decode cX9_tableIs 103 = .ok (.iload 6, 2) := by decide +kernel
theorem dX9_tableIs_105 : decode cX9_tableIs 105 = .ok (.ifCond .ne 29, 3) := by decide +kernel
theorem dX9_tableIs_108 : decode cX9_tableIs 108 = .ok (.iload 8, 2) := by decide +kernel
theorem dX9_tableIs_110 : decode cX9_tableIs 110 = .ok (.aload_n 0, 1) := by decide +kernel
theorem dX9_tableIs_111 : decode cX9_tableIs 111 = .ok (.getfield 69, 3) := by decide +kernel
theorem dX9_tableIs_114 : decode cX9_tableIs 114 = .ok (.iload 9, 2) := by decide +kernel
theorem dX9_tableIs_116 : decode cX9_tableIs 116 = .ok (.baload, 1) := by decide +kernel
theorem dX9_tableIs_117 : decode cX9_tableIs 117 = .ok (.ifCond .eq 7, 3) := by decide +kernel
theorem dX9_tableIs_120 : decode cX9_tableIs 120 = .ok (.iconst 1, 1) := by decide +kernel
theorem dX9_tableIs_121 : decode cX9_tableIs 121 = .ok (.goto 4, 3) := by decide +kernel
theorem dX9_tableIs_124 : decode cX9_tableIs 124 = .ok (.iconst 0, 1) := by decide +kernel
theorem dX9_tableIs_125 : decode cX9_tableIs 125 = .ok (.iadd, 1) := by decide +kernel
theorem dX9_tableIs_126 : decode cX9_tableIs 126 = .ok (.istore 8, 2) := by decide +kernel
theorem dX9_tableIs_128 : decode cX9_tableIs 128 = .ok (.iinc 9 1, 3) := by decide +kernel
theorem dX9_tableIs_131 : decode cX9_tableIs 131 = .ok (.goto (-45), 3) := by decide +kernel
theorem dX9_tableIs_134 : decode cX9_tableIs 134 = .ok (.aload_n 0, 1) := by decide +kernel
theorem dX9_tableIs_135 : decode cX9_tableIs 135 = .ok (.iload 4, 2) := by decide +kernel
theorem dX9_tableIs_137 : decode cX9_tableIs 137 = .ok (.iload 7, 2) := by decide +kernel
theorem dX9_tableIs_139 : decode cX9_tableIs 139 = .ok (.invokevirtual 308, 3) := by decide +kernel
theorem dX9_tableIs_142 : decode cX9_tableIs 142 = .ok (.istore 4, 2) := by decide +kernel
theorem dX9_tableIs_144 : decode cX9_tableIs 144 = .ok (.aload_n 0, 1) := by decide +kernel
theorem dX9_tableIs_145 : decode cX9_tableIs 145 = .ok (.iload 4, 2) := by decide +kernel
theorem dX9_tableIs_147 : decode cX9_tableIs 147 = .ok (.iconst 0, 1) := by decide +kernel
theorem dX9_tableIs_148 : decode cX9_tableIs 148 = .ok (.invokevirtual 308, 3) := by decide +kernel
theorem dX9_tableIs_151 : decode cX9_tableIs 151 = .ok (.istore 4, 2) := by decide +kernel
theorem dX9_tableIs_153 : decode cX9_tableIs 153 = .ok (.iconst 0, 1) := by decide +kernel
theorem dX9_tableIs_154 : decode cX9_tableIs 154 = .ok (.istore 9, 2) := by decide +kernel
theorem dX9_tableIs_156 : decode cX9_tableIs 156 = .ok (.iload 9, 2) := by decide +kernel
theorem dX9_tableIs_158 : decode cX9_tableIs 158 = .ok (.iconst 4, 1) := by decide +kernel
theorem dX9_tableIs_159 : decode cX9_tableIs 159 = .ok (.if_icmp .ge 41, 3) := by decide +kernel
theorem dX9_tableIs_162 : decode cX9_tableIs 162 = .ok (.aload_n 0, 1) := by decide +kernel
theorem dX9_tableIs_163 : decode cX9_tableIs 163 = .ok (.iload 4, 2) := by decide +kernel
theorem dX9_tableIs_165 : decode cX9_tableIs 165 = .ok (.aload_n 0, 1) := by decide +kernel
theorem dX9_tableIs_166 : decode cX9_tableIs 166 = .ok (.getfield 75, 3) := by decide +kernel
theorem dX9_tableIs_169 : decode cX9_tableIs 169 = .ok (.iload 6, 2) := by decide +kernel
theorem dX9_tableIs_171 : decode cX9_tableIs 171 = .ok (.iaload, 1) := by decide +kernel
theorem dX9_tableIs_172 : decode cX9_tableIs 172 = .ok (.bipush 8, 2) := by decide +kernel
theorem dX9_tableIs_174 : decode cX9_tableIs 174 = .ok (.iload_n 3, 1) := by decide +kernel
theorem dX9_tableIs_175 : decode cX9_tableIs 175 = .ok (.ifCond .ne 8, 3) := by decide +kernel
theorem dX9_tableIs_178 : decode cX9_tableIs 178 = .ok (.iload 9, 2) := by decide +kernel
theorem dX9_tableIs_180 : decode cX9_tableIs 180 = .ok (.goto 7, 3) := by decide +kernel
theorem dX9_tableIs_183 : decode cX9_tableIs 183 = .ok (.iconst 3, 1) := by decide +kernel
theorem dX9_tableIs_184 : decode cX9_tableIs 184 = .ok (.iload 9, 2) := by decide +kernel
theorem dX9_tableIs_186 : decode cX9_tableIs 186 = .ok (.isub, 1) := by decide +kernel
theorem dX9_tableIs_187 : decode cX9_tableIs 187 = .ok (.imul, 1) := by decide +kernel
theorem dX9_tableIs_188 : decode cX9_tableIs 188 = .ok (.ishr, 1) := by decide +kernel
theorem dX9_tableIs_189 : decode cX9_tableIs 189 = .ok (.invokevirtual 308, 3) := by decide +kernel
theorem dX9_tableIs_192 : decode cX9_tableIs 192 = .ok (.istore 4, 2) := by decide +kernel
theorem dX9_tableIs_194 : decode cX9_tableIs 194 = .ok (.iinc 9 1, 3) := by decide +kernel
theorem dX9_tableIs_197 : decode cX9_tableIs 197 = .ok (.goto (-41), 3) := by decide +kernel
theorem dX9_tableIs_200 : decode cX9_tableIs 200 = .ok (.iconst 0, 1) := by decide +kernel
theorem dX9_tableIs_201 : decode cX9_tableIs 201 = .ok (.istore 9, 2) := by decide +kernel
theorem dX9_tableIs_203 : decode cX9_tableIs 203 = .ok (.iload 9, 2) := by decide +kernel
theorem dX9_tableIs_205 : decode cX9_tableIs 205 = .ok (.iconst 2, 1) := by decide +kernel
theorem dX9_tableIs_206 : decode cX9_tableIs 206 = .ok (.if_icmp .ge 36, 3) := by decide +kernel
theorem dX9_tableIs_209 : decode cX9_tableIs 209 = .ok (.aload_n 0, 1) := by decide +kernel
theorem dX9_tableIs_210 : decode cX9_tableIs 210 = .ok (.iload 4, 2) := by decide +kernel
theorem dX9_tableIs_212 : decode cX9_tableIs 212 = .ok (.iload 8, 2) := by decide +kernel
theorem dX9_tableIs_214 : decode cX9_tableIs 214 = .ok (.bipush 8, 2) := by decide +kernel
theorem dX9_tableIs_216 : decode cX9_tableIs 216 = .ok (.iload_n 3, 1) := by decide +kernel
theorem dX9_tableIs_217 : decode cX9_tableIs 217 = .ok (.ifCond .ne 8, 3) := by decide +kernel
theorem dX9_tableIs_220 : decode cX9_tableIs 220 = .ok (.iload 9, 2) := by decide +kernel
theorem dX9_tableIs_222 : decode cX9_tableIs 222 = .ok (.goto 7, 3) := by decide +kernel
theorem dX9_tableIs_225 : decode cX9_tableIs 225 = .ok (.iconst 1, 1) := by decide +kernel
theorem dX9_tableIs_226 : decode cX9_tableIs 226 = .ok (.iload 9, 2) := by decide +kernel
theorem dX9_tableIs_228 : decode cX9_tableIs 228 = .ok (.isub, 1) := by decide +kernel
theorem dX9_tableIs_229 : decode cX9_tableIs 229 = .ok (.imul, 1) := by decide +kernel
theorem dX9_tableIs_230 : decode cX9_tableIs 230 = .ok (.ishr, 1) := by decide +kernel
theorem dX9_tableIs_231 : decode cX9_tableIs 231 = .ok (.invokevirtual 308, 3) := by decide +kernel
theorem dX9_tableIs_234 : decode cX9_tableIs 234 = .ok (.istore 4, 2) := by decide +kernel
theorem dX9_tableIs_236 : decode cX9_tableIs 236 = .ok (.iinc 9 1, 3) := by decide +kernel
theorem dX9_tableIs_239 : decode cX9_tableIs 239 = .ok (.goto (-36), 3) := by decide +kernel
theorem dX9_tableIs_242 : decode cX9_tableIs 242 = .ok (.iconst 0, 1) := by decide +kernel
theorem dX9_tableIs_243 : decode cX9_tableIs 243 = .ok (.istore 9, 2) := by decide +kernel
theorem dX9_tableIs_245 : decode cX9_tableIs 245 = .ok (.iload 9, 2) := by decide +kernel
theorem dX9_tableIs_247 : decode cX9_tableIs 247 = .ok (.iload 7, 2) := by decide +kernel
theorem dX9_tableIs_249 : decode cX9_tableIs 249 = .ok (.if_icmp .ge 38, 3) := by decide +kernel
theorem dX9_tableIs_252 : decode cX9_tableIs 252 = .ok (.aload_n 0, 1) := by decide +kernel
theorem dX9_tableIs_253 : decode cX9_tableIs 253 = .ok (.iload 4, 2) := by decide +kernel
theorem dX9_tableIs_255 : decode cX9_tableIs 255 = .ok (.iload 6, 2) := by decide +kernel
theorem dX9_tableIs_257 : decode cX9_tableIs 257 = .ok (.ifCond .ne 7, 3) := by decide +kernel
theorem dX9_tableIs_260 : decode cX9_tableIs 260 = .ok (.iconst 0, 1) := by decide +kernel
theorem dX9_tableIs_261 : decode cX9_tableIs 261 = .ok (.goto 15, 3) := by decide +kernel
theorem dX9_tableIs_264 : decode cX9_tableIs 264 = .ok (.aload_n 0, 1) := by decide +kernel
theorem dX9_tableIs_265 : decode cX9_tableIs 265 = .ok (.getfield 78, 3) := by decide +kernel
theorem dX9_tableIs_268 : decode cX9_tableIs 268 = .ok (.iload 6, 2) := by decide +kernel
theorem dX9_tableIs_270 : decode cX9_tableIs 270 = .ok (.laload, 1) := by decide +kernel
theorem dX9_tableIs_271 : decode cX9_tableIs 271 = .ok (.iload 9, 2) := by decide +kernel
theorem dX9_tableIs_273 : decode cX9_tableIs 273 = .ok (.invokestatic 169, 3) := by decide +kernel
theorem dX9_tableIs_276 : decode cX9_tableIs 276 = .ok (.invokevirtual 308, 3) := by decide +kernel
theorem dX9_tableIs_279 : decode cX9_tableIs 279 = .ok (.istore 4, 2) := by decide +kernel
theorem dX9_tableIs_281 : decode cX9_tableIs 281 = .ok (.iinc 9 1, 3) := by decide +kernel
theorem dX9_tableIs_284 : decode cX9_tableIs 284 = .ok (.goto (-39), 3) := by decide +kernel
theorem dX9_tableIs_287 : decode cX9_tableIs 287 = .ok (.iload 7, 2) := by decide +kernel
theorem dX9_tableIs_289 : decode cX9_tableIs 289 = .ok (.iconst 2, 1) := by decide +kernel
theorem dX9_tableIs_290 : decode cX9_tableIs 290 = .ok (.irem, 1) := by decide +kernel
theorem dX9_tableIs_291 : decode cX9_tableIs 291 = .ok (.iconst 1, 1) := by decide +kernel
theorem dX9_tableIs_292 : decode cX9_tableIs 292 = .ok (.if_icmp .ne 12, 3) := by decide +kernel
theorem dX9_tableIs_295 : decode cX9_tableIs 295 = .ok (.aload_n 0, 1) := by decide +kernel
theorem dX9_tableIs_296 : decode cX9_tableIs 296 = .ok (.iload 4, 2) := by decide +kernel
theorem dX9_tableIs_298 : decode cX9_tableIs 298 = .ok (.iconst 0, 1) := by decide +kernel
theorem dX9_tableIs_299 : decode cX9_tableIs 299 = .ok (.invokevirtual 308, 3) := by decide +kernel
theorem dX9_tableIs_302 : decode cX9_tableIs 302 = .ok (.istore 4, 2) := by decide +kernel
theorem dX9_tableIs_304 : decode cX9_tableIs 304 = .ok (.iinc 6 1, 3) := by decide +kernel
theorem dX9_tableIs_307 : decode cX9_tableIs 307 = .ok (.goto (-270), 3) := by decide +kernel
theorem dX9_tableIs_310 : decode cX9_tableIs 310 = .ok (.iload 4, 2) := by decide +kernel
theorem dX9_tableIs_312 : decode cX9_tableIs 312 = .ok (.iload 5, 2) := by decide +kernel
theorem dX9_tableIs_314 : decode cX9_tableIs 314 = .ok (.isub, 1) := by decide +kernel
theorem dX9_tableIs_315 : decode cX9_tableIs 315 = .ok (.istore_n 2, 1) := by decide +kernel
theorem dX9_tableIs_316 : decode cX9_tableIs 316 = .ok (.iinc 3 1, 3) := by decide +kernel
theorem dX9_tableIs_319 : decode cX9_tableIs 319 = .ok (.goto (-310), 3) := by decide +kernel
theorem dX9_tableIs_322 : decode cX9_tableIs 322 = .ok (.aload_n 0, 1) := by decide +kernel
theorem dX9_tableIs_323 : decode cX9_tableIs 323 = .ok (.getfield 257, 3) := by decide +kernel
theorem dX9_tableIs_326 : decode cX9_tableIs 326 = .ok (.ifCond .ge 7, 3) := by decide +kernel
theorem dX9_tableIs_329 : decode cX9_tableIs 329 = .ok (.iload_n 2, 1) := by decide +kernel
theorem dX9_tableIs_330 : decode cX9_tableIs 330 = .ok (.goto 4, 3) := by decide +kernel
theorem dX9_tableIs_333 : decode cX9_tableIs 333 = .ok (.iconst (-1), 1) := by decide +kernel
theorem dX9_tableIs_334 : decode cX9_tableIs 334 = .ok (.ireturn, 1) := by decide +kernel
/-- WriteOnceDiscModel.tableIs(I)I -/
def wX9_tableIs_L322 (post : Int32 → Hp → Prop) (x0 : Nat) (x2 : Int32) (σ : Hp) : Prop :=
(tg_ σ x0 = 9 ∧ ((0 ≤ (fI_ σ 8 28 x0) →
  post (-1 : Int32) σ) ∧
 (¬ 0 ≤ (fI_ σ 8 28 x0) →
  post x2 σ)))
def wX9_tableIs_L304 (post : Int32 → Hp → Prop) (rc9 : Int32 → Int32 → Hp → Prop) (rc37 : Int32 → Int32 → Hp → Prop) (x0 : Nat) (x1 : Int32) (x3 : Int32) (x4 : Int32) (x5 : Int32) (x6 : Int32) (σ : Hp) : Prop :=
(∀ y3 : Int32, y3 = x6 + 1 → rc37 x4 y3 σ)
def wX9_tableIs_L276 (post : Int32 → Hp → Prop) (rc9 : Int32 → Int32 → Hp → Prop) (rc37 : Int32 → Int32 → Hp → Prop) (rc245 : Int32 → Int32 → Hp → Prop) (x0 : Nat) (x1 : Int32) (x3 : Int32) (x5 : Int32) (x6 : Int32) (x7 : Int32) (x9 : Int32) (s0 : Int32) (s1 : Int32) (s2 : Nat) (σ : Hp) : Prop :=
(tg_ σ s2 = 9 ∧ (wX9_expect s2 s1 s0 σ (fun r5 σ6 => (∀ y7 : Int32, y7 = x9 + 1 → rc245 r5 y7 σ6))))
def wX9_tableIs_B245 (post : Int32 → Hp → Prop) (rc9 : Int32 → Int32 → Hp → Prop) (rc37 : Int32 → Int32 → Hp → Prop) (rc245 : Int32 → Int32 → Hp → Prop) (x0 : Nat) (x1 : Int32) (x3 : Int32) (x4 : Int32) (x5 : Int32) (x6 : Int32) (x7 : Int32) (x9 : Int32) (σ : Hp) : Prop :=
((x7 ≤ x9 →
  ((¬ (x7 - x7 / (2 : Int32) * (2 : Int32)) = (1 : Int32) →
   wX9_tableIs_L304 post rc9 rc37 x0 x1 x3 x4 x5 x6 σ) ∧
  ((x7 - x7 / (2 : Int32) * (2 : Int32)) = (1 : Int32) →
   (tg_ σ x0 = 9 ∧ (wX9_expect x0 x4 (0 : Int32) σ (fun r11 σ12 => wX9_tableIs_L304 post rc9 rc37 x0 x1 x3 r11 x5 x6 σ12)))))) ∧
 (¬ x7 ≤ x9 →
  ((¬ x6 = 0 →
   (tg_ σ x0 = 9 ∧ (tg_ σ (fR_ σ 8 33 x0) = 103 ∧ (vp_in x6 (ln_ σ (fR_ σ 8 33 x0)) ∧ (wX9_letter (aL_ σ (fR_ σ 8 33 x0) (x6).toNatClampNeg) x9 σ (fun r17 => wX9_tableIs_L276 post rc9 rc37 rc245 x0 x1 x3 x5 x6 x7 x9 r17 x4 x0 σ)))))) ∧
  (x6 = 0 →
   wX9_tableIs_L276 post rc9 rc37 rc245 x0 x1 x3 x5 x6 x7 x9 (0 : Int32) x4 x0 σ))))
def wX9_tableIs_L245 (post : Int32 → Hp → Prop) (rc9 : Int32 → Int32 → Hp → Prop) (rc37 : Int32 → Int32 → Hp → Prop) (x0 : Nat) (x1 : Int32) (x3 : Int32) (x4 : Int32) (x5 : Int32) (x6 : Int32) (x7 : Int32) (x9 : Int32) (σ : Hp) : Prop :=
 ∃ (I : Int32 → Int32 → Hp → Prop) (μ : Int32 → Int32 → Hp → Nat), I x4 x9 σ ∧ ∀ (x4 : Int32) (x9 : Int32) (σ : Hp), I x4 x9 σ → wX9_tableIs_B245 post rc9 rc37 (fun x4' x9' σ' => I x4' x9' σ' ∧ μ x4' x9' σ' < μ x4 x9 σ) x0 x1 x3 x4 x5 x6 x7 x9 σ
def wX9_tableIs_L229 (post : Int32 → Hp → Prop) (rc9 : Int32 → Int32 → Hp → Prop) (rc37 : Int32 → Int32 → Hp → Prop) (rc203 : Int32 → Int32 → Hp → Prop) (x0 : Nat) (x1 : Int32) (x3 : Int32) (x5 : Int32) (x6 : Int32) (x7 : Int32) (x8 : Int32) (x9 : Int32) (s0 : Int32) (s1 : Int32) (s2 : Int32) (s3 : Int32) (s4 : Nat) (σ : Hp) : Prop :=
(tg_ σ s4 = 9 ∧ (wX9_expect s4 s3 (s2 >>> ((s1 * s0) &&& 31)) σ (fun r19 σ20 => (∀ y21 : Int32, y21 = x9 + 1 → rc203 r19 y21 σ20))))
def wX9_tableIs_B203 (post : Int32 → Hp → Prop) (rc9 : Int32 → Int32 → Hp → Prop) (rc37 : Int32 → Int32 → Hp → Prop) (rc203 : Int32 → Int32 → Hp → Prop) (x0 : Nat) (x1 : Int32) (x3 : Int32) (x4 : Int32) (x5 : Int32) (x6 : Int32) (x7 : Int32) (x8 : Int32) (x9 : Int32) (σ : Hp) : Prop :=
(((2 : Int32) ≤ x9 →
  wX9_tableIs_L245 post rc9 rc37 x0 x1 x3 x4 x5 x6 x7 (0 : Int32) σ) ∧
 (¬ (2 : Int32) ≤ x9 →
  ((¬ x3 = 0 →
   wX9_tableIs_L229 post rc9 rc37 rc203 x0 x1 x3 x5 x6 x7 x8 x9 ((1 : Int32) - x9) (8 : Int32) x8 x4 x0 σ) ∧
  (x3 = 0 →
   wX9_tableIs_L229 post rc9 rc37 rc203 x0 x1 x3 x5 x6 x7 x8 x9 x9 (8 : Int32) x8 x4 x0 σ))))
def wX9_tableIs_L203 (post : Int32 → Hp → Prop) (rc9 : Int32 → Int32 → Hp → Prop) (rc37 : Int32 → Int32 → Hp → Prop) (x0 : Nat) (x1 : Int32) (x3 : Int32) (x4 : Int32) (x5 : Int32) (x6 : Int32) (x7 : Int32) (x8 : Int32) (x9 : Int32) (σ : Hp) : Prop :=
 ∃ (I : Int32 → Int32 → Hp → Prop) (μ : Int32 → Int32 → Hp → Nat), I x4 x9 σ ∧ ∀ (x4 : Int32) (x9 : Int32) (σ : Hp), I x4 x9 σ → wX9_tableIs_B203 post rc9 rc37 (fun x4' x9' σ' => I x4' x9' σ' ∧ μ x4' x9' σ' < μ x4 x9 σ) x0 x1 x3 x4 x5 x6 x7 x8 x9 σ
def wX9_tableIs_L187 (post : Int32 → Hp → Prop) (rc9 : Int32 → Int32 → Hp → Prop) (rc37 : Int32 → Int32 → Hp → Prop) (rc156 : Int32 → Int32 → Hp → Prop) (x0 : Nat) (x1 : Int32) (x3 : Int32) (x5 : Int32) (x6 : Int32) (x7 : Int32) (x8 : Int32) (x9 : Int32) (s0 : Int32) (s1 : Int32) (s2 : Int32) (s3 : Int32) (s4 : Nat) (σ : Hp) : Prop :=
(tg_ σ s4 = 9 ∧ (wX9_expect s4 s3 (s2 >>> ((s1 * s0) &&& 31)) σ (fun r25 σ26 => (∀ y27 : Int32, y27 = x9 + 1 → rc156 r25 y27 σ26))))
def wX9_tableIs_B156 (post : Int32 → Hp → Prop) (rc9 : Int32 → Int32 → Hp → Prop) (rc37 : Int32 → Int32 → Hp → Prop) (rc156 : Int32 → Int32 → Hp → Prop) (x0 : Nat) (x1 : Int32) (x3 : Int32) (x4 : Int32) (x5 : Int32) (x6 : Int32) (x7 : Int32) (x8 : Int32) (x9 : Int32) (σ : Hp) : Prop :=
(((4 : Int32) ≤ x9 →
  wX9_tableIs_L203 post rc9 rc37 x0 x1 x3 x4 x5 x6 x7 x8 (0 : Int32) σ) ∧
 (¬ (4 : Int32) ≤ x9 →
  (tg_ σ x0 = 9 ∧ (tg_ σ (fR_ σ 8 32 x0) = 102 ∧ (vp_in x6 (ln_ σ (fR_ σ 8 32 x0)) ∧ ((¬ x3 = 0 →
   wX9_tableIs_L187 post rc9 rc37 rc156 x0 x1 x3 x5 x6 x7 x8 x9 ((3 : Int32) - x9) (8 : Int32) (aI_ σ (fR_ σ 8 32 x0) (x6).toNatClampNeg) x4 x0 σ) ∧
  (x3 = 0 →
   wX9_tableIs_L187 post rc9 rc37 rc156 x0 x1 x3 x5 x6 x7 x8 x9 x9 (8 : Int32) (aI_ σ (fR_ σ 8 32 x0) (x6).toNatClampNeg) x4 x0 σ)))))))
def wX9_tableIs_L156 (post : Int32 → Hp → Prop) (rc9 : Int32 → Int32 → Hp → Prop) (rc37 : Int32 → Int32 → Hp → Prop) (x0 : Nat) (x1 : Int32) (x3 : Int32) (x4 : Int32) (x5 : Int32) (x6 : Int32) (x7 : Int32) (x8 : Int32) (x9 : Int32) (σ : Hp) : Prop :=
 ∃ (I : Int32 → Int32 → Hp → Prop) (μ : Int32 → Int32 → Hp → Nat), I x4 x9 σ ∧ ∀ (x4 : Int32) (x9 : Int32) (σ : Hp), I x4 x9 σ → wX9_tableIs_B156 post rc9 rc37 (fun x4' x9' σ' => I x4' x9' σ' ∧ μ x4' x9' σ' < μ x4 x9 σ) x0 x1 x3 x4 x5 x6 x7 x8 x9 σ
def wX9_tableIs_L134 (post : Int32 → Hp → Prop) (rc9 : Int32 → Int32 → Hp → Prop) (rc37 : Int32 → Int32 → Hp → Prop) (x0 : Nat) (x1 : Int32) (x3 : Int32) (x4 : Int32) (x5 : Int32) (x6 : Int32) (x7 : Int32) (x8 : Int32) (σ : Hp) : Prop :=
(tg_ σ x0 = 9 ∧ (wX9_expect x0 x4 x7 σ (fun r34 σ35 => (tg_ σ35 x0 = 9 ∧ (wX9_expect x0 r34 (0 : Int32) σ35 (fun r37 σ38 => wX9_tableIs_L156 post rc9 rc37 x0 x1 x3 r37 x5 x6 x7 x8 (0 : Int32) σ38))))))
def wX9_tableIs_L125 (post : Int32 → Hp → Prop) (rc9 : Int32 → Int32 → Hp → Prop) (rc37 : Int32 → Int32 → Hp → Prop) (rc86 : Int32 → Int32 → Prop) (x0 : Nat) (x1 : Int32) (x3 : Int32) (x4 : Int32) (x5 : Int32) (x6 : Int32) (x7 : Int32) (x9 : Int32) (s0 : Int32) (s1 : Int32) (σ : Hp) : Prop :=
(∀ y39 : Int32, y39 = (s1 + s0) → (∀ y40 : Int32, y40 = x9 + 1 → rc86 y39 y40))
def wX9_tableIs_L108 (post : Int32 → Hp → Prop) (rc9 : Int32 → Int32 → Hp → Prop) (rc37 : Int32 → Int32 → Hp → Prop) (rc86 : Int32 → Int32 → Prop) (x0 : Nat) (x1 : Int32) (x3 : Int32) (x4 : Int32) (x5 : Int32) (x6 : Int32) (x7 : Int32) (x8 : Int32) (x9 : Int32) (σ : Hp) : Prop :=
(tg_ σ x0 = 9 ∧ (tg_ σ (fR_ σ 8 30 x0) = 101 ∧ (vp_in x9 (ln_ σ (fR_ σ 8 30 x0)) ∧ (((aI_ σ (fR_ σ 8 30 x0) (x9).toNatClampNeg) = 0 →
  wX9_tableIs_L125 post rc9 rc37 rc86 x0 x1 x3 x4 x5 x6 x7 x9 (0 : Int32) x8 σ) ∧
 (¬ (aI_ σ (fR_ σ 8 30 x0) (x9).toNatClampNeg) = 0 →
  wX9_tableIs_L125 post rc9 rc37 rc86 x0 x1 x3 x4 x5 x6 x7 x9 (1 : Int32) x8 σ)))))
def wX9_tableIs_B86 (post : Int32 → Hp → Prop) (rc9 : Int32 → Int32 → Hp → Prop) (rc37 : Int32 → Int32 → Hp → Prop) (rc86 : Int32 → Int32 → Prop) (x0 : Nat) (x1 : Int32) (x3 : Int32) (x4 : Int32) (x5 : Int32) (x6 : Int32) (x7 : Int32) (x8 : Int32) (x9 : Int32) (σ : Hp) : Prop :=
(tg_ σ x0 = 9 ∧ (tg_ σ (fR_ σ 8 29 x0) = 102 ∧ (vp_in x6 (ln_ σ (fR_ σ 8 29 x0)) ∧ ((x9 ≤ (aI_ σ (fR_ σ 8 29 x0) (x6).toNatClampNeg) →
  wX9_tableIs_L108 post rc9 rc37 rc86 x0 x1 x3 x4 x5 x6 x7 x8 x9 σ) ∧
 (¬ x9 ≤ (aI_ σ (fR_ σ 8 29 x0) (x6).toNatClampNeg) →
  ((¬ x9 = 0 →
   wX9_tableIs_L134 post rc9 rc37 x0 x1 x3 x4 x5 x6 x7 x8 σ) ∧
  (x9 = 0 →
   ((¬ x6 = 0 →
    wX9_tableIs_L134 post rc9 rc37 x0 x1 x3 x4 x5 x6 x7 x8 σ) ∧
   (x6 = 0 →
    wX9_tableIs_L108 post rc9 rc37 rc86 x0 x1 x3 x4 x5 x6 x7 x8 x9 σ)))))))))
def wX9_tableIs_L86 (post : Int32 → Hp → Prop) (rc9 : Int32 → Int32 → Hp → Prop) (rc37 : Int32 → Int32 → Hp → Prop) (x0 : Nat) (x1 : Int32) (x3 : Int32) (x4 : Int32) (x5 : Int32) (x6 : Int32) (x7 : Int32) (x8 : Int32) (x9 : Int32) (σ : Hp) : Prop :=
 ∃ (I : Int32 → Int32 → Prop) (μ : Int32 → Int32 → Nat), I x8 x9 ∧ ∀ (x8 : Int32) (x9 : Int32), I x8 x9 → wX9_tableIs_B86 post rc9 rc37 (fun x8' x9' => I x8' x9' ∧ μ x8' x9' < μ x8 x9) x0 x1 x3 x4 x5 x6 x7 x8 x9 σ
def wX9_tableIs_L78 (post : Int32 → Hp → Prop) (rc9 : Int32 → Int32 → Hp → Prop) (rc37 : Int32 → Int32 → Hp → Prop) (x0 : Nat) (x1 : Int32) (x3 : Int32) (x4 : Int32) (x5 : Int32) (x6 : Int32) (s0 : Int32) (σ : Hp) : Prop :=
wX9_tableIs_L86 post rc9 rc37 x0 x1 x3 x4 x5 x6 s0 (0 : Int32) (0 : Int32) σ
def wX9_tableIs_B37 (post : Int32 → Hp → Prop) (rc9 : Int32 → Int32 → Hp → Prop) (rc37 : Int32 → Int32 → Hp → Prop) (x0 : Nat) (x1 : Int32) (x3 : Int32) (x4 : Int32) (x5 : Int32) (x6 : Int32) (σ : Hp) : Prop :=
(tg_ σ x0 = 9 ∧ (((fI_ σ 8 27 x0) ≤ x6 →
  (∀ y53 : Int32, y53 = (x4 - x5) → (∀ y54 : Int32, y54 = x3 + 1 → rc9 y53 y54 σ))) ∧
 (¬ (fI_ σ 8 27 x0) ≤ x6 →
  (tg_ σ (fR_ σ 8 30 x0) = 101 ∧ (vp_in x6 (ln_ σ (fR_ σ 8 30 x0)) ∧ ((¬ (aI_ σ (fR_ σ 8 30 x0) (x6).toNatClampNeg) = 0 →
   ((¬ x6 = 0 →
    (tg_ σ (fR_ σ 8 33 x0) = 103 ∧ (vp_in x6 (ln_ σ (fR_ σ 8 33 x0)) ∧ (wX9_lettersOf (aL_ σ (fR_ σ 8 33 x0) (x6).toNatClampNeg) σ (fun r61 => wX9_tableIs_L78 post rc9 rc37 x0 x1 x3 x4 x5 x6 r61 σ))))) ∧
   (x6 = 0 →
    wX9_tableIs_L78 post rc9 rc37 x0 x1 x3 x4 x5 x6 (1 : Int32) σ))) ∧
  ((aI_ σ (fR_ σ 8 30 x0) (x6).toNatClampNeg) = 0 →
   wX9_tableIs_L304 post rc9 rc37 x0 x1 x3 x4 x5 x6 σ)))))))
def wX9_tableIs_L37 (post : Int32 → Hp → Prop) (rc9 : Int32 → Int32 → Hp → Prop) (x0 : Nat) (x1 : Int32) (x3 : Int32) (x4 : Int32) (x5 : Int32) (x6 : Int32) (σ : Hp) : Prop :=
 ∃ (I : Int32 → Int32 → Hp → Prop) (μ : Int32 → Int32 → Hp → Nat), I x4 x6 σ ∧ ∀ (x4 : Int32) (x6 : Int32) (σ : Hp), I x4 x6 σ → wX9_tableIs_B37 post rc9 (fun x4' x6' σ' => I x4' x6' σ' ∧ μ x4' x6' σ' < μ x4 x6 σ) x0 x1 x3 x4 x5 x6 σ
def wX9_tableIs_B9 (post : Int32 → Hp → Prop) (rc9 : Int32 → Int32 → Hp → Prop) (x0 : Nat) (x1 : Int32) (x2 : Int32) (x3 : Int32) (σ : Hp) : Prop :=
(((2 : Int32) ≤ x3 →
  wX9_tableIs_L322 post x0 x2 σ) ∧
 (¬ (2 : Int32) ≤ x3 →
  (tg_ σ x0 = 9 ∧ ((0 ≤ (fI_ σ 8 28 x0) →
   wX9_tableIs_L322 post x0 x2 σ) ∧
  (¬ 0 ≤ (fI_ σ 8 28 x0) →
   (∀ y65 : Int32, y65 = ((2048 : Int32) * (x1 + x3)) → wX9_tableIs_L37 post rc9 x0 x1 x3 y65 y65 (0 : Int32) σ))))))
def wX9_tableIs_L9 (post : Int32 → Hp → Prop) (x0 : Nat) (x1 : Int32) (x2 : Int32) (x3 : Int32) (σ : Hp) : Prop :=
 ∃ (I : Int32 → Int32 → Hp → Prop) (μ : Int32 → Int32 → Hp → Nat), I x2 x3 σ ∧ ∀ (x2 : Int32) (x3 : Int32) (σ : Hp), I x2 x3 σ → wX9_tableIs_B9 post (fun x2' x3' σ' => I x2' x3' σ' ∧ μ x2' x3' σ' < μ x2 x3 σ) x0 x1 x2 x3 σ
def wX9_tableIs (x0 : Nat) (x1 : Int32) (σ : Hp) (post : Int32 → Hp → Prop) : Prop :=
(tg_ σ x0 = 9 ∧ (∀ σ67, σ67 = sI_ σ 8 28 x0 (-1 : Int32) → wX9_tableIs_L9 post x0 x1 (0 : Int32) (0 : Int32) σ67))
set_option maxHeartbeats 4000000 in
theorem sX9_tableIs_L322 {G : GG_} {p : Program} {l : Launch} {e : Env} {R : Room} {s : State} {m : MethodId} {args : Array Value} {below : List Frame} {meth : Method} {c : Code} (Y : MX_ G p R s m args meth c cX9_tableIs 10 RX9 (some Jvm.ClassFile.FieldType.int) 3 64 0 0 "tableIs") {post : Int32 → Hp → Prop} {x0 : Nat} {x2 : Int32} {σ : Hp} (hf : wX9_tableIs_L322 post x0 x2 σ) : WG_ G p l e R s m args below meth c (MQ below (QI_ G post) args s 0 0 (FR_ G)) BN_ 10 322 [(0, rv_ x0), (2, .int x2)] [] σ := by
  have ⟨X, hlk, hr, hRf, hRl, hRc, hnm⟩ := Y
  have ⟨⟨hx, hb, _, hown, hts⟩, _, _⟩ := X
  intro H locs cells slots ls hP hL hB hl
  obtain ⟨rfl, rfl⟩ := hB
  unfold wX9_tableIs_L322 at hf
  refine p_aload_n hx hb dX9_tableIs_322 rfl (lv_at hl 0 rfl) ?_
  obtain ⟨ht1, hf⟩ := hf
  refine p_gI X cf8_ (k := 28) (by decide) rfl hP ht1 q1322 (fun _ h => h) dX9_tableIs_323 ?_
  refine lv_if_ge (tgt := 333) hx hb dX9_tableIs_326 (by decide) (fun c2 => ?_) (fun c2 => ?_)
  · have hf := hf.1 c2
    refine lv_iconst (v := (-1)) hx hb dX9_tableIs_333 (by decide) ?_
    exact p_iret X hlk hP hL (Nat.le_refl _) (Nat.le_refl _) hr dX9_tableIs_334 hf
  · have hf := hf.2 c2
    refine lv_iload_n hx hb dX9_tableIs_329 rfl (lv_at hl 1 rfl) ?_
    refine lv_goto (tgt := 334) hx hb dX9_tableIs_330 (by decide) ?_
    exact p_iret X hlk hP hL (Nat.le_refl _) (Nat.le_refl _) hr dX9_tableIs_334 hf
set_option maxHeartbeats 4000000 in
theorem sX9_tableIs_L304 {G : GG_} {p : Program} {l : Launch} {e : Env} {R : Room} {s : State} {m : MethodId} {args : Array Value} {below : List Frame} {meth : Method} {c : Code} (Y : MX_ G p R s m args meth c cX9_tableIs 10 RX9 (some Jvm.ClassFile.FieldType.int) 3 64 0 0 "tableIs") {post : Int32 → Hp → Prop} {rc9 : Int32 → Int32 → Hp → Prop} {rc37 : Int32 → Int32 → Hp → Prop} {x0 : Nat} {x1 : Int32} {x3 : Int32} {x4 : Int32} {x5 : Int32} {x6 : Int32} {σ : Hp} (hrc9 : ∀ (x2 : Int32) (x3 : Int32) (σ : Hp), rc9 x2 x3 σ → WG_ G p l e R s m args below meth c (MQ below (QI_ G post) args s 0 0 (FR_ G)) BN_ 10 9 [(0, rv_ x0), (1, .int x1), (2, .int x2), (3, .int x3)] [] σ) (hrc37 : ∀ (x4 : Int32) (x6 : Int32) (σ : Hp), rc37 x4 x6 σ → WG_ G p l e R s m args below meth c (MQ below (QI_ G post) args s 0 0 (FR_ G)) BN_ 10 37 [(0, rv_ x0), (1, .int x1), (3, .int x3), (4, .int x4), (5, .int x5), (6, .int x6)] [] σ) (hf : wX9_tableIs_L304 post rc9 rc37 x0 x1 x3 x4 x5 x6 σ) : WG_ G p l e R s m args below meth c (MQ below (QI_ G post) args s 0 0 (FR_ G)) BN_ 10 304 [(0, rv_ x0), (1, .int x1), (3, .int x3), (4, .int x4), (5, .int x5), (6, .int x6)] [] σ := by
  have ⟨X, hlk, hr, hRf, hRl, hRc, hnm⟩ := Y
  have ⟨⟨hx, hb, _, hown, hts⟩, _, _⟩ := X
  intro H locs cells slots ls hP hL hB hl
  obtain ⟨rfl, rfl⟩ := hB
  unfold wX9_tableIs_L304 at hf
  have hl := lv_sub hl [5, 0, 1, 2, 3, 4] rfl
  refine p_iincc (i := 6) (k := 1) hx hb (by decide) dX9_tableIs_304 hl (by decide) ⟨⟨ne_ rfl, Or.inl (ne_ rfl)⟩, ⟨⟨ne_ rfl, Or.inl (ne_ rfl)⟩, ⟨⟨ne_ rfl, Or.inl (ne_ rfl)⟩, ⟨⟨ne_ rfl, Or.inl (ne_ rfl)⟩, ⟨⟨ne_ rfl, Or.inr rfl⟩, trivial⟩⟩⟩⟩⟩ (fun y3 hy3 ls hl => ?_)
  have hf := hf y3 hy3
  refine lv_goto (tgt := 37) hx hb dX9_tableIs_307 (by decide) ?_
  exact hrc37 _ _ _ hf _ _ _ _ _ hP hL ⟨rfl, rfl⟩ (lv_sub hl [1, 2, 3, 4, 5, 0] rfl)
set_option maxHeartbeats 4000000 in
theorem sX9_tableIs_L276 {G : GG_} {p : Program} {l : Launch} {e : Env} {R : Room} {s : State} {m : MethodId} {args : Array Value} {below : List Frame} {meth : Method} {c : Code} (Y : MX_ G p R s m args meth c cX9_tableIs 10 RX9 (some Jvm.ClassFile.FieldType.int) 3 64 0 0 "tableIs") {post : Int32 → Hp → Prop} {rc9 : Int32 → Int32 → Hp → Prop} {rc37 : Int32 → Int32 → Hp → Prop} {rc245 : Int32 → Int32 → Hp → Prop} {x0 : Nat} {x1 : Int32} {x3 : Int32} {x5 : Int32} {x6 : Int32} {x7 : Int32} {x9 : Int32} {s0 : Int32} {s1 : Int32} {s2 : Nat} {σ : Hp} (hrc9 : ∀ (x2 : Int32) (x3 : Int32) (σ : Hp), rc9 x2 x3 σ → WG_ G p l e R s m args below meth c (MQ below (QI_ G post) args s 0 0 (FR_ G)) BN_ 10 9 [(0, rv_ x0), (1, .int x1), (2, .int x2), (3, .int x3)] [] σ) (hrc37 : ∀ (x4 : Int32) (x6 : Int32) (σ : Hp), rc37 x4 x6 σ → WG_ G p l e R s m args below meth c (MQ below (QI_ G post) args s 0 0 (FR_ G)) BN_ 10 37 [(0, rv_ x0), (1, .int x1), (3, .int x3), (4, .int x4), (5, .int x5), (6, .int x6)] [] σ) (hrc245 : ∀ (x4 : Int32) (x9 : Int32) (σ : Hp), rc245 x4 x9 σ → WG_ G p l e R s m args below meth c (MQ below (QI_ G post) args s 0 0 (FR_ G)) BN_ 10 245 [(0, rv_ x0), (1, .int x1), (3, .int x3), (4, .int x4), (5, .int x5), (6, .int x6), (7, .int x7), (9, .int x9)] [] σ) (hf : wX9_tableIs_L276 post rc9 rc37 rc245 x0 x1 x3 x5 x6 x7 x9 s0 s1 s2 σ) : WG_ G p l e R s m args below meth c (MQ below (QI_ G post) args s 0 0 (FR_ G)) BN_ 10 276 [(0, rv_ x0), (1, .int x1), (3, .int x3), (5, .int x5), (6, .int x6), (7, .int x7), (9, .int x9)] [.int s0, .int s1, rv_ s2] σ := by
  have ⟨X, hlk, hr, hRf, hRl, hRc, hnm⟩ := Y
  have ⟨⟨hx, hb, _, hown, hts⟩, _, _⟩ := X
  intro H locs cells slots ls hP hL hB hl
  obtain ⟨rfl, rfl⟩ := hB
  unfold wX9_tableIs_L276 at hf
  obtain ⟨ht4, hf⟩ := hf
  refine p_calli hL (p_runV X cf8_ hP ht4 (metX9_expect l G _ _ _ _ _ X.2.2 hf) (cwV 2 hts (lw_V q1661 q1663 qs83 q106 q1664) rfl rfl rfl (by decide +kernel) ⟨Nat.le_trans (Nat.le_of_ble_eq_true rfl) hRf, Nat.le_trans (Nat.le_of_ble_eq_true rfl) hRl⟩) rfl hl.1 rfl (by decide) dX9_tableIs_276 ⟨Nat.zero_le _, Nat.zero_le _⟩) (fun r5 σ6 H locs hf hP hL => ?_)
  refine p_istore (i := 4) hx hb dX9_tableIs_279 hl (by decide) ⟨⟨ne_ rfl, Or.inl (ne_ rfl)⟩, ⟨⟨ne_ rfl, Or.inl (ne_ rfl)⟩, ⟨⟨ne_ rfl, Or.inr rfl⟩, ⟨⟨ne_ rfl, Or.inl (ne_ rfl)⟩, ⟨⟨ne_ rfl, Or.inl (ne_ rfl)⟩, ⟨⟨ne_ rfl, Or.inl (ne_ rfl)⟩, ⟨⟨ne_ rfl, Or.inl (ne_ rfl)⟩, trivial⟩⟩⟩⟩⟩⟩⟩ (fun ls hl => ?_)
  have hl := lv_sub hl [7, 0, 1, 2, 3, 4, 5, 6] rfl
  refine p_iincc (i := 9) (k := 1) hx hb (by decide) dX9_tableIs_281 hl (by decide) ⟨⟨ne_ rfl, Or.inl (ne_ rfl)⟩, ⟨⟨ne_ rfl, Or.inl (ne_ rfl)⟩, ⟨⟨ne_ rfl, Or.inl (ne_ rfl)⟩, ⟨⟨ne_ rfl, Or.inl (ne_ rfl)⟩, ⟨⟨ne_ rfl, Or.inl (ne_ rfl)⟩, ⟨⟨ne_ rfl, Or.inl (ne_ rfl)⟩, ⟨⟨ne_ rfl, Or.inl (ne_ rfl)⟩, trivial⟩⟩⟩⟩⟩⟩⟩ (fun y7 hy7 ls hl => ?_)
  have hf := hf y7 hy7
  refine lv_goto (tgt := 245) hx hb dX9_tableIs_284 (by decide) ?_
  exact hrc245 _ _ _ hf _ _ _ _ _ hP hL ⟨rfl, rfl⟩ (lv_sub hl [2, 3, 4, 1, 5, 6, 7, 0] rfl)
set_option maxHeartbeats 4000000 in
theorem sX9_tableIs_B245 {G : GG_} {p : Program} {l : Launch} {e : Env} {R : Room} {s : State} {m : MethodId} {args : Array Value} {below : List Frame} {meth : Method} {c : Code} (Y : MX_ G p R s m args meth c cX9_tableIs 10 RX9 (some Jvm.ClassFile.FieldType.int) 3 64 0 0 "tableIs") {post : Int32 → Hp → Prop} {rc9 : Int32 → Int32 → Hp → Prop} {rc37 : Int32 → Int32 → Hp → Prop} {rc245 : Int32 → Int32 → Hp → Prop} {x0 : Nat} {x1 : Int32} {x3 : Int32} {x4 : Int32} {x5 : Int32} {x6 : Int32} {x7 : Int32} {x9 : Int32} {σ : Hp} (hrc9 : ∀ (x2 : Int32) (x3 : Int32) (σ : Hp), rc9 x2 x3 σ → WG_ G p l e R s m args below meth c (MQ below (QI_ G post) args s 0 0 (FR_ G)) BN_ 10 9 [(0, rv_ x0), (1, .int x1), (2, .int x2), (3, .int x3)] [] σ) (hrc37 : ∀ (x4 : Int32) (x6 : Int32) (σ : Hp), rc37 x4 x6 σ → WG_ G p l e R s m args below meth c (MQ below (QI_ G post) args s 0 0 (FR_ G)) BN_ 10 37 [(0, rv_ x0), (1, .int x1), (3, .int x3), (4, .int x4), (5, .int x5), (6, .int x6)] [] σ) (hrc245 : ∀ (x4 : Int32) (x9 : Int32) (σ : Hp), rc245 x4 x9 σ → WG_ G p l e R s m args below meth c (MQ below (QI_ G post) args s 0 0 (FR_ G)) BN_ 10 245 [(0, rv_ x0), (1, .int x1), (3, .int x3), (4, .int x4), (5, .int x5), (6, .int x6), (7, .int x7), (9, .int x9)] [] σ) (hf : wX9_tableIs_B245 post rc9 rc37 rc245 x0 x1 x3 x4 x5 x6 x7 x9 σ) : WG_ G p l e R s m args below meth c (MQ below (QI_ G post) args s 0 0 (FR_ G)) BN_ 10 245 [(0, rv_ x0), (1, .int x1), (3, .int x3), (4, .int x4), (5, .int x5), (6, .int x6), (7, .int x7), (9, .int x9)] [] σ := by
  have ⟨X, hlk, hr, hRf, hRl, hRc, hnm⟩ := Y
  have ⟨⟨hx, hb, _, hown, hts⟩, _, _⟩ := X
  intro H locs cells slots ls hP hL hB hl
  obtain ⟨rfl, rfl⟩ := hB
  unfold wX9_tableIs_B245 at hf
  refine lv_iload hx hb dX9_tableIs_245 (lv_at hl 7 rfl) ?_
  refine lv_iload hx hb dX9_tableIs_247 (lv_at hl 6 rfl) ?_
  refine lv_icmp_ge (tgt := 287) hx hb dX9_tableIs_249 (by decide) (fun c8 => ?_) (fun c8 => ?_)
  · have hf := hf.1 c8
    refine lv_iload hx hb dX9_tableIs_287 (lv_at hl 6 rfl) ?_
    refine lv_iconst (v := 2) hx hb dX9_tableIs_289 (by decide) ?_
    refine lv_irem hx hb dX9_tableIs_290 (by decide) ?_
    refine lv_iconst (v := 1) hx hb dX9_tableIs_291 (by decide) ?_
    refine lv_icmp_ne (tgt := 304) hx hb dX9_tableIs_292 (by decide) (fun c9 => ?_) (fun c9 => ?_)
    · have hf := hf.1 c9
      exact sX9_tableIs_L304 Y hrc9 hrc37 hf _ _ _ _ _ hP hL ⟨rfl, rfl⟩ (lv_sub hl [0, 1, 2, 3, 4, 5] rfl)
    · have hf := hf.2 c9
      refine p_aload_n hx hb dX9_tableIs_295 rfl (lv_at hl 0 rfl) ?_
      refine lv_iload hx hb dX9_tableIs_296 (lv_at hl 3 rfl) ?_
      refine lv_iconst (v := 0) hx hb dX9_tableIs_298 (by decide) ?_
      obtain ⟨ht10, hf⟩ := hf
      refine p_calli hL (p_runV X cf8_ hP ht10 (metX9_expect l G _ _ _ _ _ X.2.2 hf) (cwV 2 hts (lw_V q1661 q1663 qs83 q106 q1664) rfl rfl rfl (by decide +kernel) ⟨Nat.le_trans (Nat.le_of_ble_eq_true rfl) hRf, Nat.le_trans (Nat.le_of_ble_eq_true rfl) hRl⟩) rfl hl.1 rfl (by decide) dX9_tableIs_299 ⟨Nat.zero_le _, Nat.zero_le _⟩) (fun r11 σ12 H locs hf hP hL => ?_)
      have hl := lv_sub hl [0, 1, 2, 4, 5] rfl
      refine p_istore (i := 4) hx hb dX9_tableIs_302 hl (by decide) ⟨⟨ne_ rfl, Or.inl (ne_ rfl)⟩, ⟨⟨ne_ rfl, Or.inl (ne_ rfl)⟩, ⟨⟨ne_ rfl, Or.inr rfl⟩, ⟨⟨ne_ rfl, Or.inl (ne_ rfl)⟩, ⟨⟨ne_ rfl, Or.inl (ne_ rfl)⟩, trivial⟩⟩⟩⟩⟩ (fun ls hl => ?_)
      exact sX9_tableIs_L304 Y hrc9 hrc37 hf _ _ _ _ _ hP hL ⟨rfl, rfl⟩ (lv_sub hl [1, 2, 3, 0, 4, 5] rfl)
  · have hf := hf.2 c8
    refine p_aload_n hx hb dX9_tableIs_252 rfl (lv_at hl 0 rfl) ?_
    refine lv_iload hx hb dX9_tableIs_253 (lv_at hl 3 rfl) ?_
    refine lv_iload hx hb dX9_tableIs_255 (lv_at hl 5 rfl) ?_
    refine lv_if_ne (tgt := 264) hx hb dX9_tableIs_257 (by decide) (fun c13 => ?_) (fun c13 => ?_)
    · have hf := hf.1 c13
      refine p_aload_n hx hb dX9_tableIs_264 rfl (lv_at hl 0 rfl) ?_
      obtain ⟨ht14, hf⟩ := hf
      refine p_gR X cf8_ (k := 33) (by decide) rfl hP ht14 q1327 (fun _ h => h) dX9_tableIs_265 ?_
      refine lv_iload hx hb dX9_tableIs_268 (lv_at hl 5 rfl) ?_
      obtain ⟨ht15, hf⟩ := hf
      obtain ⟨hi16, hf⟩ := hf
      refine p_lald X hP ht15 hi16 dX9_tableIs_270 ?_
      refine lv_iload hx hb dX9_tableIs_271 (lv_at hl 7 rfl) ?_
      refine p_calli hL (p_runS X hP (metX9_letter l G _ _ _ _ X.2.2 hf) (va_cwS 2 hts (lw_S q1541 q1542 q106 q1543) rfl rfl rfl (by decide +kernel) ⟨Nat.le_trans (Nat.le_of_ble_eq_true rfl) hRf, Nat.le_trans (Nat.le_of_ble_eq_true rfl) hRl⟩) rfl hl.1 rfl (by rw [(ca_i (ca_r ca_n))]; decide) dX9_tableIs_273 ⟨Nat.zero_le _, Nat.zero_le _⟩) (fun r17 σ₁ H locs hf hP hL => ?_)
      obtain ⟨e₁, hf⟩ := hf
      rw [e₁] at hP
      exact sX9_tableIs_L276 Y hrc9 hrc37 hrc245 hf _ _ _ _ _ hP hL ⟨rfl, rfl⟩ (lv_sub hl [0, 1, 2, 4, 5, 6, 7] rfl)
    · have hf := hf.2 c13
      refine lv_iconst (v := 0) hx hb dX9_tableIs_260 (by decide) ?_
      refine lv_goto (tgt := 276) hx hb dX9_tableIs_261 (by decide) ?_
      exact sX9_tableIs_L276 Y hrc9 hrc37 hrc245 hf _ _ _ _ _ hP hL ⟨rfl, rfl⟩ (lv_sub hl [0, 1, 2, 4, 5, 6, 7] rfl)
set_option maxHeartbeats 4000000 in
theorem sX9_tableIs_L245 {G : GG_} {p : Program} {l : Launch} {e : Env} {R : Room} {s : State} {m : MethodId} {args : Array Value} {below : List Frame} {meth : Method} {c : Code} (Y : MX_ G p R s m args meth c cX9_tableIs 10 RX9 (some Jvm.ClassFile.FieldType.int) 3 64 0 0 "tableIs") {post : Int32 → Hp → Prop} {rc9 : Int32 → Int32 → Hp → Prop} {rc37 : Int32 → Int32 → Hp → Prop} {x0 : Nat} {x1 : Int32} {x3 : Int32} {x4 : Int32} {x5 : Int32} {x6 : Int32} {x7 : Int32} {x9 : Int32} {σ : Hp} (hrc9 : ∀ (x2 : Int32) (x3 : Int32) (σ : Hp), rc9 x2 x3 σ → WG_ G p l e R s m args below meth c (MQ below (QI_ G post) args s 0 0 (FR_ G)) BN_ 10 9 [(0, rv_ x0), (1, .int x1), (2, .int x2), (3, .int x3)] [] σ) (hrc37 : ∀ (x4 : Int32) (x6 : Int32) (σ : Hp), rc37 x4 x6 σ → WG_ G p l e R s m args below meth c (MQ below (QI_ G post) args s 0 0 (FR_ G)) BN_ 10 37 [(0, rv_ x0), (1, .int x1), (3, .int x3), (4, .int x4), (5, .int x5), (6, .int x6)] [] σ) (hf : wX9_tableIs_L245 post rc9 rc37 x0 x1 x3 x4 x5 x6 x7 x9 σ) : WG_ G p l e R s m args below meth c (MQ below (QI_ G post) args s 0 0 (FR_ G)) BN_ 10 245 [(0, rv_ x0), (1, .int x1), (3, .int x3), (4, .int x4), (5, .int x5), (6, .int x6), (7, .int x7), (9, .int x9)] [] σ := by
  unfold wX9_tableIs_L245 at hf
  obtain ⟨I, μ, h0, hI⟩ := hf
  have key : ∀ (n : Nat) (x4 : Int32) (x9 : Int32) (σ : Hp), I x4 x9 σ → μ x4 x9 σ < n → WG_ G p l e R s m args below meth c (MQ below (QI_ G post) args s 0 0 (FR_ G)) BN_ 10 245 [(0, rv_ x0), (1, .int x1), (3, .int x3), (4, .int x4), (5, .int x5), (6, .int x6), (7, .int x7), (9, .int x9)] [] σ := by
    intro n
    induction n with
    | zero => intro x4 x9 σ _ h; exact absurd h (Nat.not_lt_zero _)
    | succ n ih => intro x4 x9 σ hi hn; exact sX9_tableIs_B245 Y hrc9 hrc37 (fun x4' x9' σ' h => ih x4' x9' σ' h.1 (Nat.lt_of_lt_of_le h.2 (Nat.le_of_lt_succ hn))) (hI x4 x9 σ hi)
  exact key _ _ _ _ h0 (Nat.lt_succ_self _)
set_option maxHeartbeats 4000000 in
theorem sX9_tableIs_L229 {G : GG_} {p : Program} {l : Launch} {e : Env} {R : Room} {s : State} {m : MethodId} {args : Array Value} {below : List Frame} {meth : Method} {c : Code} (Y : MX_ G p R s m args meth c cX9_tableIs 10 RX9 (some Jvm.ClassFile.FieldType.int) 3 64 0 0 "tableIs") {post : Int32 → Hp → Prop} {rc9 : Int32 → Int32 → Hp → Prop} {rc37 : Int32 → Int32 → Hp → Prop} {rc203 : Int32 → Int32 → Hp → Prop} {x0 : Nat} {x1 : Int32} {x3 : Int32} {x5 : Int32} {x6 : Int32} {x7 : Int32} {x8 : Int32} {x9 : Int32} {s0 : Int32} {s1 : Int32} {s2 : Int32} {s3 : Int32} {s4 : Nat} {σ : Hp} (hrc9 : ∀ (x2 : Int32) (x3 : Int32) (σ : Hp), rc9 x2 x3 σ → WG_ G p l e R s m args below meth c (MQ below (QI_ G post) args s 0 0 (FR_ G)) BN_ 10 9 [(0, rv_ x0), (1, .int x1), (2, .int x2), (3, .int x3)] [] σ) (hrc37 : ∀ (x4 : Int32) (x6 : Int32) (σ : Hp), rc37 x4 x6 σ → WG_ G p l e R s m args below meth c (MQ below (QI_ G post) args s 0 0 (FR_ G)) BN_ 10 37 [(0, rv_ x0), (1, .int x1), (3, .int x3), (4, .int x4), (5, .int x5), (6, .int x6)] [] σ) (hrc203 : ∀ (x4 : Int32) (x9 : Int32) (σ : Hp), rc203 x4 x9 σ → WG_ G p l e R s m args below meth c (MQ below (QI_ G post) args s 0 0 (FR_ G)) BN_ 10 203 [(0, rv_ x0), (1, .int x1), (3, .int x3), (4, .int x4), (5, .int x5), (6, .int x6), (7, .int x7), (8, .int x8), (9, .int x9)] [] σ) (hf : wX9_tableIs_L229 post rc9 rc37 rc203 x0 x1 x3 x5 x6 x7 x8 x9 s0 s1 s2 s3 s4 σ) : WG_ G p l e R s m args below meth c (MQ below (QI_ G post) args s 0 0 (FR_ G)) BN_ 10 229 [(0, rv_ x0), (1, .int x1), (3, .int x3), (5, .int x5), (6, .int x6), (7, .int x7), (8, .int x8), (9, .int x9)] [.int s0, .int s1, .int s2, .int s3, rv_ s4] σ := by
  have ⟨X, hlk, hr, hRf, hRl, hRc, hnm⟩ := Y
  have ⟨⟨hx, hb, _, hown, hts⟩, _, _⟩ := X
  intro H locs cells slots ls hP hL hB hl
  obtain ⟨rfl, rfl⟩ := hB
  unfold wX9_tableIs_L229 at hf
  refine lv_imul hx hb dX9_tableIs_229 ?_
  refine lv_ishr hx hb dX9_tableIs_230 ?_
  obtain ⟨ht18, hf⟩ := hf
  refine p_calli hL (p_runV X cf8_ hP ht18 (metX9_expect l G _ _ _ _ _ X.2.2 hf) (cwV 2 hts (lw_V q1661 q1663 qs83 q106 q1664) rfl rfl rfl (by decide +kernel) ⟨Nat.le_trans (Nat.le_of_ble_eq_true rfl) hRf, Nat.le_trans (Nat.le_of_ble_eq_true rfl) hRl⟩) rfl hl.1 rfl (by decide) dX9_tableIs_231 ⟨Nat.zero_le _, Nat.zero_le _⟩) (fun r19 σ20 H locs hf hP hL => ?_)
  refine p_istore (i := 4) hx hb dX9_tableIs_234 hl (by decide) ⟨⟨ne_ rfl, Or.inl (ne_ rfl)⟩, ⟨⟨ne_ rfl, Or.inl (ne_ rfl)⟩, ⟨⟨ne_ rfl, Or.inr rfl⟩, ⟨⟨ne_ rfl, Or.inl (ne_ rfl)⟩, ⟨⟨ne_ rfl, Or.inl (ne_ rfl)⟩, ⟨⟨ne_ rfl, Or.inl (ne_ rfl)⟩, ⟨⟨ne_ rfl, Or.inl (ne_ rfl)⟩, ⟨⟨ne_ rfl, Or.inl (ne_ rfl)⟩, trivial⟩⟩⟩⟩⟩⟩⟩⟩ (fun ls hl => ?_)
  have hl := lv_sub hl [8, 0, 1, 2, 3, 4, 5, 6, 7] rfl
  refine p_iincc (i := 9) (k := 1) hx hb (by decide) dX9_tableIs_236 hl (by decide) ⟨⟨ne_ rfl, Or.inl (ne_ rfl)⟩, ⟨⟨ne_ rfl, Or.inl (ne_ rfl)⟩, ⟨⟨ne_ rfl, Or.inl (ne_ rfl)⟩, ⟨⟨ne_ rfl, Or.inl (ne_ rfl)⟩, ⟨⟨ne_ rfl, Or.inl (ne_ rfl)⟩, ⟨⟨ne_ rfl, Or.inl (ne_ rfl)⟩, ⟨⟨ne_ rfl, Or.inl (ne_ rfl)⟩, ⟨⟨ne_ rfl, Or.inr rfl⟩, trivial⟩⟩⟩⟩⟩⟩⟩⟩ (fun y21 hy21 ls hl => ?_)
  have hf := hf y21 hy21
  refine lv_goto (tgt := 203) hx hb dX9_tableIs_239 (by decide) ?_
  exact hrc203 _ _ _ hf _ _ _ _ _ hP hL ⟨rfl, rfl⟩ (lv_sub hl [2, 3, 4, 1, 5, 6, 7, 8, 0] rfl)
set_option maxHeartbeats 4000000 in
theorem sX9_tableIs_B203 {G : GG_} {p : Program} {l : Launch} {e : Env} {R : Room} {s : State} {m : MethodId} {args : Array Value} {below : List Frame} {meth : Method} {c : Code} (Y : MX_ G p R s m args meth c cX9_tableIs 10 RX9 (some Jvm.ClassFile.FieldType.int) 3 64 0 0 "tableIs") {post : Int32 → Hp → Prop} {rc9 : Int32 → Int32 → Hp → Prop} {rc37 : Int32 → Int32 → Hp → Prop} {rc203 : Int32 → Int32 → Hp → Prop} {x0 : Nat} {x1 : Int32} {x3 : Int32} {x4 : Int32} {x5 : Int32} {x6 : Int32} {x7 : Int32} {x8 : Int32} {x9 : Int32} {σ : Hp} (hrc9 : ∀ (x2 : Int32) (x3 : Int32) (σ : Hp), rc9 x2 x3 σ → WG_ G p l e R s m args below meth c (MQ below (QI_ G post) args s 0 0 (FR_ G)) BN_ 10 9 [(0, rv_ x0), (1, .int x1), (2, .int x2), (3, .int x3)] [] σ) (hrc37 : ∀ (x4 : Int32) (x6 : Int32) (σ : Hp), rc37 x4 x6 σ → WG_ G p l e R s m args below meth c (MQ below (QI_ G post) args s 0 0 (FR_ G)) BN_ 10 37 [(0, rv_ x0), (1, .int x1), (3, .int x3), (4, .int x4), (5, .int x5), (6, .int x6)] [] σ) (hrc203 : ∀ (x4 : Int32) (x9 : Int32) (σ : Hp), rc203 x4 x9 σ → WG_ G p l e R s m args below meth c (MQ below (QI_ G post) args s 0 0 (FR_ G)) BN_ 10 203 [(0, rv_ x0), (1, .int x1), (3, .int x3), (4, .int x4), (5, .int x5), (6, .int x6), (7, .int x7), (8, .int x8), (9, .int x9)] [] σ) (hf : wX9_tableIs_B203 post rc9 rc37 rc203 x0 x1 x3 x4 x5 x6 x7 x8 x9 σ) : WG_ G p l e R s m args below meth c (MQ below (QI_ G post) args s 0 0 (FR_ G)) BN_ 10 203 [(0, rv_ x0), (1, .int x1), (3, .int x3), (4, .int x4), (5, .int x5), (6, .int x6), (7, .int x7), (8, .int x8), (9, .int x9)] [] σ := by
  have ⟨X, hlk, hr, hRf, hRl, hRc, hnm⟩ := Y
  have ⟨⟨hx, hb, _, hown, hts⟩, _, _⟩ := X
  intro H locs cells slots ls hP hL hB hl
  obtain ⟨rfl, rfl⟩ := hB
  unfold wX9_tableIs_B203 at hf
  refine lv_iload hx hb dX9_tableIs_203 (lv_at hl 8 rfl) ?_
  refine lv_iconst (v := 2) hx hb dX9_tableIs_205 (by decide) ?_
  refine lv_icmp_ge (tgt := 242) hx hb dX9_tableIs_206 (by decide) (fun c22 => ?_) (fun c22 => ?_)
  · have hf := hf.1 c22
    refine lv_iconst (v := 0) hx hb dX9_tableIs_242 (by decide) ?_
    have hl := lv_sub hl [0, 1, 2, 3, 4, 5, 6] rfl
    refine p_istore (i := 9) hx hb dX9_tableIs_243 hl (by decide) ⟨⟨ne_ rfl, Or.inl (ne_ rfl)⟩, ⟨⟨ne_ rfl, Or.inl (ne_ rfl)⟩, ⟨⟨ne_ rfl, Or.inl (ne_ rfl)⟩, ⟨⟨ne_ rfl, Or.inl (ne_ rfl)⟩, ⟨⟨ne_ rfl, Or.inl (ne_ rfl)⟩, ⟨⟨ne_ rfl, Or.inl (ne_ rfl)⟩, ⟨⟨ne_ rfl, Or.inl (ne_ rfl)⟩, trivial⟩⟩⟩⟩⟩⟩⟩ (fun ls hl => ?_)
    exact sX9_tableIs_L245 Y hrc9 hrc37 hf _ _ _ _ _ hP hL ⟨rfl, rfl⟩ (lv_sub hl [1, 2, 3, 4, 5, 6, 7, 0] rfl)
  · have hf := hf.2 c22
    refine p_aload_n hx hb dX9_tableIs_209 rfl (lv_at hl 0 rfl) ?_
    refine lv_iload hx hb dX9_tableIs_210 (lv_at hl 3 rfl) ?_
    refine lv_iload hx hb dX9_tableIs_212 (lv_at hl 7 rfl) ?_
    refine lv_bipush (v := 8) hx hb dX9_tableIs_214 (by decide) ?_
    refine lv_iload_n hx hb dX9_tableIs_216 rfl (lv_at hl 2 rfl) ?_
    refine lv_if_ne (tgt := 225) hx hb dX9_tableIs_217 (by decide) (fun c23 => ?_) (fun c23 => ?_)
    · have hf := hf.1 c23
      refine lv_iconst (v := 1) hx hb dX9_tableIs_225 (by decide) ?_
      refine lv_iload hx hb dX9_tableIs_226 (lv_at hl 8 rfl) ?_
      refine lv_isub hx hb dX9_tableIs_228 ?_
      exact sX9_tableIs_L229 Y hrc9 hrc37 hrc203 hf _ _ _ _ _ hP hL ⟨rfl, rfl⟩ (lv_sub hl [0, 1, 2, 4, 5, 6, 7, 8] rfl)
    · have hf := hf.2 c23
      refine lv_iload hx hb dX9_tableIs_220 (lv_at hl 8 rfl) ?_
      refine lv_goto (tgt := 229) hx hb dX9_tableIs_222 (by decide) ?_
      exact sX9_tableIs_L229 Y hrc9 hrc37 hrc203 hf _ _ _ _ _ hP hL ⟨rfl, rfl⟩ (lv_sub hl [0, 1, 2, 4, 5, 6, 7, 8] rfl)
set_option maxHeartbeats 4000000 in
theorem sX9_tableIs_L203 {G : GG_} {p : Program} {l : Launch} {e : Env} {R : Room} {s : State} {m : MethodId} {args : Array Value} {below : List Frame} {meth : Method} {c : Code} (Y : MX_ G p R s m args meth c cX9_tableIs 10 RX9 (some Jvm.ClassFile.FieldType.int) 3 64 0 0 "tableIs") {post : Int32 → Hp → Prop} {rc9 : Int32 → Int32 → Hp → Prop} {rc37 : Int32 → Int32 → Hp → Prop} {x0 : Nat} {x1 : Int32} {x3 : Int32} {x4 : Int32} {x5 : Int32} {x6 : Int32} {x7 : Int32} {x8 : Int32} {x9 : Int32} {σ : Hp} (hrc9 : ∀ (x2 : Int32) (x3 : Int32) (σ : Hp), rc9 x2 x3 σ → WG_ G p l e R s m args below meth c (MQ below (QI_ G post) args s 0 0 (FR_ G)) BN_ 10 9 [(0, rv_ x0), (1, .int x1), (2, .int x2), (3, .int x3)] [] σ) (hrc37 : ∀ (x4 : Int32) (x6 : Int32) (σ : Hp), rc37 x4 x6 σ → WG_ G p l e R s m args below meth c (MQ below (QI_ G post) args s 0 0 (FR_ G)) BN_ 10 37 [(0, rv_ x0), (1, .int x1), (3, .int x3), (4, .int x4), (5, .int x5), (6, .int x6)] [] σ) (hf : wX9_tableIs_L203 post rc9 rc37 x0 x1 x3 x4 x5 x6 x7 x8 x9 σ) : WG_ G p l e R s m args below meth c (MQ below (QI_ G post) args s 0 0 (FR_ G)) BN_ 10 203 [(0, rv_ x0), (1, .int x1), (3, .int x3), (4, .int x4), (5, .int x5), (6, .int x6), (7, .int x7), (8, .int x8), (9, .int x9)] [] σ := by
  unfold wX9_tableIs_L203 at hf
  obtain ⟨I, μ, h0, hI⟩ := hf
  have key : ∀ (n : Nat) (x4 : Int32) (x9 : Int32) (σ : Hp), I x4 x9 σ → μ x4 x9 σ < n → WG_ G p l e R s m args below meth c (MQ below (QI_ G post) args s 0 0 (FR_ G)) BN_ 10 203 [(0, rv_ x0), (1, .int x1), (3, .int x3), (4, .int x4), (5, .int x5), (6, .int x6), (7, .int x7), (8, .int x8), (9, .int x9)] [] σ := by
    intro n
    induction n with
    | zero => intro x4 x9 σ _ h; exact absurd h (Nat.not_lt_zero _)
    | succ n ih => intro x4 x9 σ hi hn; exact sX9_tableIs_B203 Y hrc9 hrc37 (fun x4' x9' σ' h => ih x4' x9' σ' h.1 (Nat.lt_of_lt_of_le h.2 (Nat.le_of_lt_succ hn))) (hI x4 x9 σ hi)
  exact key _ _ _ _ h0 (Nat.lt_succ_self _)
set_option maxHeartbeats 4000000 in
theorem sX9_tableIs_L187 {G : GG_} {p : Program} {l : Launch} {e : Env} {R : Room} {s : State} {m : MethodId} {args : Array Value} {below : List Frame} {meth : Method} {c : Code} (Y : MX_ G p R s m args meth c cX9_tableIs 10 RX9 (some Jvm.ClassFile.FieldType.int) 3 64 0 0 "tableIs") {post : Int32 → Hp → Prop} {rc9 : Int32 → Int32 → Hp → Prop} {rc37 : Int32 → Int32 → Hp → Prop} {rc156 : Int32 → Int32 → Hp → Prop} {x0 : Nat} {x1 : Int32} {x3 : Int32} {x5 : Int32} {x6 : Int32} {x7 : Int32} {x8 : Int32} {x9 : Int32} {s0 : Int32} {s1 : Int32} {s2 : Int32} {s3 : Int32} {s4 : Nat} {σ : Hp} (hrc9 : ∀ (x2 : Int32) (x3 : Int32) (σ : Hp), rc9 x2 x3 σ → WG_ G p l e R s m args below meth c (MQ below (QI_ G post) args s 0 0 (FR_ G)) BN_ 10 9 [(0, rv_ x0), (1, .int x1), (2, .int x2), (3, .int x3)] [] σ) (hrc37 : ∀ (x4 : Int32) (x6 : Int32) (σ : Hp), rc37 x4 x6 σ → WG_ G p l e R s m args below meth c (MQ below (QI_ G post) args s 0 0 (FR_ G)) BN_ 10 37 [(0, rv_ x0), (1, .int x1), (3, .int x3), (4, .int x4), (5, .int x5), (6, .int x6)] [] σ) (hrc156 : ∀ (x4 : Int32) (x9 : Int32) (σ : Hp), rc156 x4 x9 σ → WG_ G p l e R s m args below meth c (MQ below (QI_ G post) args s 0 0 (FR_ G)) BN_ 10 156 [(0, rv_ x0), (1, .int x1), (3, .int x3), (4, .int x4), (5, .int x5), (6, .int x6), (7, .int x7), (8, .int x8), (9, .int x9)] [] σ) (hf : wX9_tableIs_L187 post rc9 rc37 rc156 x0 x1 x3 x5 x6 x7 x8 x9 s0 s1 s2 s3 s4 σ) : WG_ G p l e R s m args below meth c (MQ below (QI_ G post) args s 0 0 (FR_ G)) BN_ 10 187 [(0, rv_ x0), (1, .int x1), (3, .int x3), (5, .int x5), (6, .int x6), (7, .int x7), (8, .int x8), (9, .int x9)] [.int s0, .int s1, .int s2, .int s3, rv_ s4] σ := by
  have ⟨X, hlk, hr, hRf, hRl, hRc, hnm⟩ := Y
  have ⟨⟨hx, hb, _, hown, hts⟩, _, _⟩ := X
  intro H locs cells slots ls hP hL hB hl
  obtain ⟨rfl, rfl⟩ := hB
  unfold wX9_tableIs_L187 at hf
  refine lv_imul hx hb dX9_tableIs_187 ?_
  refine lv_ishr hx hb dX9_tableIs_188 ?_
  obtain ⟨ht24, hf⟩ := hf
  refine p_calli hL (p_runV X cf8_ hP ht24 (metX9_expect l G _ _ _ _ _ X.2.2 hf) (cwV 2 hts (lw_V q1661 q1663 qs83 q106 q1664) rfl rfl rfl (by decide +kernel) ⟨Nat.le_trans (Nat.le_of_ble_eq_true rfl) hRf, Nat.le_trans (Nat.le_of_ble_eq_true rfl) hRl⟩) rfl hl.1 rfl (by decide) dX9_tableIs_189 ⟨Nat.zero_le _, Nat.zero_le _⟩) (fun r25 σ26 H locs hf hP hL => ?_)
  refine p_istore (i := 4) hx hb dX9_tableIs_192 hl (by decide) ⟨⟨ne_ rfl, Or.inl (ne_ rfl)⟩, ⟨⟨ne_ rfl, Or.inl (ne_ rfl)⟩, ⟨⟨ne_ rfl, Or.inr rfl⟩, ⟨⟨ne_ rfl, Or.inl (ne_ rfl)⟩, ⟨⟨ne_ rfl, Or.inl (ne_ rfl)⟩, ⟨⟨ne_ rfl, Or.inl (ne_ rfl)⟩, ⟨⟨ne_ rfl, Or.inl (ne_ rfl)⟩, ⟨⟨ne_ rfl, Or.inl (ne_ rfl)⟩, trivial⟩⟩⟩⟩⟩⟩⟩⟩ (fun ls hl => ?_)
  have hl := lv_sub hl [8, 0, 1, 2, 3, 4, 5, 6, 7] rfl
  refine p_iincc (i := 9) (k := 1) hx hb (by decide) dX9_tableIs_194 hl (by decide) ⟨⟨ne_ rfl, Or.inl (ne_ rfl)⟩, ⟨⟨ne_ rfl, Or.inl (ne_ rfl)⟩, ⟨⟨ne_ rfl, Or.inl (ne_ rfl)⟩, ⟨⟨ne_ rfl, Or.inl (ne_ rfl)⟩, ⟨⟨ne_ rfl, Or.inl (ne_ rfl)⟩, ⟨⟨ne_ rfl, Or.inl (ne_ rfl)⟩, ⟨⟨ne_ rfl, Or.inl (ne_ rfl)⟩, ⟨⟨ne_ rfl, Or.inr rfl⟩, trivial⟩⟩⟩⟩⟩⟩⟩⟩ (fun y27 hy27 ls hl => ?_)
  have hf := hf y27 hy27
  refine lv_goto (tgt := 156) hx hb dX9_tableIs_197 (by decide) ?_
  exact hrc156 _ _ _ hf _ _ _ _ _ hP hL ⟨rfl, rfl⟩ (lv_sub hl [2, 3, 4, 1, 5, 6, 7, 8, 0] rfl)
set_option maxHeartbeats 4000000 in
theorem sX9_tableIs_B156 {G : GG_} {p : Program} {l : Launch} {e : Env} {R : Room} {s : State} {m : MethodId} {args : Array Value} {below : List Frame} {meth : Method} {c : Code} (Y : MX_ G p R s m args meth c cX9_tableIs 10 RX9 (some Jvm.ClassFile.FieldType.int) 3 64 0 0 "tableIs") {post : Int32 → Hp → Prop} {rc9 : Int32 → Int32 → Hp → Prop} {rc37 : Int32 → Int32 → Hp → Prop} {rc156 : Int32 → Int32 → Hp → Prop} {x0 : Nat} {x1 : Int32} {x3 : Int32} {x4 : Int32} {x5 : Int32} {x6 : Int32} {x7 : Int32} {x8 : Int32} {x9 : Int32} {σ : Hp} (hrc9 : ∀ (x2 : Int32) (x3 : Int32) (σ : Hp), rc9 x2 x3 σ → WG_ G p l e R s m args below meth c (MQ below (QI_ G post) args s 0 0 (FR_ G)) BN_ 10 9 [(0, rv_ x0), (1, .int x1), (2, .int x2), (3, .int x3)] [] σ) (hrc37 : ∀ (x4 : Int32) (x6 : Int32) (σ : Hp), rc37 x4 x6 σ → WG_ G p l e R s m args below meth c (MQ below (QI_ G post) args s 0 0 (FR_ G)) BN_ 10 37 [(0, rv_ x0), (1, .int x1), (3, .int x3), (4, .int x4), (5, .int x5), (6, .int x6)] [] σ) (hrc156 : ∀ (x4 : Int32) (x9 : Int32) (σ : Hp), rc156 x4 x9 σ → WG_ G p l e R s m args below meth c (MQ below (QI_ G post) args s 0 0 (FR_ G)) BN_ 10 156 [(0, rv_ x0), (1, .int x1), (3, .int x3), (4, .int x4), (5, .int x5), (6, .int x6), (7, .int x7), (8, .int x8), (9, .int x9)] [] σ) (hf : wX9_tableIs_B156 post rc9 rc37 rc156 x0 x1 x3 x4 x5 x6 x7 x8 x9 σ) : WG_ G p l e R s m args below meth c (MQ below (QI_ G post) args s 0 0 (FR_ G)) BN_ 10 156 [(0, rv_ x0), (1, .int x1), (3, .int x3), (4, .int x4), (5, .int x5), (6, .int x6), (7, .int x7), (8, .int x8), (9, .int x9)] [] σ := by
  have ⟨X, hlk, hr, hRf, hRl, hRc, hnm⟩ := Y
  have ⟨⟨hx, hb, _, hown, hts⟩, _, _⟩ := X
  intro H locs cells slots ls hP hL hB hl
  obtain ⟨rfl, rfl⟩ := hB
  unfold wX9_tableIs_B156 at hf
  refine lv_iload hx hb dX9_tableIs_156 (lv_at hl 8 rfl) ?_
  refine lv_iconst (v := 4) hx hb dX9_tableIs_158 (by decide) ?_
  refine lv_icmp_ge (tgt := 200) hx hb dX9_tableIs_159 (by decide) (fun c28 => ?_) (fun c28 => ?_)
  · have hf := hf.1 c28
    refine lv_iconst (v := 0) hx hb dX9_tableIs_200 (by decide) ?_
    have hl := lv_sub hl [0, 1, 2, 3, 4, 5, 6, 7] rfl
    refine p_istore (i := 9) hx hb dX9_tableIs_201 hl (by decide) ⟨⟨ne_ rfl, Or.inl (ne_ rfl)⟩, ⟨⟨ne_ rfl, Or.inl (ne_ rfl)⟩, ⟨⟨ne_ rfl, Or.inl (ne_ rfl)⟩, ⟨⟨ne_ rfl, Or.inl (ne_ rfl)⟩, ⟨⟨ne_ rfl, Or.inl (ne_ rfl)⟩, ⟨⟨ne_ rfl, Or.inl (ne_ rfl)⟩, ⟨⟨ne_ rfl, Or.inl (ne_ rfl)⟩, ⟨⟨ne_ rfl, Or.inr rfl⟩, trivial⟩⟩⟩⟩⟩⟩⟩⟩ (fun ls hl => ?_)
    exact sX9_tableIs_L203 Y hrc9 hrc37 hf _ _ _ _ _ hP hL ⟨rfl, rfl⟩ (lv_sub hl [1, 2, 3, 4, 5, 6, 7, 8, 0] rfl)
  · have hf := hf.2 c28
    refine p_aload_n hx hb dX9_tableIs_162 rfl (lv_at hl 0 rfl) ?_
    refine lv_iload hx hb dX9_tableIs_163 (lv_at hl 3 rfl) ?_
    refine p_aload_n hx hb dX9_tableIs_165 rfl (lv_at hl 0 rfl) ?_
    obtain ⟨ht29, hf⟩ := hf
    refine p_gR X cf8_ (k := 32) (by decide) rfl hP ht29 q1326 (fun _ h => h) dX9_tableIs_166 ?_
    refine lv_iload hx hb dX9_tableIs_169 (lv_at hl 5 rfl) ?_
    obtain ⟨ht30, hf⟩ := hf
    obtain ⟨hi31, hf⟩ := hf
    refine p_iald X hP ht30 hi31 dX9_tableIs_171 ?_
    refine lv_bipush (v := 8) hx hb dX9_tableIs_172 (by decide) ?_
    refine lv_iload_n hx hb dX9_tableIs_174 rfl (lv_at hl 2 rfl) ?_
    refine lv_if_ne (tgt := 183) hx hb dX9_tableIs_175 (by decide) (fun c32 => ?_) (fun c32 => ?_)
    · have hf := hf.1 c32
      refine lv_iconst (v := 3) hx hb dX9_tableIs_183 (by decide) ?_
      refine lv_iload hx hb dX9_tableIs_184 (lv_at hl 8 rfl) ?_
      refine lv_isub hx hb dX9_tableIs_186 ?_
      exact sX9_tableIs_L187 Y hrc9 hrc37 hrc156 hf _ _ _ _ _ hP hL ⟨rfl, rfl⟩ (lv_sub hl [0, 1, 2, 4, 5, 6, 7, 8] rfl)
    · have hf := hf.2 c32
      refine lv_iload hx hb dX9_tableIs_178 (lv_at hl 8 rfl) ?_
      refine lv_goto (tgt := 187) hx hb dX9_tableIs_180 (by decide) ?_
      exact sX9_tableIs_L187 Y hrc9 hrc37 hrc156 hf _ _ _ _ _ hP hL ⟨rfl, rfl⟩ (lv_sub hl [0, 1, 2, 4, 5, 6, 7, 8] rfl)
set_option maxHeartbeats 4000000 in
theorem sX9_tableIs_L156 {G : GG_} {p : Program} {l : Launch} {e : Env} {R : Room} {s : State} {m : MethodId} {args : Array Value} {below : List Frame} {meth : Method} {c : Code} (Y : MX_ G p R s m args meth c cX9_tableIs 10 RX9 (some Jvm.ClassFile.FieldType.int) 3 64 0 0 "tableIs") {post : Int32 → Hp → Prop} {rc9 : Int32 → Int32 → Hp → Prop} {rc37 : Int32 → Int32 → Hp → Prop} {x0 : Nat} {x1 : Int32} {x3 : Int32} {x4 : Int32} {x5 : Int32} {x6 : Int32} {x7 : Int32} {x8 : Int32} {x9 : Int32} {σ : Hp} (hrc9 : ∀ (x2 : Int32) (x3 : Int32) (σ : Hp), rc9 x2 x3 σ → WG_ G p l e R s m args below meth c (MQ below (QI_ G post) args s 0 0 (FR_ G)) BN_ 10 9 [(0, rv_ x0), (1, .int x1), (2, .int x2), (3, .int x3)] [] σ) (hrc37 : ∀ (x4 : Int32) (x6 : Int32) (σ : Hp), rc37 x4 x6 σ → WG_ G p l e R s m args below meth c (MQ below (QI_ G post) args s 0 0 (FR_ G)) BN_ 10 37 [(0, rv_ x0), (1, .int x1), (3, .int x3), (4, .int x4), (5, .int x5), (6, .int x6)] [] σ) (hf : wX9_tableIs_L156 post rc9 rc37 x0 x1 x3 x4 x5 x6 x7 x8 x9 σ) : WG_ G p l e R s m args below meth c (MQ below (QI_ G post) args s 0 0 (FR_ G)) BN_ 10 156 [(0, rv_ x0), (1, .int x1), (3, .int x3), (4, .int x4), (5, .int x5), (6, .int x6), (7, .int x7), (8, .int x8), (9, .int x9)] [] σ := by
  unfold wX9_tableIs_L156 at hf
  obtain ⟨I, μ, h0, hI⟩ := hf
  have key : ∀ (n : Nat) (x4 : Int32) (x9 : Int32) (σ : Hp), I x4 x9 σ → μ x4 x9 σ < n → WG_ G p l e R s m args below meth c (MQ below (QI_ G post) args s 0 0 (FR_ G)) BN_ 10 156 [(0, rv_ x0), (1, .int x1), (3, .int x3), (4, .int x4), (5, .int x5), (6, .int x6), (7, .int x7), (8, .int x8), (9, .int x9)] [] σ := by
    intro n
    induction n with
    | zero => intro x4 x9 σ _ h; exact absurd h (Nat.not_lt_zero _)
    | succ n ih => intro x4 x9 σ hi hn; exact sX9_tableIs_B156 Y hrc9 hrc37 (fun x4' x9' σ' h => ih x4' x9' σ' h.1 (Nat.lt_of_lt_of_le h.2 (Nat.le_of_lt_succ hn))) (hI x4 x9 σ hi)
  exact key _ _ _ _ h0 (Nat.lt_succ_self _)
set_option maxHeartbeats 4000000 in
theorem sX9_tableIs_L134 {G : GG_} {p : Program} {l : Launch} {e : Env} {R : Room} {s : State} {m : MethodId} {args : Array Value} {below : List Frame} {meth : Method} {c : Code} (Y : MX_ G p R s m args meth c cX9_tableIs 10 RX9 (some Jvm.ClassFile.FieldType.int) 3 64 0 0 "tableIs") {post : Int32 → Hp → Prop} {rc9 : Int32 → Int32 → Hp → Prop} {rc37 : Int32 → Int32 → Hp → Prop} {x0 : Nat} {x1 : Int32} {x3 : Int32} {x4 : Int32} {x5 : Int32} {x6 : Int32} {x7 : Int32} {x8 : Int32} {σ : Hp} (hrc9 : ∀ (x2 : Int32) (x3 : Int32) (σ : Hp), rc9 x2 x3 σ → WG_ G p l e R s m args below meth c (MQ below (QI_ G post) args s 0 0 (FR_ G)) BN_ 10 9 [(0, rv_ x0), (1, .int x1), (2, .int x2), (3, .int x3)] [] σ) (hrc37 : ∀ (x4 : Int32) (x6 : Int32) (σ : Hp), rc37 x4 x6 σ → WG_ G p l e R s m args below meth c (MQ below (QI_ G post) args s 0 0 (FR_ G)) BN_ 10 37 [(0, rv_ x0), (1, .int x1), (3, .int x3), (4, .int x4), (5, .int x5), (6, .int x6)] [] σ) (hf : wX9_tableIs_L134 post rc9 rc37 x0 x1 x3 x4 x5 x6 x7 x8 σ) : WG_ G p l e R s m args below meth c (MQ below (QI_ G post) args s 0 0 (FR_ G)) BN_ 10 134 [(0, rv_ x0), (1, .int x1), (3, .int x3), (4, .int x4), (5, .int x5), (6, .int x6), (7, .int x7), (8, .int x8)] [] σ := by
  have ⟨X, hlk, hr, hRf, hRl, hRc, hnm⟩ := Y
  have ⟨⟨hx, hb, _, hown, hts⟩, _, _⟩ := X
  intro H locs cells slots ls hP hL hB hl
  obtain ⟨rfl, rfl⟩ := hB
  unfold wX9_tableIs_L134 at hf
  refine p_aload_n hx hb dX9_tableIs_134 rfl (lv_at hl 0 rfl) ?_
  refine lv_iload hx hb dX9_tableIs_135 (lv_at hl 3 rfl) ?_
  refine lv_iload hx hb dX9_tableIs_137 (lv_at hl 6 rfl) ?_
  obtain ⟨ht33, hf⟩ := hf
  refine p_calli hL (p_runV X cf8_ hP ht33 (metX9_expect l G _ _ _ _ _ X.2.2 hf) (cwV 2 hts (lw_V q1661 q1663 qs83 q106 q1664) rfl rfl rfl (by decide +kernel) ⟨Nat.le_trans (Nat.le_of_ble_eq_true rfl) hRf, Nat.le_trans (Nat.le_of_ble_eq_true rfl) hRl⟩) rfl hl.1 rfl (by decide) dX9_tableIs_139 ⟨Nat.zero_le _, Nat.zero_le _⟩) (fun r34 σ35 H locs hf hP hL => ?_)
  have hl := lv_sub hl [0, 1, 2, 4, 5, 6, 7] rfl
  refine p_istore (i := 4) hx hb dX9_tableIs_142 hl (by decide) ⟨⟨ne_ rfl, Or.inl (ne_ rfl)⟩, ⟨⟨ne_ rfl, Or.inl (ne_ rfl)⟩, ⟨⟨ne_ rfl, Or.inr rfl⟩, ⟨⟨ne_ rfl, Or.inl (ne_ rfl)⟩, ⟨⟨ne_ rfl, Or.inl (ne_ rfl)⟩, ⟨⟨ne_ rfl, Or.inl (ne_ rfl)⟩, ⟨⟨ne_ rfl, Or.inl (ne_ rfl)⟩, trivial⟩⟩⟩⟩⟩⟩⟩ (fun ls hl => ?_)
  refine p_aload_n hx hb dX9_tableIs_144 rfl (lv_at hl 1 rfl) ?_
  refine lv_iload hx hb dX9_tableIs_145 (lv_at hl 0 rfl) ?_
  refine lv_iconst (v := 0) hx hb dX9_tableIs_147 (by decide) ?_
  obtain ⟨ht36, hf⟩ := hf
  refine p_calli hL (p_runV X cf8_ hP ht36 (metX9_expect l G _ _ _ _ _ X.2.2 hf) (cwV 2 hts (lw_V q1661 q1663 qs83 q106 q1664) rfl rfl rfl (by decide +kernel) ⟨Nat.le_trans (Nat.le_of_ble_eq_true rfl) hRf, Nat.le_trans (Nat.le_of_ble_eq_true rfl) hRl⟩) rfl hl.1 rfl (by decide) dX9_tableIs_148 ⟨Nat.zero_le _, Nat.zero_le _⟩) (fun r37 σ38 H locs hf hP hL => ?_)
  have hl := lv_sub hl [1, 2, 3, 4, 5, 6, 7] rfl
  refine p_istore (i := 4) hx hb dX9_tableIs_151 hl (by decide) ⟨⟨ne_ rfl, Or.inl (ne_ rfl)⟩, ⟨⟨ne_ rfl, Or.inl (ne_ rfl)⟩, ⟨⟨ne_ rfl, Or.inr rfl⟩, ⟨⟨ne_ rfl, Or.inl (ne_ rfl)⟩, ⟨⟨ne_ rfl, Or.inl (ne_ rfl)⟩, ⟨⟨ne_ rfl, Or.inl (ne_ rfl)⟩, ⟨⟨ne_ rfl, Or.inl (ne_ rfl)⟩, trivial⟩⟩⟩⟩⟩⟩⟩ (fun ls hl => ?_)
  refine lv_iconst (v := 0) hx hb dX9_tableIs_153 (by decide) ?_
  refine p_istore (i := 9) hx hb dX9_tableIs_154 hl (by decide) ⟨⟨ne_ rfl, Or.inl (ne_ rfl)⟩, ⟨⟨ne_ rfl, Or.inl (ne_ rfl)⟩, ⟨⟨ne_ rfl, Or.inl (ne_ rfl)⟩, ⟨⟨ne_ rfl, Or.inl (ne_ rfl)⟩, ⟨⟨ne_ rfl, Or.inl (ne_ rfl)⟩, ⟨⟨ne_ rfl, Or.inl (ne_ rfl)⟩, ⟨⟨ne_ rfl, Or.inl (ne_ rfl)⟩, ⟨⟨ne_ rfl, Or.inr rfl⟩, trivial⟩⟩⟩⟩⟩⟩⟩⟩ (fun ls hl => ?_)
  exact sX9_tableIs_L156 Y hrc9 hrc37 hf _ _ _ _ _ hP hL ⟨rfl, rfl⟩ (lv_sub hl [2, 3, 4, 1, 5, 6, 7, 8, 0] rfl)
set_option maxHeartbeats 4000000 in
theorem sX9_tableIs_L125 {G : GG_} {p : Program} {l : Launch} {e : Env} {R : Room} {s : State} {m : MethodId} {args : Array Value} {below : List Frame} {meth : Method} {c : Code} (Y : MX_ G p R s m args meth c cX9_tableIs 10 RX9 (some Jvm.ClassFile.FieldType.int) 3 64 0 0 "tableIs") {post : Int32 → Hp → Prop} {rc9 : Int32 → Int32 → Hp → Prop} {rc37 : Int32 → Int32 → Hp → Prop} {rc86 : Int32 → Int32 → Prop} {x0 : Nat} {x1 : Int32} {x3 : Int32} {x4 : Int32} {x5 : Int32} {x6 : Int32} {x7 : Int32} {x9 : Int32} {s0 : Int32} {s1 : Int32} {σ : Hp} (hrc9 : ∀ (x2 : Int32) (x3 : Int32) (σ : Hp), rc9 x2 x3 σ → WG_ G p l e R s m args below meth c (MQ below (QI_ G post) args s 0 0 (FR_ G)) BN_ 10 9 [(0, rv_ x0), (1, .int x1), (2, .int x2), (3, .int x3)] [] σ) (hrc37 : ∀ (x4 : Int32) (x6 : Int32) (σ : Hp), rc37 x4 x6 σ → WG_ G p l e R s m args below meth c (MQ below (QI_ G post) args s 0 0 (FR_ G)) BN_ 10 37 [(0, rv_ x0), (1, .int x1), (3, .int x3), (4, .int x4), (5, .int x5), (6, .int x6)] [] σ) (hrc86 : ∀ (x8 : Int32) (x9 : Int32), rc86 x8 x9 → WG_ G p l e R s m args below meth c (MQ below (QI_ G post) args s 0 0 (FR_ G)) BN_ 10 86 [(0, rv_ x0), (1, .int x1), (3, .int x3), (4, .int x4), (5, .int x5), (6, .int x6), (7, .int x7), (8, .int x8), (9, .int x9)] [] σ) (hf : wX9_tableIs_L125 post rc9 rc37 rc86 x0 x1 x3 x4 x5 x6 x7 x9 s0 s1 σ) : WG_ G p l e R s m args below meth c (MQ below (QI_ G post) args s 0 0 (FR_ G)) BN_ 10 125 [(0, rv_ x0), (1, .int x1), (3, .int x3), (4, .int x4), (5, .int x5), (6, .int x6), (7, .int x7), (9, .int x9)] [.int s0, .int s1] σ := by
  have ⟨X, hlk, hr, hRf, hRl, hRc, hnm⟩ := Y
  have ⟨⟨hx, hb, _, hown, hts⟩, _, _⟩ := X
  intro H locs cells slots ls hP hL hB hl
  obtain ⟨rfl, rfl⟩ := hB
  unfold wX9_tableIs_L125 at hf
  refine lv_iadd hx hb dX9_tableIs_125 ?_
  refine lv_topi (fun y39 hy39 => ?_)
  have hf := hf y39 hy39
  refine p_istore (i := 8) hx hb dX9_tableIs_126 hl (by decide) ⟨⟨ne_ rfl, Or.inl (ne_ rfl)⟩, ⟨⟨ne_ rfl, Or.inl (ne_ rfl)⟩, ⟨⟨ne_ rfl, Or.inl (ne_ rfl)⟩, ⟨⟨ne_ rfl, Or.inl (ne_ rfl)⟩, ⟨⟨ne_ rfl, Or.inl (ne_ rfl)⟩, ⟨⟨ne_ rfl, Or.inl (ne_ rfl)⟩, ⟨⟨ne_ rfl, Or.inr rfl⟩, ⟨⟨ne_ rfl, Or.inl (ne_ rfl)⟩, trivial⟩⟩⟩⟩⟩⟩⟩⟩ (fun ls hl => ?_)
  have hl := lv_sub hl [8, 0, 1, 2, 3, 4, 5, 6, 7] rfl
  refine p_iincc (i := 9) (k := 1) hx hb (by decide) dX9_tableIs_128 hl (by decide) ⟨⟨ne_ rfl, Or.inr rfl⟩, ⟨⟨ne_ rfl, Or.inl (ne_ rfl)⟩, ⟨⟨ne_ rfl, Or.inl (ne_ rfl)⟩, ⟨⟨ne_ rfl, Or.inl (ne_ rfl)⟩, ⟨⟨ne_ rfl, Or.inl (ne_ rfl)⟩, ⟨⟨ne_ rfl, Or.inl (ne_ rfl)⟩, ⟨⟨ne_ rfl, Or.inl (ne_ rfl)⟩, ⟨⟨ne_ rfl, Or.inl (ne_ rfl)⟩, trivial⟩⟩⟩⟩⟩⟩⟩⟩ (fun y40 hy40 ls hl => ?_)
  have hf := hf y40 hy40
  refine lv_goto (tgt := 86) hx hb dX9_tableIs_131 (by decide) ?_
  exact hrc86 _ _ hf _ _ _ _ _ hP hL ⟨rfl, rfl⟩ (lv_sub hl [2, 3, 4, 5, 6, 7, 8, 1, 0] rfl)
set_option maxHeartbeats 4000000 in
theorem sX9_tableIs_L108 {G : GG_} {p : Program} {l : Launch} {e : Env} {R : Room} {s : State} {m : MethodId} {args : Array Value} {below : List Frame} {meth : Method} {c : Code} (Y : MX_ G p R s m args meth c cX9_tableIs 10 RX9 (some Jvm.ClassFile.FieldType.int) 3 64 0 0 "tableIs") {post : Int32 → Hp → Prop} {rc9 : Int32 → Int32 → Hp → Prop} {rc37 : Int32 → Int32 → Hp → Prop} {rc86 : Int32 → Int32 → Prop} {x0 : Nat} {x1 : Int32} {x3 : Int32} {x4 : Int32} {x5 : Int32} {x6 : Int32} {x7 : Int32} {x8 : Int32} {x9 : Int32} {σ : Hp} (hrc9 : ∀ (x2 : Int32) (x3 : Int32) (σ : Hp), rc9 x2 x3 σ → WG_ G p l e R s m args below meth c (MQ below (QI_ G post) args s 0 0 (FR_ G)) BN_ 10 9 [(0, rv_ x0), (1, .int x1), (2, .int x2), (3, .int x3)] [] σ) (hrc37 : ∀ (x4 : Int32) (x6 : Int32) (σ : Hp), rc37 x4 x6 σ → WG_ G p l e R s m args below meth c (MQ below (QI_ G post) args s 0 0 (FR_ G)) BN_ 10 37 [(0, rv_ x0), (1, .int x1), (3, .int x3), (4, .int x4), (5, .int x5), (6, .int x6)] [] σ) (hrc86 : ∀ (x8 : Int32) (x9 : Int32), rc86 x8 x9 → WG_ G p l e R s m args below meth c (MQ below (QI_ G post) args s 0 0 (FR_ G)) BN_ 10 86 [(0, rv_ x0), (1, .int x1), (3, .int x3), (4, .int x4), (5, .int x5), (6, .int x6), (7, .int x7), (8, .int x8), (9, .int x9)] [] σ) (hf : wX9_tableIs_L108 post rc9 rc37 rc86 x0 x1 x3 x4 x5 x6 x7 x8 x9 σ) : WG_ G p l e R s m args below meth c (MQ below (QI_ G post) args s 0 0 (FR_ G)) BN_ 10 108 [(0, rv_ x0), (1, .int x1), (3, .int x3), (4, .int x4), (5, .int x5), (6, .int x6), (7, .int x7), (8, .int x8), (9, .int x9)] [] σ := by
  have ⟨X, hlk, hr, hRf, hRl, hRc, hnm⟩ := Y
  have ⟨⟨hx, hb, _, hown, hts⟩, _, _⟩ := X
  intro H locs cells slots ls hP hL hB hl
  obtain ⟨rfl, rfl⟩ := hB
  unfold wX9_tableIs_L108 at hf
  refine lv_iload hx hb dX9_tableIs_108 (lv_at hl 7 rfl) ?_
  refine p_aload_n hx hb dX9_tableIs_110 rfl (lv_at hl 0 rfl) ?_
  obtain ⟨ht41, hf⟩ := hf
  refine p_gR X cf8_ (k := 30) (by decide) rfl hP ht41 q1324 (fun _ h => h) dX9_tableIs_111 ?_
  refine lv_iload hx hb dX9_tableIs_114 (lv_at hl 8 rfl) ?_
  obtain ⟨ht42, hf⟩ := hf
  obtain ⟨hi43, hf⟩ := hf
  refine p_zald X hP ht42 hi43 dX9_tableIs_116 ?_
  refine lv_if_eq (tgt := 124) hx hb dX9_tableIs_117 (by decide) (fun c44 => ?_) (fun c44 => ?_)
  · have hf := hf.1 c44
    refine lv_iconst (v := 0) hx hb dX9_tableIs_124 (by decide) ?_
    exact sX9_tableIs_L125 Y hrc9 hrc37 hrc86 hf _ _ _ _ _ hP hL ⟨rfl, rfl⟩ (lv_sub hl [0, 1, 2, 3, 4, 5, 6, 8] rfl)
  · have hf := hf.2 c44
    refine lv_iconst (v := 1) hx hb dX9_tableIs_120 (by decide) ?_
    refine lv_goto (tgt := 125) hx hb dX9_tableIs_121 (by decide) ?_
    exact sX9_tableIs_L125 Y hrc9 hrc37 hrc86 hf _ _ _ _ _ hP hL ⟨rfl, rfl⟩ (lv_sub hl [0, 1, 2, 3, 4, 5, 6, 8] rfl)
set_option maxHeartbeats 4000000 in
theorem sX9_tableIs_B86 {G : GG_} {p : Program} {l : Launch} {e : Env} {R : Room} {s : State} {m : MethodId} {args : Array Value} {below : List Frame} {meth : Method} {c : Code} (Y : MX_ G p R s m args meth c cX9_tableIs 10 RX9 (some Jvm.ClassFile.FieldType.int) 3 64 0 0 "tableIs") {post : Int32 → Hp → Prop} {rc9 : Int32 → Int32 → Hp → Prop} {rc37 : Int32 → Int32 → Hp → Prop} {rc86 : Int32 → Int32 → Prop} {x0 : Nat} {x1 : Int32} {x3 : Int32} {x4 : Int32} {x5 : Int32} {x6 : Int32} {x7 : Int32} {x8 : Int32} {x9 : Int32} {σ : Hp} (hrc9 : ∀ (x2 : Int32) (x3 : Int32) (σ : Hp), rc9 x2 x3 σ → WG_ G p l e R s m args below meth c (MQ below (QI_ G post) args s 0 0 (FR_ G)) BN_ 10 9 [(0, rv_ x0), (1, .int x1), (2, .int x2), (3, .int x3)] [] σ) (hrc37 : ∀ (x4 : Int32) (x6 : Int32) (σ : Hp), rc37 x4 x6 σ → WG_ G p l e R s m args below meth c (MQ below (QI_ G post) args s 0 0 (FR_ G)) BN_ 10 37 [(0, rv_ x0), (1, .int x1), (3, .int x3), (4, .int x4), (5, .int x5), (6, .int x6)] [] σ) (hrc86 : ∀ (x8 : Int32) (x9 : Int32), rc86 x8 x9 → WG_ G p l e R s m args below meth c (MQ below (QI_ G post) args s 0 0 (FR_ G)) BN_ 10 86 [(0, rv_ x0), (1, .int x1), (3, .int x3), (4, .int x4), (5, .int x5), (6, .int x6), (7, .int x7), (8, .int x8), (9, .int x9)] [] σ) (hf : wX9_tableIs_B86 post rc9 rc37 rc86 x0 x1 x3 x4 x5 x6 x7 x8 x9 σ) : WG_ G p l e R s m args below meth c (MQ below (QI_ G post) args s 0 0 (FR_ G)) BN_ 10 86 [(0, rv_ x0), (1, .int x1), (3, .int x3), (4, .int x4), (5, .int x5), (6, .int x6), (7, .int x7), (8, .int x8), (9, .int x9)] [] σ := by
  have ⟨X, hlk, hr, hRf, hRl, hRc, hnm⟩ := Y
  have ⟨⟨hx, hb, _, hown, hts⟩, _, _⟩ := X
  intro H locs cells slots ls hP hL hB hl
  obtain ⟨rfl, rfl⟩ := hB
  unfold wX9_tableIs_B86 at hf
  refine lv_iload hx hb dX9_tableIs_86 (lv_at hl 8 rfl) ?_
  refine p_aload_n hx hb dX9_tableIs_88 rfl (lv_at hl 0 rfl) ?_
  obtain ⟨ht45, hf⟩ := hf
  refine p_gR X cf8_ (k := 29) (by decide) rfl hP ht45 q1323 (fun _ h => h) dX9_tableIs_89 ?_
  refine lv_iload hx hb dX9_tableIs_92 (lv_at hl 5 rfl) ?_
  obtain ⟨ht46, hf⟩ := hf
  obtain ⟨hi47, hf⟩ := hf
  refine p_iald X hP ht46 hi47 dX9_tableIs_94 ?_
  refine lv_icmp_le (tgt := 108) hx hb dX9_tableIs_95 (by decide) (fun c48 => ?_) (fun c48 => ?_)
  · have hf := hf.1 c48
    exact sX9_tableIs_L108 Y hrc9 hrc37 hrc86 hf _ _ _ _ _ hP hL ⟨rfl, rfl⟩ (lv_sub hl [0, 1, 2, 3, 4, 5, 6, 7, 8] rfl)
  · have hf := hf.2 c48
    refine lv_iload hx hb dX9_tableIs_98 (lv_at hl 8 rfl) ?_
    refine lv_if_ne (tgt := 134) hx hb dX9_tableIs_100 (by decide) (fun c49 => ?_) (fun c49 => ?_)
    · have hf := hf.1 c49
      exact sX9_tableIs_L134 Y hrc9 hrc37 hf _ _ _ _ _ hP hL ⟨rfl, rfl⟩ (lv_sub hl [0, 1, 2, 3, 4, 5, 6, 7] rfl)
    · have hf := hf.2 c49
      refine lv_iload hx hb dX9_tableIs_103 (lv_at hl 5 rfl) ?_
      refine lv_if_ne (tgt := 134) hx hb dX9_tableIs_105 (by decide) (fun c50 => ?_) (fun c50 => ?_)
      · have hf := hf.1 c50
        exact sX9_tableIs_L134 Y hrc9 hrc37 hf _ _ _ _ _ hP hL ⟨rfl, rfl⟩ (lv_sub hl [0, 1, 2, 3, 4, 5, 6, 7] rfl)
      · have hf := hf.2 c50
        exact sX9_tableIs_L108 Y hrc9 hrc37 hrc86 hf _ _ _ _ _ hP hL ⟨rfl, rfl⟩ (lv_sub hl [0, 1, 2, 3, 4, 5, 6, 7, 8] rfl)
set_option maxHeartbeats 4000000 in
theorem sX9_tableIs_L86 {G : GG_} {p : Program} {l : Launch} {e : Env} {R : Room} {s : State} {m : MethodId} {args : Array Value} {below : List Frame} {meth : Method} {c : Code} (Y : MX_ G p R s m args meth c cX9_tableIs 10 RX9 (some Jvm.ClassFile.FieldType.int) 3 64 0 0 "tableIs") {post : Int32 → Hp → Prop} {rc9 : Int32 → Int32 → Hp → Prop} {rc37 : Int32 → Int32 → Hp → Prop} {x0 : Nat} {x1 : Int32} {x3 : Int32} {x4 : Int32} {x5 : Int32} {x6 : Int32} {x7 : Int32} {x8 : Int32} {x9 : Int32} {σ : Hp} (hrc9 : ∀ (x2 : Int32) (x3 : Int32) (σ : Hp), rc9 x2 x3 σ → WG_ G p l e R s m args below meth c (MQ below (QI_ G post) args s 0 0 (FR_ G)) BN_ 10 9 [(0, rv_ x0), (1, .int x1), (2, .int x2), (3, .int x3)] [] σ) (hrc37 : ∀ (x4 : Int32) (x6 : Int32) (σ : Hp), rc37 x4 x6 σ → WG_ G p l e R s m args below meth c (MQ below (QI_ G post) args s 0 0 (FR_ G)) BN_ 10 37 [(0, rv_ x0), (1, .int x1), (3, .int x3), (4, .int x4), (5, .int x5), (6, .int x6)] [] σ) (hf : wX9_tableIs_L86 post rc9 rc37 x0 x1 x3 x4 x5 x6 x7 x8 x9 σ) : WG_ G p l e R s m args below meth c (MQ below (QI_ G post) args s 0 0 (FR_ G)) BN_ 10 86 [(0, rv_ x0), (1, .int x1), (3, .int x3), (4, .int x4), (5, .int x5), (6, .int x6), (7, .int x7), (8, .int x8), (9, .int x9)] [] σ := by
  unfold wX9_tableIs_L86 at hf
  obtain ⟨I, μ, h0, hI⟩ := hf
  have key : ∀ (n : Nat) (x8 : Int32) (x9 : Int32), I x8 x9 → μ x8 x9 < n → WG_ G p l e R s m args below meth c (MQ below (QI_ G post) args s 0 0 (FR_ G)) BN_ 10 86 [(0, rv_ x0), (1, .int x1), (3, .int x3), (4, .int x4), (5, .int x5), (6, .int x6), (7, .int x7), (8, .int x8), (9, .int x9)] [] σ := by
    intro n
    induction n with
    | zero => intro x8 x9 _ h; exact absurd h (Nat.not_lt_zero _)
    | succ n ih => intro x8 x9 hi hn; exact sX9_tableIs_B86 Y hrc9 hrc37 (fun x8' x9' h => ih x8' x9' h.1 (Nat.lt_of_lt_of_le h.2 (Nat.le_of_lt_succ hn))) (hI x8 x9 hi)
  exact key _ _ _ h0 (Nat.lt_succ_self _)
set_option maxHeartbeats 4000000 in
theorem sX9_tableIs_L78 {G : GG_} {p : Program} {l : Launch} {e : Env} {R : Room} {s : State} {m : MethodId} {args : Array Value} {below : List Frame} {meth : Method} {c : Code} (Y : MX_ G p R s m args meth c cX9_tableIs 10 RX9 (some Jvm.ClassFile.FieldType.int) 3 64 0 0 "tableIs") {post : Int32 → Hp → Prop} {rc9 : Int32 → Int32 → Hp → Prop} {rc37 : Int32 → Int32 → Hp → Prop} {x0 : Nat} {x1 : Int32} {x3 : Int32} {x4 : Int32} {x5 : Int32} {x6 : Int32} {s0 : Int32} {σ : Hp} (hrc9 : ∀ (x2 : Int32) (x3 : Int32) (σ : Hp), rc9 x2 x3 σ → WG_ G p l e R s m args below meth c (MQ below (QI_ G post) args s 0 0 (FR_ G)) BN_ 10 9 [(0, rv_ x0), (1, .int x1), (2, .int x2), (3, .int x3)] [] σ) (hrc37 : ∀ (x4 : Int32) (x6 : Int32) (σ : Hp), rc37 x4 x6 σ → WG_ G p l e R s m args below meth c (MQ below (QI_ G post) args s 0 0 (FR_ G)) BN_ 10 37 [(0, rv_ x0), (1, .int x1), (3, .int x3), (4, .int x4), (5, .int x5), (6, .int x6)] [] σ) (hf : wX9_tableIs_L78 post rc9 rc37 x0 x1 x3 x4 x5 x6 s0 σ) : WG_ G p l e R s m args below meth c (MQ below (QI_ G post) args s 0 0 (FR_ G)) BN_ 10 78 [(0, rv_ x0), (1, .int x1), (3, .int x3), (4, .int x4), (5, .int x5), (6, .int x6)] [.int s0] σ := by
  have ⟨X, hlk, hr, hRf, hRl, hRc, hnm⟩ := Y
  have ⟨⟨hx, hb, _, hown, hts⟩, _, _⟩ := X
  intro H locs cells slots ls hP hL hB hl
  obtain ⟨rfl, rfl⟩ := hB
  unfold wX9_tableIs_L78 at hf
  refine p_istore (i := 7) hx hb dX9_tableIs_78 hl (by decide) ⟨⟨ne_ rfl, Or.inl (ne_ rfl)⟩, ⟨⟨ne_ rfl, Or.inl (ne_ rfl)⟩, ⟨⟨ne_ rfl, Or.inl (ne_ rfl)⟩, ⟨⟨ne_ rfl, Or.inl (ne_ rfl)⟩, ⟨⟨ne_ rfl, Or.inl (ne_ rfl)⟩, ⟨⟨ne_ rfl, Or.inr rfl⟩, trivial⟩⟩⟩⟩⟩⟩ (fun ls hl => ?_)
  refine lv_iconst (v := 0) hx hb dX9_tableIs_80 (by decide) ?_
  refine p_istore (i := 8) hx hb dX9_tableIs_81 hl (by decide) ⟨⟨ne_ rfl, Or.inr rfl⟩, ⟨⟨ne_ rfl, Or.inl (ne_ rfl)⟩, ⟨⟨ne_ rfl, Or.inl (ne_ rfl)⟩, ⟨⟨ne_ rfl, Or.inl (ne_ rfl)⟩, ⟨⟨ne_ rfl, Or.inl (ne_ rfl)⟩, ⟨⟨ne_ rfl, Or.inl (ne_ rfl)⟩, ⟨⟨ne_ rfl, Or.inl (ne_ rfl)⟩, trivial⟩⟩⟩⟩⟩⟩⟩ (fun ls hl => ?_)
  refine lv_iconst (v := 0) hx hb dX9_tableIs_83 (by decide) ?_
  refine p_istore (i := 9) hx hb dX9_tableIs_84 hl (by decide) ⟨⟨ne_ rfl, Or.inr rfl⟩, ⟨⟨ne_ rfl, Or.inl (ne_ rfl)⟩, ⟨⟨ne_ rfl, Or.inl (ne_ rfl)⟩, ⟨⟨ne_ rfl, Or.inl (ne_ rfl)⟩, ⟨⟨ne_ rfl, Or.inl (ne_ rfl)⟩, ⟨⟨ne_ rfl, Or.inl (ne_ rfl)⟩, ⟨⟨ne_ rfl, Or.inl (ne_ rfl)⟩, ⟨⟨ne_ rfl, Or.inl (ne_ rfl)⟩, trivial⟩⟩⟩⟩⟩⟩⟩⟩ (fun ls hl => ?_)
  exact sX9_tableIs_L86 Y hrc9 hrc37 hf _ _ _ _ _ hP hL ⟨rfl, rfl⟩ (lv_sub hl [3, 4, 5, 6, 7, 8, 2, 1, 0] rfl)
set_option maxHeartbeats 4000000 in
theorem sX9_tableIs_B37 {G : GG_} {p : Program} {l : Launch} {e : Env} {R : Room} {s : State} {m : MethodId} {args : Array Value} {below : List Frame} {meth : Method} {c : Code} (Y : MX_ G p R s m args meth c cX9_tableIs 10 RX9 (some Jvm.ClassFile.FieldType.int) 3 64 0 0 "tableIs") {post : Int32 → Hp → Prop} {rc9 : Int32 → Int32 → Hp → Prop} {rc37 : Int32 → Int32 → Hp → Prop} {x0 : Nat} {x1 : Int32} {x3 : Int32} {x4 : Int32} {x5 : Int32} {x6 : Int32} {σ : Hp} (hrc9 : ∀ (x2 : Int32) (x3 : Int32) (σ : Hp), rc9 x2 x3 σ → WG_ G p l e R s m args below meth c (MQ below (QI_ G post) args s 0 0 (FR_ G)) BN_ 10 9 [(0, rv_ x0), (1, .int x1), (2, .int x2), (3, .int x3)] [] σ) (hrc37 : ∀ (x4 : Int32) (x6 : Int32) (σ : Hp), rc37 x4 x6 σ → WG_ G p l e R s m args below meth c (MQ below (QI_ G post) args s 0 0 (FR_ G)) BN_ 10 37 [(0, rv_ x0), (1, .int x1), (3, .int x3), (4, .int x4), (5, .int x5), (6, .int x6)] [] σ) (hf : wX9_tableIs_B37 post rc9 rc37 x0 x1 x3 x4 x5 x6 σ) : WG_ G p l e R s m args below meth c (MQ below (QI_ G post) args s 0 0 (FR_ G)) BN_ 10 37 [(0, rv_ x0), (1, .int x1), (3, .int x3), (4, .int x4), (5, .int x5), (6, .int x6)] [] σ := by
  have ⟨X, hlk, hr, hRf, hRl, hRc, hnm⟩ := Y
  have ⟨⟨hx, hb, _, hown, hts⟩, _, _⟩ := X
  intro H locs cells slots ls hP hL hB hl
  obtain ⟨rfl, rfl⟩ := hB
  unfold wX9_tableIs_B37 at hf
  refine lv_iload hx hb dX9_tableIs_37 (lv_at hl 5 rfl) ?_
  refine p_aload_n hx hb dX9_tableIs_39 rfl (lv_at hl 0 rfl) ?_
  obtain ⟨ht51, hf⟩ := hf
  refine p_gI X cf8_ (k := 27) (by decide) rfl hP ht51 q1321 (fun _ h => h) dX9_tableIs_40 ?_
  refine lv_icmp_ge (tgt := 310) hx hb dX9_tableIs_43 (by decide) (fun c52 => ?_) (fun c52 => ?_)
  · have hf := hf.1 c52
    refine lv_iload hx hb dX9_tableIs_310 (lv_at hl 3 rfl) ?_
    refine lv_iload hx hb dX9_tableIs_312 (lv_at hl 4 rfl) ?_
    refine lv_isub hx hb dX9_tableIs_314 ?_
    have hl := lv_sub hl [0, 1, 2] rfl
    refine lv_topi (fun y53 hy53 => ?_)
    have hf := hf y53 hy53
    refine p_istore_n (i := 2) hx hb dX9_tableIs_315 rfl hl (by decide) ⟨⟨ne_ rfl, Or.inl (ne_ rfl)⟩, ⟨⟨ne_ rfl, Or.inr rfl⟩, ⟨⟨ne_ rfl, Or.inl (ne_ rfl)⟩, trivial⟩⟩⟩ (fun ls hl => ?_)
    have hl := lv_sub hl [3, 0, 1, 2] rfl
    refine p_iincc (i := 3) (k := 1) hx hb (by decide) dX9_tableIs_316 hl (by decide) ⟨⟨ne_ rfl, Or.inr rfl⟩, ⟨⟨ne_ rfl, Or.inl (ne_ rfl)⟩, ⟨⟨ne_ rfl, Or.inl (ne_ rfl)⟩, trivial⟩⟩⟩ (fun y54 hy54 ls hl => ?_)
    have hf := hf y54 hy54
    refine lv_goto (tgt := 9) hx hb dX9_tableIs_319 (by decide) ?_
    exact hrc9 _ _ _ hf _ _ _ _ _ hP hL ⟨rfl, rfl⟩ (lv_sub hl [2, 3, 1, 0] rfl)
  · have hf := hf.2 c52
    refine p_aload_n hx hb dX9_tableIs_46 rfl (lv_at hl 0 rfl) ?_
    refine p_gR X cf8_ (k := 30) (by decide) rfl hP ht51 q1324 (fun _ h => h) dX9_tableIs_47 ?_
    refine lv_iload hx hb dX9_tableIs_50 (lv_at hl 5 rfl) ?_
    obtain ⟨ht55, hf⟩ := hf
    obtain ⟨hi56, hf⟩ := hf
    refine p_zald X hP ht55 hi56 dX9_tableIs_52 ?_
    refine lv_if_ne (tgt := 59) hx hb dX9_tableIs_53 (by decide) (fun c57 => ?_) (fun c57 => ?_)
    · have hf := hf.1 c57
      refine lv_iload hx hb dX9_tableIs_59 (lv_at hl 5 rfl) ?_
      refine lv_if_ne (tgt := 68) hx hb dX9_tableIs_61 (by decide) (fun c58 => ?_) (fun c58 => ?_)
      · have hf := hf.1 c58
        refine p_aload_n hx hb dX9_tableIs_68 rfl (lv_at hl 0 rfl) ?_
        refine p_gR X cf8_ (k := 33) (by decide) rfl hP ht51 q1327 (fun _ h => h) dX9_tableIs_69 ?_
        refine lv_iload hx hb dX9_tableIs_72 (lv_at hl 5 rfl) ?_
        obtain ⟨ht59, hf⟩ := hf
        obtain ⟨hi60, hf⟩ := hf
        refine p_lald X hP ht59 hi60 dX9_tableIs_74 ?_
        refine p_calli hL (p_runS X hP (metX9_lettersOf l G _ _ _ X.2.2 hf) (va_cwS 1 hts (lw_S q1538 q1539 q106 q1540) rfl rfl rfl (by decide +kernel) ⟨Nat.le_trans (Nat.le_of_ble_eq_true rfl) hRf, Nat.le_trans (Nat.le_of_ble_eq_true rfl) hRl⟩) rfl hl.1 rfl (by decide) dX9_tableIs_75 ⟨Nat.zero_le _, Nat.zero_le _⟩) (fun r61 σ₁ H locs hf hP hL => ?_)
        obtain ⟨e₁, hf⟩ := hf
        rw [e₁] at hP
        exact sX9_tableIs_L78 Y hrc9 hrc37 hf _ _ _ _ _ hP hL ⟨rfl, rfl⟩ (lv_sub hl [0, 1, 2, 3, 4, 5] rfl)
      · have hf := hf.2 c58
        refine lv_iconst (v := 1) hx hb dX9_tableIs_64 (by decide) ?_
        refine lv_goto (tgt := 78) hx hb dX9_tableIs_65 (by decide) ?_
        exact sX9_tableIs_L78 Y hrc9 hrc37 hf _ _ _ _ _ hP hL ⟨rfl, rfl⟩ (lv_sub hl [0, 1, 2, 3, 4, 5] rfl)
    · have hf := hf.2 c57
      refine lv_goto (tgt := 304) hx hb dX9_tableIs_56 (by decide) ?_
      exact sX9_tableIs_L304 Y hrc9 hrc37 hf _ _ _ _ _ hP hL ⟨rfl, rfl⟩ (lv_sub hl [0, 1, 2, 3, 4, 5] rfl)
set_option maxHeartbeats 4000000 in
theorem sX9_tableIs_L37 {G : GG_} {p : Program} {l : Launch} {e : Env} {R : Room} {s : State} {m : MethodId} {args : Array Value} {below : List Frame} {meth : Method} {c : Code} (Y : MX_ G p R s m args meth c cX9_tableIs 10 RX9 (some Jvm.ClassFile.FieldType.int) 3 64 0 0 "tableIs") {post : Int32 → Hp → Prop} {rc9 : Int32 → Int32 → Hp → Prop} {x0 : Nat} {x1 : Int32} {x3 : Int32} {x4 : Int32} {x5 : Int32} {x6 : Int32} {σ : Hp} (hrc9 : ∀ (x2 : Int32) (x3 : Int32) (σ : Hp), rc9 x2 x3 σ → WG_ G p l e R s m args below meth c (MQ below (QI_ G post) args s 0 0 (FR_ G)) BN_ 10 9 [(0, rv_ x0), (1, .int x1), (2, .int x2), (3, .int x3)] [] σ) (hf : wX9_tableIs_L37 post rc9 x0 x1 x3 x4 x5 x6 σ) : WG_ G p l e R s m args below meth c (MQ below (QI_ G post) args s 0 0 (FR_ G)) BN_ 10 37 [(0, rv_ x0), (1, .int x1), (3, .int x3), (4, .int x4), (5, .int x5), (6, .int x6)] [] σ := by
  unfold wX9_tableIs_L37 at hf
  obtain ⟨I, μ, h0, hI⟩ := hf
  have key : ∀ (n : Nat) (x4 : Int32) (x6 : Int32) (σ : Hp), I x4 x6 σ → μ x4 x6 σ < n → WG_ G p l e R s m args below meth c (MQ below (QI_ G post) args s 0 0 (FR_ G)) BN_ 10 37 [(0, rv_ x0), (1, .int x1), (3, .int x3), (4, .int x4), (5, .int x5), (6, .int x6)] [] σ := by
    intro n
    induction n with
    | zero => intro x4 x6 σ _ h; exact absurd h (Nat.not_lt_zero _)
    | succ n ih => intro x4 x6 σ hi hn; exact sX9_tableIs_B37 Y hrc9 (fun x4' x6' σ' h => ih x4' x6' σ' h.1 (Nat.lt_of_lt_of_le h.2 (Nat.le_of_lt_succ hn))) (hI x4 x6 σ hi)
  exact key _ _ _ _ h0 (Nat.lt_succ_self _)
set_option maxHeartbeats 4000000 in
theorem sX9_tableIs_B9 {G : GG_} {p : Program} {l : Launch} {e : Env} {R : Room} {s : State} {m : MethodId} {args : Array Value} {below : List Frame} {meth : Method} {c : Code} (Y : MX_ G p R s m args meth c cX9_tableIs 10 RX9 (some Jvm.ClassFile.FieldType.int) 3 64 0 0 "tableIs") {post : Int32 → Hp → Prop} {rc9 : Int32 → Int32 → Hp → Prop} {x0 : Nat} {x1 : Int32} {x2 : Int32} {x3 : Int32} {σ : Hp} (hrc9 : ∀ (x2 : Int32) (x3 : Int32) (σ : Hp), rc9 x2 x3 σ → WG_ G p l e R s m args below meth c (MQ below (QI_ G post) args s 0 0 (FR_ G)) BN_ 10 9 [(0, rv_ x0), (1, .int x1), (2, .int x2), (3, .int x3)] [] σ) (hf : wX9_tableIs_B9 post rc9 x0 x1 x2 x3 σ) : WG_ G p l e R s m args below meth c (MQ below (QI_ G post) args s 0 0 (FR_ G)) BN_ 10 9 [(0, rv_ x0), (1, .int x1), (2, .int x2), (3, .int x3)] [] σ := by
  have ⟨X, hlk, hr, hRf, hRl, hRc, hnm⟩ := Y
  have ⟨⟨hx, hb, _, hown, hts⟩, _, _⟩ := X
  intro H locs cells slots ls hP hL hB hl
  obtain ⟨rfl, rfl⟩ := hB
  unfold wX9_tableIs_B9 at hf
  refine lv_iload_n hx hb dX9_tableIs_9 rfl (lv_at hl 3 rfl) ?_
  refine lv_iconst (v := 2) hx hb dX9_tableIs_10 (by decide) ?_
  refine lv_icmp_ge (tgt := 322) hx hb dX9_tableIs_11 (by decide) (fun c62 => ?_) (fun c62 => ?_)
  · have hf := hf.1 c62
    exact sX9_tableIs_L322 Y hf _ _ _ _ _ hP hL ⟨rfl, rfl⟩ (lv_sub hl [0, 2] rfl)
  · have hf := hf.2 c62
    refine p_aload_n hx hb dX9_tableIs_14 rfl (lv_at hl 0 rfl) ?_
    obtain ⟨ht63, hf⟩ := hf
    refine p_gI X cf8_ (k := 28) (by decide) rfl hP ht63 q1322 (fun _ h => h) dX9_tableIs_15 ?_
    refine lv_if_ge (tgt := 322) hx hb dX9_tableIs_18 (by decide) (fun c64 => ?_) (fun c64 => ?_)
    · have hf := hf.1 c64
      exact sX9_tableIs_L322 Y hf _ _ _ _ _ hP hL ⟨rfl, rfl⟩ (lv_sub hl [0, 2] rfl)
    · have hf := hf.2 c64
      refine lv_sipush (v := 2048) hx hb dX9_tableIs_21 (by decide) ?_
      refine lv_iload_n hx hb dX9_tableIs_24 rfl (lv_at hl 1 rfl) ?_
      refine lv_iload_n hx hb dX9_tableIs_25 rfl (lv_at hl 3 rfl) ?_
      refine lv_iadd hx hb dX9_tableIs_26 ?_
      refine lv_imul hx hb dX9_tableIs_27 ?_
      have hl := lv_sub hl [0, 1, 3] rfl
      refine lv_topi (fun y65 hy65 => ?_)
      have hf := hf y65 hy65
      refine p_istore (i := 4) hx hb dX9_tableIs_28 hl (by decide) ⟨⟨ne_ rfl, Or.inl (ne_ rfl)⟩, ⟨⟨ne_ rfl, Or.inl (ne_ rfl)⟩, ⟨⟨ne_ rfl, Or.inr rfl⟩, trivial⟩⟩⟩ (fun ls hl => ?_)
      refine lv_iload hx hb dX9_tableIs_30 (lv_at hl 0 rfl) ?_
      refine p_istore (i := 5) hx hb dX9_tableIs_32 hl (by decide) ⟨⟨ne_ rfl, Or.inr rfl⟩, ⟨⟨ne_ rfl, Or.inl (ne_ rfl)⟩, ⟨⟨ne_ rfl, Or.inl (ne_ rfl)⟩, ⟨⟨ne_ rfl, Or.inl (ne_ rfl)⟩, trivial⟩⟩⟩⟩ (fun ls hl => ?_)
      refine lv_iconst (v := 0) hx hb dX9_tableIs_34 (by decide) ?_
      refine p_istore (i := 6) hx hb dX9_tableIs_35 hl (by decide) ⟨⟨ne_ rfl, Or.inr rfl⟩, ⟨⟨ne_ rfl, Or.inl (ne_ rfl)⟩, ⟨⟨ne_ rfl, Or.inl (ne_ rfl)⟩, ⟨⟨ne_ rfl, Or.inl (ne_ rfl)⟩, ⟨⟨ne_ rfl, Or.inl (ne_ rfl)⟩, trivial⟩⟩⟩⟩⟩ (fun ls hl => ?_)
      exact sX9_tableIs_L37 Y hrc9 hf _ _ _ _ _ hP hL ⟨rfl, rfl⟩ (lv_sub hl [3, 4, 5, 2, 1, 0] rfl)
set_option maxHeartbeats 4000000 in
theorem sX9_tableIs_L9 {G : GG_} {p : Program} {l : Launch} {e : Env} {R : Room} {s : State} {m : MethodId} {args : Array Value} {below : List Frame} {meth : Method} {c : Code} (Y : MX_ G p R s m args meth c cX9_tableIs 10 RX9 (some Jvm.ClassFile.FieldType.int) 3 64 0 0 "tableIs") {post : Int32 → Hp → Prop} {x0 : Nat} {x1 : Int32} {x2 : Int32} {x3 : Int32} {σ : Hp} (hf : wX9_tableIs_L9 post x0 x1 x2 x3 σ) : WG_ G p l e R s m args below meth c (MQ below (QI_ G post) args s 0 0 (FR_ G)) BN_ 10 9 [(0, rv_ x0), (1, .int x1), (2, .int x2), (3, .int x3)] [] σ := by
  unfold wX9_tableIs_L9 at hf
  obtain ⟨I, μ, h0, hI⟩ := hf
  have key : ∀ (n : Nat) (x2 : Int32) (x3 : Int32) (σ : Hp), I x2 x3 σ → μ x2 x3 σ < n → WG_ G p l e R s m args below meth c (MQ below (QI_ G post) args s 0 0 (FR_ G)) BN_ 10 9 [(0, rv_ x0), (1, .int x1), (2, .int x2), (3, .int x3)] [] σ := by
    intro n
    induction n with
    | zero => intro x2 x3 σ _ h; exact absurd h (Nat.not_lt_zero _)
    | succ n ih => intro x2 x3 σ hi hn; exact sX9_tableIs_B9 Y (fun x2' x3' σ' h => ih x2' x3' σ' h.1 (Nat.lt_of_lt_of_le h.2 (Nat.le_of_lt_succ hn))) (hI x2 x3 σ hi)
  exact key _ _ _ _ h0 (Nat.lt_succ_self _)
set_option maxHeartbeats 4000000 in
theorem sX9_tableIs {G : GG_} {p : Program} {l : Launch} {e : Env} {R : Room} {s : State} {m : MethodId} {args : Array Value} {below : List Frame} {meth : Method} {c : Code} (Y : MX_ G p R s m args meth c cX9_tableIs 10 RX9 (some Jvm.ClassFile.FieldType.int) 3 64 0 0 "tableIs") {post : Int32 → Hp → Prop} {x0 : Nat} {x1 : Int32} {σ : Hp} (hf : wX9_tableIs x0 x1 σ post) : WG_ G p l e R s m args below meth c (MQ below (QI_ G post) args s 0 0 (FR_ G)) BN_ 10 0 [(0, rv_ x0), (1, .int x1)] [] σ := by
  have ⟨X, hlk, hr, hRf, hRl, hRc, hnm⟩ := Y
  have ⟨⟨hx, hb, _, hown, hts⟩, _, _⟩ := X
  intro H locs cells slots ls hP hL hB hl
  obtain ⟨rfl, rfl⟩ := hB
  unfold wX9_tableIs at hf
  refine p_aload_n hx hb dX9_tableIs_0 rfl (lv_at hl 0 rfl) ?_
  refine lv_iconst (v := (-1)) hx hb dX9_tableIs_1 (by decide) ?_
  obtain ⟨ht66, hf⟩ := hf
  refine p_pI X cf8_ (k := 28) (by decide) rfl hP hL ht66 (p_ow hP ht66 rfl) q1322 (fun _ h => h) (Or.inl rfl) rfl rfl dX9_tableIs_2 (fun H locs hP hL => ?_)
  refine p_nmP hP (fun σ67 hσ67 hP => ?_)
  have hf := hf σ67 hσ67
  have ht66 : tg_ σ67 x0 = 9 := by rw [hσ67]; exact ht66
  refine lv_iconst (v := 0) hx hb dX9_tableIs_5 (by decide) ?_
  refine p_istore_n (i := 2) hx hb dX9_tableIs_6 rfl hl (by decide) ⟨⟨ne_ rfl, Or.inl (ne_ rfl)⟩, ⟨⟨ne_ rfl, Or.inr rfl⟩, trivial⟩⟩ (fun ls hl => ?_)
  refine lv_iconst (v := 0) hx hb dX9_tableIs_7 (by decide) ?_
  refine p_istore_n (i := 3) hx hb dX9_tableIs_8 rfl hl (by decide) ⟨⟨ne_ rfl, Or.inr rfl⟩, ⟨⟨ne_ rfl, Or.inl (ne_ rfl)⟩, ⟨⟨ne_ rfl, Or.inl (ne_ rfl)⟩, trivial⟩⟩⟩ (fun ls hl => ?_)
  exact sX9_tableIs_L9 Y hf _ _ _ _ _ hP hL ⟨rfl, rfl⟩ (lv_sub hl [2, 3, 1, 0] rfl)
set_option maxHeartbeats 4000000 in
theorem metX9_tableIs (l : Launch) (G : GG_) (x0 : Nat) (x1 : Int32) (σ : Hp) (post : Int32 → Hp → Prop) (hG : GOK_ G) (hf : wX9_tableIs x0 x1 σ post) : Met l yX9_tableIs (ws_ yX9_tableIs cX9_tableIs 10 (some Jvm.ClassFile.FieldType.int)) { frames := 3, cells := 0, slots := 0, locals := 64 } (PC_ G [rv_ x0, .int x1] σ) (QI_ G post) 0 0 (FR_ G) := by
  refine Met.ofW (cc := cX9_tableIs) (maxL := 10) (ret := (some Jvm.ClassFile.FieldType.int)) (by decide) rfl ?_
  intro p e s m args below meth c s₁ B hml hv
  obtain ⟨rfl, hP, hW⟩ := hv
  have hts := atoms_spec (ws := ws_ yX9_tableIs cX9_tableIs 10 (some Jvm.ClassFile.FieldType.int)) B.pre
  have hts : ∀ w ∈ lw_all, w.before _ s = true := fun w h => hts w (List.mem_cons_of_mem _ h)
  rw [lg_entry_eq]
  have hl := en_entry [rv_ x0, .int x1] [1, 1] (n := 10) (ca_r (ca_i ca_n)) (by decide)
  exact sX9_tableIs ⟨⟨⟨B.exec, B.bytes, hml, findClass_of_methodNamed B.named, hts⟩, hW, hG⟩, B.notSynchronized, B.returns, Nat.le_refl _, Nat.le_refl _, ⟨rfl, rfl⟩, (name_of_methodNamed B.named B.method).1⟩ hf _ _ _ _ _ hP (LO_nil G) ⟨rfl, rfl⟩ hl
