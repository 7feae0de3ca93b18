set_option maxRecDepth 100000
abbrev cX9_open : ByteArray := prog_11_method_67_code
def yX9_open : MethodName := ⟨RX9, "open", "(I)I"⟩
theorem dX9_open_0 : decode cX9_open 0 = .ok (.aload_n 0, 1) := by decide +kernel
theorem dX9_open_1 : decode cX9_open 1 = .ok (.iconst 0, 1) := by decide +kernel
theorem dX9_open_2 : decode cX9_open 2 = .ok (.putfield 109, 3) := by decide +kernel
theorem dX9_open_5 : decode cX9_open 5 = .ok (.aload_n 0, 1) := by decide +kernel
theorem dX9_open_6 : decode cX9_open 6 = .ok (.iload_n 1, 1) := by decide +kernel
theorem dX9_open_7 : decode cX9_open 7 = .ok (.invokevirtual 314, 3) := by decide +kernel
theorem dX9_open_10 : decode cX9_open 10 = .ok (.istore_n 2, 1) := by decide +kernel
theorem dX9_open_11 : decode cX9_open 11 = .ok (.iload_n 2, 1) := by decide +kernel
theorem dX9_open_12 : decode cX9_open 12 = .ok (.ifCond .ge 7, 3) := by decide +kernel
theorem dX9_open_15 : decode cX9_open 15 = .ok (.ldc_w 320, 3) := by decide +kernel
theorem dX9_open_18 : decode cX9_open 18 = .ok (.ireturn, 1) := by decide +kernel
theorem dX9_open_19 : decode cX9_open 19 = .ok (.aload_n 0, 1) := by decide +kernel
theorem dX9_open_20 : decode cX9_open 20 = .ok (.aload_n 0, 1) := by decide +kernel
theorem dX9_open_21 : decode cX9_open 21 = .ok (.sipush 2048, 3) := by decide +kernel
theorem dX9_open_24 : decode cX9_open 24 = .ok (.iload_n 2, 1) := by decide +kernel
theorem dX9_open_25 : decode cX9_open 25 = .ok (.imul, 1) := by decide +kernel
theorem dX9_open_26 : decode cX9_open 26 = .ok (.iconst 4, 1) := by decide +kernel
theorem dX9_open_27 : decode cX9_open 27 = .ok (.iadd, 1) := by decide +kernel
theorem dX9_open_28 : decode cX9_open 28 = .ok (.iconst 4, 1) := by decide +kernel
theorem dX9_open_29 : decode cX9_open 29 = .ok (.invokevirtual 266, 3) := by decide +kernel
theorem dX9_open_32 : decode cX9_open 32 = .ok (.invokevirtual 317, 3) := by decide +kernel
theorem dX9_open_35 : decode cX9_open 35 = .ok (.istore_n 3, 1) := by decide +kernel
theorem dX9_open_36 : decode cX9_open 36 = .ok (.aload_n 0, 1) := by decide +kernel
theorem dX9_open_37 : decode cX9_open 37 = .ok (.iload_n 3, 1) := by decide +kernel
theorem dX9_open_38 : decode cX9_open 38 = .ok (.ifCond .ge 7, 3) := by decide +kernel
theorem dX9_open_41 : decode cX9_open 41 = .ok (.iconst 0, 1) := by decide +kernel
theorem dX9_open_42 : decode cX9_open 42 = .ok (.goto 4, 3) := by decide +kernel
theorem dX9_open_45 : decode cX9_open 45 = .ok (.iload_n 3, 1) := by decide +kernel
theorem dX9_open_46 : decode cX9_open 46 = .ok (.putfield 254, 3) := by decide +kernel
theorem dX9_open_49 : decode cX9_open 49 = .ok (.iconst 0, 1) := by decide +kernel
theorem dX9_open_50 : decode cX9_open 50 = .ok (.istore 4, 2) := by decide +kernel
theorem dX9_open_52 : decode cX9_open 52 = .ok (.iload 4, 2) := by decide +kernel
theorem dX9_open_54 : decode cX9_open 54 = .ok (.aload_n 0, 1) := by decide +kernel
theorem dX9_open_55 : decode cX9_open 55 = .ok (.getfield 254, 3) := by decide +kernel
theorem dX9_open_58 : decode cX9_open 58 = .ok (.if_icmp .ge 79, 3) := by decide +kernel
theorem dX9_open_61 : decode cX9_open 61 = .ok (.aload_n 0, 1) := by decide +kernel
theorem dX9_open_62 : decode cX9_open 62 = .ok (.getfield 84, 3) := by decide +kernel
theorem dX9_open_65 : decode cX9_open 65 = .ok (.iload 4, 2) := by decide +kernel
theorem dX9_open_67 : decode cX9_open 67 = .ok (.aload_n 0, 1) := by decide +kernel
theorem dX9_open_68 : decode cX9_open 68 = .ok (.getfield 66, 3) := by decide +kernel
theorem dX9_open_71 : decode cX9_open 71 = .ok (.iload 4, 2) := by decide +kernel
theorem dX9_open_73 : decode cX9_open 73 = .ok (.iaload, 1) := by decide +kernel
theorem dX9_open_74 : decode cX9_open 74 = .ok (.iastore, 1) := by decide +kernel
theorem dX9_open_75 : decode cX9_open 75 = .ok (.aload_n 0, 1) := by decide +kernel
theorem dX9_open_76 : decode cX9_open 76 = .ok (.getfield 87, 3) := by decide +kernel
theorem dX9_open_79 : decode cX9_open 79 = .ok (.iload 4, 2) := by decide +kernel
theorem dX9_open_81 : decode cX9_open 81 = .ok (.aload_n 0, 1) := by decide +kernel
theorem dX9_open_82 : decode cX9_open 82 = .ok (.getfield 69, 3) := by decide +kernel
theorem dX9_open_85 : decode cX9_open 85 = .ok (.iload 4, 2) := by decide +kernel
theorem dX9_open_87 : decode cX9_open 87 = .ok (.baload, 1) := by decide +kernel
theorem dX9_open_88 : decode cX9_open 88 = .ok (.bastore, 1) := by decide +kernel
theorem dX9_open_89 : decode cX9_open 89 = .ok (.aload_n 0, 1) := by decide +kernel
theorem dX9_open_90 : decode cX9_open 90 = .ok (.getfield 90, 3) := by decide +kernel
theorem dX9_open_93 : decode cX9_open 93 = .ok (.iload 4, 2) := by decide +kernel
theorem dX9_open_95 : decode cX9_open 95 = .ok (.aload_n 0, 1) := by decide +kernel
theorem dX9_open_96 : decode cX9_open 96 = .ok (.getfield 72, 3) := by decide +kernel
theorem dX9_open_99 : decode cX9_open 99 = .ok (.iload 4, 2) := by decide +kernel
theorem dX9_open_101 : decode cX9_open 101 = .ok (.iaload, 1) := by decide +kernel
theorem dX9_open_102 : decode cX9_open 102 = .ok (.iastore, 1) := by decide +kernel
theorem dX9_open_103 : decode cX9_open 103 = .ok (.aload_n 0, 1) := by decide +kernel
theorem dX9_open_104 : decode cX9_open 104 = .ok (.getfield 93, 3) := by decide +kernel
theorem dX9_open_107 : decode cX9_open 107 = .ok (.iload 4, 2) := by decide +kernel
theorem dX9_open_109 : decode cX9_open 109 = .ok (.aload_n 0, 1) := by decide +kernel
theorem dX9_open_110 : decode cX9_open 110 = .ok (.getfield 75, 3) := by decide +kernel
theorem dX9_open_113 : decode cX9_open 113 = .ok (.iload 4, 2) := by decide +kernel
theorem dX9_open_115 : decode cX9_open 115 = .ok (.iaload, 1) := by decide +kernel
theorem dX9_open_116 : decode cX9_open 116 = .ok (.iastore, 1) := by decide +kernel
theorem dX9_open_117 : decode cX9_open 117 = .ok (.aload_n 0, 1) := by decide +kernel
theorem dX9_open_118 : decode cX9_open 118 = .ok (.getfield 96, 3) := by decide +kernel
theorem dX9_open_121 : decode cX9_open 121 = .ok (.iload 4, 2) := by decide +kernel
theorem dX9_open_123 : decode cX9_open 123 = .ok (.aload_n 0, 1) := by decide +kernel
theorem dX9_open_124 : decode cX9_open 124 = .ok (.getfield 78, 3) := by decide +kernel
theorem dX9_open_127 : decode cX9_open 127 = .ok (.iload 4, 2) := by decide +kernel
theorem dX9_open_129 : decode cX9_open 129 = .ok (.laload, 1) := by decide +kernel
theorem dX9_open_130 : decode cX9_open 130 = .ok (.lastore, 1) := by decide +kernel
theorem dX9_open_131 : decode cX9_open 131 = .ok (.iinc 4 1, 3) := by decide +kernel
theorem dX9_open_134 : decode cX9_open 134 = .ok (.goto (-82), 3) := by decide +kernel
theorem dX9_open_137 : decode cX9_open 137 = .ok (.iload_n 3, 1) := by decide +kernel
theorem dX9_open_138 : decode cX9_open 138 = .ok (.ireturn, 1) := by decide +kernel
/-- WriteOnceDiscModel.open(I)I -/
def wX9_open_B52 (post : Int32 → Hp → Prop) (rc52 : Int32 → Hp → Prop) (x0 : Nat) (x3 : Int32) (x4 : Int32) (σ : Hp) : Prop :=
(tg_ σ x0 = 9 ∧ (((fI_ σ 8 35 x0) ≤ x4 →
  post x3 σ) ∧
 (¬ (fI_ σ 8 35 x0) ≤ x4 →
  (tg_ σ (fR_ σ 8 29 x0) = 102 ∧ (vp_in x4 (ln_ σ (fR_ σ 8 29 x0)) ∧ (tg_ σ (fR_ σ 8 36 x0) = 102 ∧ (lo_ σ < (fR_ σ 8 36 x0) ∧ (vp_in x4 (ln_ σ (fR_ σ 8 36 x0)) ∧ (∀ σ8, σ8 = wI_ σ (fR_ σ 8 36 x0) (x4).toNatClampNeg (aI_ σ (fR_ σ 8 29 x0) (x4).toNatClampNeg) → (tg_ σ8 (fR_ σ8 8 30 x0) = 101 ∧ (vp_in x4 (ln_ σ8 (fR_ σ8 8 30 x0)) ∧ (tg_ σ8 (fR_ σ8 8 37 x0) = 101 ∧ (vp_in x4 (ln_ σ8 (fR_ σ8 8 37 x0)) ∧ (∀ σ13, σ13 = wI_ σ8 (fR_ σ8 8 37 x0) (x4).toNatClampNeg (vp_nar .boolean (aI_ σ8 (fR_ σ8 8 30 x0) (x4).toNatClampNeg)) → (tg_ σ13 (fR_ σ13 8 31 x0) = 102 ∧ (vp_in x4 (ln_ σ13 (fR_ σ13 8 31 x0)) ∧ (tg_ σ13 (fR_ σ13 8 38 x0) = 102 ∧ (lo_ σ13 < (fR_ σ13 8 38 x0) ∧ (vp_in x4 (ln_ σ13 (fR_ σ13 8 38 x0)) ∧ (∀ σ19, σ19 = wI_ σ13 (fR_ σ13 8 38 x0) (x4).toNatClampNeg (aI_ σ13 (fR_ σ13 8 31 x0) (x4).toNatClampNeg) → (tg_ σ19 (fR_ σ19 8 32 x0) = 102 ∧ (vp_in x4 (ln_ σ19 (fR_ σ19 8 32 x0)) ∧ (tg_ σ19 (fR_ σ19 8 39 x0) = 102 ∧ (lo_ σ19 < (fR_ σ19 8 39 x0) ∧ (vp_in x4 (ln_ σ19 (fR_ σ19 8 39 x0)) ∧ (∀ σ25, σ25 = wI_ σ19 (fR_ σ19 8 39 x0) (x4).toNatClampNeg (aI_ σ19 (fR_ σ19 8 32 x0) (x4).toNatClampNeg) → (tg_ σ25 (fR_ σ25 8 33 x0) = 103 ∧ (vp_in x4 (ln_ σ25 (fR_ σ25 8 33 x0)) ∧ (tg_ σ25 (fR_ σ25 8 40 x0) = 103 ∧ (vp_in x4 (ln_ σ25 (fR_ σ25 8 40 x0)) ∧ (∀ σ30, σ30 = wL_ σ25 (fR_ σ25 8 40 x0) (x4).toNatClampNeg (aL_ σ25 (fR_ σ25 8 33 x0) (x4).toNatClampNeg) → (∀ y31 : Int32, y31 = x4 + 1 → rc52 y31 σ30))))))))))))))))))))))))))))))))
def wX9_open_L52 (post : Int32 → Hp → Prop) (x0 : Nat) (x3 : Int32) (x4 : Int32) (σ : Hp) : Prop :=
 ∃ (I : Int32 → Hp → Prop) (μ : Int32 → Hp → Nat), I x4 σ ∧ ∀ (x4 : Int32) (σ : Hp), I x4 σ → wX9_open_B52 post (fun x4' σ' => I x4' σ' ∧ μ x4' σ' < μ x4 σ) x0 x3 x4 σ
def wX9_open_L46 (post : Int32 → Hp → Prop) (x0 : Nat) (x3 : Int32) (s0 : Int32) (s1 : Nat) (σ : Hp) : Prop :=
(tg_ σ s1 = 9 ∧ (∀ σ33, σ33 = sI_ σ 8 35 s1 s0 → wX9_open_L52 post x0 x3 (0 : Int32) σ33))
def wX9_open (x0 : Nat) (x1 : Int32) (σ : Hp) (post : Int32 → Hp → Prop) : Prop :=
(tg_ σ x0 = 9 ∧ (∀ σ35, σ35 = sI_ σ 8 0 x0 (0 : Int32) → (wX9_markAt x0 x1 σ35 (fun r36 => ((0 ≤ r36 →
  (wX9_lowAt x0 (((2048 : Int32) * r36) + (4 : Int32)) (4 : Int32) σ35 (fun r38 => (wX9_look x0 r38 σ35 (fun r39 σ40 => ((0 ≤ r39 →
   wX9_open_L46 post x0 r39 r39 x0 σ40) ∧
  (¬ 0 ≤ r39 →
   wX9_open_L46 post x0 r39 (0 : Int32) x0 σ40))))))) ∧
 (¬ 0 ≤ r36 →
  post (-1000000 : Int32) σ35))))))
set_option maxHeartbeats 4000000 in
theorem sX9_open_B52 {G : GG_} {p : Program} {l : Launch} {e : Env} {R : Room} {s : State} {m : MethodId} {args : Array Value} {below : List Frame} {meth : Method} {c : Code} (Y : MX_ G p R s m args meth c cX9_open 5 RX9 (some Jvm.ClassFile.FieldType.int) 9 212 0 0 "open") {post : Int32 → Hp → Prop} {rc52 : Int32 → Hp → Prop} {x0 : Nat} {x3 : Int32} {x4 : Int32} {σ : Hp} (hrc52 : ∀ (x4 : Int32) (σ : Hp), rc52 x4 σ → WG_ G p l e R s m args below meth c (MQ below (QI_ G post) args s 0 0 (FR_ G)) BN_ 5 52 [(0, rv_ x0), (3, .int x3), (4, .int x4)] [] σ) (hf : wX9_open_B52 post rc52 x0 x3 x4 σ) : WG_ G p l e R s m args below meth c (MQ below (QI_ G post) args s 0 0 (FR_ G)) BN_ 5 52 [(0, rv_ x0), (3, .int x3), (4, .int x4)] [] σ := by
  have ⟨X, hlk, hr, hRf, hRl, hRc, hnm⟩ := Y
  have ⟨⟨hx, hb, _, hown, hts⟩, _, _⟩ := X
  intro H locs cells slots ls hP hL hB hl
  obtain ⟨rfl, rfl⟩ := hB
  unfold wX9_open_B52 at hf
  refine lv_iload hx hb dX9_open_52 (lv_at hl 2 rfl) ?_
  refine p_aload_n hx hb dX9_open_54 rfl (lv_at hl 0 rfl) ?_
  obtain ⟨ht1, hf⟩ := hf
  refine p_gI X cf8_ (k := 35) (by decide) rfl hP ht1 q1329 (fun _ h => h) dX9_open_55 ?_
  refine lv_icmp_ge (tgt := 137) hx hb dX9_open_58 (by decide) (fun c2 => ?_) (fun c2 => ?_)
  · have hf := hf.1 c2
    refine lv_iload_n hx hb dX9_open_137 rfl (lv_at hl 1 rfl) ?_
    exact p_iret X hlk hP hL (Nat.le_refl _) (Nat.le_refl _) hr dX9_open_138 hf
  · have hf := hf.2 c2
    refine p_aload_n hx hb dX9_open_61 rfl (lv_at hl 0 rfl) ?_
    refine p_gR X cf8_ (k := 36) (by decide) rfl hP ht1 q1330 (fun _ h => h) dX9_open_62 ?_
    refine lv_iload hx hb dX9_open_65 (lv_at hl 2 rfl) ?_
    refine p_aload_n hx hb dX9_open_67 rfl (lv_at hl 0 rfl) ?_
    refine p_gR X cf8_ (k := 29) (by decide) rfl hP ht1 q1323 (fun _ h => h) dX9_open_68 ?_
    refine lv_iload hx hb dX9_open_71 (lv_at hl 2 rfl) ?_
    obtain ⟨ht3, hf⟩ := hf
    obtain ⟨hi4, hf⟩ := hf
    refine p_iald X hP ht3 hi4 dX9_open_73 ?_
    obtain ⟨ht5, hf⟩ := hf
    obtain ⟨hlo6, hf⟩ := hf
    obtain ⟨hi7, hf⟩ := hf
    refine p_iast X hP hL ht5 hlo6 hi7 dX9_open_74 (fun H locs hP hL => ?_)
    refine p_nmP hP (fun σ8 hσ8 hP => ?_)
    have hf := hf σ8 hσ8
    have ht1 : tg_ σ8 x0 = 9 := by rw [hσ8]; exact ht1
    refine p_aload_n hx hb dX9_open_75 rfl (lv_at hl 0 rfl) ?_
    refine p_gR X cf8_ (k := 37) (by decide) rfl hP ht1 q1331 (fun _ h => h) dX9_open_76 ?_
    refine lv_iload hx hb dX9_open_79 (lv_at hl 2 rfl) ?_
    refine p_aload_n hx hb dX9_open_81 rfl (lv_at hl 0 rfl) ?_
    refine p_gR X cf8_ (k := 30) (by decide) rfl hP ht1 q1324 (fun _ h => h) dX9_open_82 ?_
    refine lv_iload hx hb dX9_open_85 (lv_at hl 2 rfl) ?_
    obtain ⟨ht9, hf⟩ := hf
    obtain ⟨hi10, hf⟩ := hf
    refine p_zald X hP ht9 hi10 dX9_open_87 ?_
    obtain ⟨ht11, hf⟩ := hf
    obtain ⟨hi12, hf⟩ := hf
    refine p_zast X hP hL ht11 (p_ow hP ht11 rfl) hi12 dX9_open_88 (fun H locs hP hL => ?_)
    refine p_nmP hP (fun σ13 hσ13 hP => ?_)
    have hf := hf σ13 hσ13
    have ht1 : tg_ σ13 x0 = 9 := by rw [hσ13]; exact ht1
    refine p_aload_n hx hb dX9_open_89 rfl (lv_at hl 0 rfl) ?_
    refine p_gR X cf8_ (k := 38) (by decide) rfl hP ht1 q1332 (fun _ h => h) dX9_open_90 ?_
    refine lv_iload hx hb dX9_open_93 (lv_at hl 2 rfl) ?_
    refine p_aload_n hx hb dX9_open_95 rfl (lv_at hl 0 rfl) ?_
    refine p_gR X cf8_ (k := 31) (by decide) rfl hP ht1 q1325 (fun _ h => h) dX9_open_96 ?_
    refine lv_iload hx hb dX9_open_99 (lv_at hl 2 rfl) ?_
    obtain ⟨ht14, hf⟩ := hf
    obtain ⟨hi15, hf⟩ := hf
    refine p_iald X hP ht14 hi15 dX9_open_101 ?_
    obtain ⟨ht16, hf⟩ := hf
    obtain ⟨hlo17, hf⟩ := hf
    obtain ⟨hi18, hf⟩ := hf
    refine p_iast X hP hL ht16 hlo17 hi18 dX9_open_102 (fun H locs hP hL => ?_)
    refine p_nmP hP (fun σ19 hσ19 hP => ?_)
    have hf := hf σ19 hσ19
    have ht1 : tg_ σ19 x0 = 9 := by rw [hσ19]; exact ht1
    refine p_aload_n hx hb dX9_open_103 rfl (lv_at hl 0 rfl) ?_
    refine p_gR X cf8_ (k := 39) (by decide) rfl hP ht1 q1333 (fun _ h => h) dX9_open_104 ?_
    refine lv_iload hx hb dX9_open_107 (lv_at hl 2 rfl) ?_
    refine p_aload_n hx hb dX9_open_109 rfl (lv_at hl 0 rfl) ?_
    refine p_gR X cf8_ (k := 32) (by decide) rfl hP ht1 q1326 (fun _ h => h) dX9_open_110 ?_
    refine lv_iload hx hb dX9_open_113 (lv_at hl 2 rfl) ?_
    obtain ⟨ht20, hf⟩ := hf
    obtain ⟨hi21, hf⟩ := hf
    refine p_iald X hP ht20 hi21 dX9_open_115 ?_
    obtain ⟨ht22, hf⟩ := hf
    obtain ⟨hlo23, hf⟩ := hf
    obtain ⟨hi24, hf⟩ := hf
    refine p_iast X hP hL ht22 hlo23 hi24 dX9_open_116 (fun H locs hP hL => ?_)
    refine p_nmP hP (fun σ25 hσ25 hP => ?_)
    have hf := hf σ25 hσ25
    have ht1 : tg_ σ25 x0 = 9 := by rw [hσ25]; exact ht1
    refine p_aload_n hx hb dX9_open_117 rfl (lv_at hl 0 rfl) ?_
    refine p_gR X cf8_ (k := 40) (by decide) rfl hP ht1 q1334 (fun _ h => h) dX9_open_118 ?_
    refine lv_iload hx hb dX9_open_121 (lv_at hl 2 rfl) ?_
    refine p_aload_n hx hb dX9_open_123 rfl (lv_at hl 0 rfl) ?_
    refine p_gR X cf8_ (k := 33) (by decide) rfl hP ht1 q1327 (fun _ h => h) dX9_open_124 ?_
    refine lv_iload hx hb dX9_open_127 (lv_at hl 2 rfl) ?_
    obtain ⟨ht26, hf⟩ := hf
    obtain ⟨hi27, hf⟩ := hf
    refine p_lald X hP ht26 hi27 dX9_open_129 ?_
    obtain ⟨ht28, hf⟩ := hf
    obtain ⟨hi29, hf⟩ := hf
    refine p_last X hP hL ht28 (p_ow hP ht28 rfl) hi29 dX9_open_130 (fun H locs hP hL => ?_)
    refine p_nmP hP (fun σ30 hσ30 hP => ?_)
    have hf := hf σ30 hσ30
    have ht1 : tg_ σ30 x0 = 9 := by rw [hσ30]; exact ht1
    have hl := lv_sub hl [2, 0, 1] rfl
    refine p_iincc (i := 4) (k := 1) hx hb (by decide) dX9_open_131 hl (by decide) ⟨⟨ne_ rfl, Or.inl (ne_ rfl)⟩, ⟨⟨ne_ rfl, Or.inr rfl⟩, trivial⟩⟩ (fun y31 hy31 ls hl => ?_)
    have hf := hf y31 hy31
    refine lv_goto (tgt := 52) hx hb dX9_open_134 (by decide) ?_
    exact hrc52 _ _ hf _ _ _ _ _ hP hL ⟨rfl, rfl⟩ (lv_sub hl [1, 2, 0] rfl)
set_option maxHeartbeats 4000000 in
theorem sX9_open_L52 {G : GG_} {p : Program} {l : Launch} {e : Env} {R : Room} {s : State} {m : MethodId} {args : Array Value} {below : List Frame} {meth : Method} {c : Code} (Y : MX_ G p R s m args meth c cX9_open 5 RX9 (some Jvm.ClassFile.FieldType.int) 9 212 0 0 "open") {post : Int32 → Hp → Prop} {x0 : Nat} {x3 : Int32} {x4 : Int32} {σ : Hp} (hf : wX9_open_L52 post x0 x3 x4 σ) : WG_ G p l e R s m args below meth c (MQ below (QI_ G post) args s 0 0 (FR_ G)) BN_ 5 52 [(0, rv_ x0), (3, .int x3), (4, .int x4)] [] σ := by
  unfold wX9_open_L52 at hf
  obtain ⟨I, μ, h0, hI⟩ := hf
  have key : ∀ (n : Nat) (x4 : Int32) (σ : Hp), I x4 σ → μ x4 σ < n → WG_ G p l e R s m args below meth c (MQ below (QI_ G post) args s 0 0 (FR_ G)) BN_ 5 52 [(0, rv_ x0), (3, .int x3), (4, .int x4)] [] σ := by
    intro n
    induction n with
    | zero => intro x4 σ _ h; exact absurd h (Nat.not_lt_zero _)
    | succ n ih => intro x4 σ hi hn; exact sX9_open_B52 Y (fun x4' σ' h => ih x4' σ' h.1 (Nat.lt_of_lt_of_le h.2 (Nat.le_of_lt_succ hn))) (hI x4 σ hi)
  exact key _ _ _ h0 (Nat.lt_succ_self _)
set_option maxHeartbeats 4000000 in
theorem sX9_open_L46 {G : GG_} {p : Program} {l : Launch} {e : Env} {R : Room} {s : State} {m : MethodId} {args : Array Value} {below : List Frame} {meth : Method} {c : Code} (Y : MX_ G p R s m args meth c cX9_open 5 RX9 (some Jvm.ClassFile.FieldType.int) 9 212 0 0 "open") {post : Int32 → Hp → Prop} {x0 : Nat} {x3 : Int32} {s0 : Int32} {s1 : Nat} {σ : Hp} (hf : wX9_open_L46 post x0 x3 s0 s1 σ) : WG_ G p l e R s m args below meth c (MQ below (QI_ G post) args s 0 0 (FR_ G)) BN_ 5 46 [(0, rv_ x0), (3, .int x3)] [.int s0, rv_ s1] σ := by
  have ⟨X, hlk, hr, hRf, hRl, hRc, hnm⟩ := Y
  have ⟨⟨hx, hb, _, hown, hts⟩, _, _⟩ := X
  intro H locs cells slots ls hP hL hB hl
  obtain ⟨rfl, rfl⟩ := hB
  unfold wX9_open_L46 at hf
  obtain ⟨ht32, hf⟩ := hf
  refine p_pI X cf8_ (k := 35) (by decide) rfl hP hL ht32 (p_ow hP ht32 rfl) q1329 (fun _ h => h) (Or.inl rfl) rfl rfl dX9_open_46 (fun H locs hP hL => ?_)
  refine p_nmP hP (fun σ33 hσ33 hP => ?_)
  have hf := hf σ33 hσ33
  have ht32 : tg_ σ33 s1 = 9 := by rw [hσ33]; exact ht32
  refine lv_iconst (v := 0) hx hb dX9_open_49 (by decide) ?_
  refine p_istore (i := 4) hx hb dX9_open_50 hl (by decide) ⟨⟨ne_ rfl, Or.inl (ne_ rfl)⟩, ⟨⟨ne_ rfl, Or.inr rfl⟩, trivial⟩⟩ (fun ls hl => ?_)
  exact sX9_open_L52 Y hf _ _ _ _ _ hP hL ⟨rfl, rfl⟩ (lv_sub hl [1, 2, 0] rfl)
set_option maxHeartbeats 4000000 in
theorem sX9_open {G : GG_} {p : Program} {l : Launch} {e : Env} {R : Room} {s : State} {m : MethodId} {args : Array Value} {below : List Frame} {meth : Method} {c : Code} (Y : MX_ G p R s m args meth c cX9_open 5 RX9 (some Jvm.ClassFile.FieldType.int) 9 212 0 0 "open") {post : Int32 → Hp → Prop} {x0 : Nat} {x1 : Int32} {σ : Hp} (hf : wX9_open x0 x1 σ post) : WG_ G p l e R s m args below meth c (MQ below (QI_ G post) args s 0 0 (FR_ G)) BN_ 5 0 [(0, rv_ x0), (1, .int x1)] [] σ := by
  have ⟨X, hlk, hr, hRf, hRl, hRc, hnm⟩ := Y
  have ⟨⟨hx, hb, _, hown, hts⟩, _, _⟩ := X
  intro H locs cells slots ls hP hL hB hl
  obtain ⟨rfl, rfl⟩ := hB
  unfold wX9_open at hf
  refine p_aload_n hx hb dX9_open_0 rfl (lv_at hl 0 rfl) ?_
  refine lv_iconst (v := 0) hx hb dX9_open_1 (by decide) ?_
  obtain ⟨ht34, hf⟩ := hf
  refine p_pI X cf8_ (k := 0) (by decide) rfl hP hL ht34 (p_ow hP ht34 rfl) q1295 (fun _ h => h) (Or.inl rfl) rfl rfl dX9_open_2 (fun H locs hP hL => ?_)
  refine p_nmP hP (fun σ35 hσ35 hP => ?_)
  have hf := hf σ35 hσ35
  have ht34 : tg_ σ35 x0 = 9 := by rw [hσ35]; exact ht34
  refine p_aload_n hx hb dX9_open_5 rfl (lv_at hl 0 rfl) ?_
  refine lv_iload_n hx hb dX9_open_6 rfl (lv_at hl 1 rfl) ?_
  refine p_calli hL (p_runV X cf8_ hP ht34 (metX9_markAt l G _ _ _ _ X.2.2 hf) (cwV 1 hts (lw_V q1595 q1597 qs67 q106 q1598) rfl rfl rfl (by decide +kernel) ⟨Nat.le_trans (Nat.le_of_ble_eq_true rfl) hRf, Nat.le_trans (Nat.le_of_ble_eq_true rfl) hRl⟩) rfl hl.1 rfl (by decide) dX9_open_7 ⟨Nat.zero_le _, Nat.zero_le _⟩) (fun r36 σ₁ H locs hf hP hL => ?_)
  obtain ⟨e₁, hf⟩ := hf
  rw [e₁] at hP
  have hl := lv_sub hl [0] rfl
  refine p_istore_n (i := 2) hx hb dX9_open_10 rfl hl (by decide) ⟨⟨ne_ rfl, Or.inl (ne_ rfl)⟩, trivial⟩ (fun ls hl => ?_)
  refine lv_iload_n hx hb dX9_open_11 rfl (lv_at hl 0 rfl) ?_
  refine lv_if_ge (tgt := 19) hx hb dX9_open_12 (by decide) (fun c37 => ?_) (fun c37 => ?_)
  · have hf := hf.1 c37
    refine p_aload_n hx hb dX9_open_19 rfl (lv_at hl 1 rfl) ?_
    refine p_aload_n hx hb dX9_open_20 rfl (lv_at hl 1 rfl) ?_
    refine lv_sipush (v := 2048) hx hb dX9_open_21 (by decide) ?_
    refine lv_iload_n hx hb dX9_open_24 rfl (lv_at hl 0 rfl) ?_
    refine lv_imul hx hb dX9_open_25 ?_
    refine lv_iconst (v := 4) hx hb dX9_open_26 (by decide) ?_
    refine lv_iadd hx hb dX9_open_27 ?_
    refine lv_iconst (v := 4) hx hb dX9_open_28 (by decide) ?_
    refine p_calli hL (p_runV X cf8_ hP ht34 (metX9_lowAt l G _ _ _ _ _ X.2.2 hf) (cwV 2 hts (lw_V q1607 q1609 qs70 q106 q1610) rfl rfl rfl (by decide +kernel) ⟨Nat.le_trans (Nat.le_of_ble_eq_true rfl) hRf, Nat.le_trans (Nat.le_of_ble_eq_true rfl) hRl⟩) rfl hl.1 rfl (by rw [(ca_r ca_n)]; decide) dX9_open_29 ⟨Nat.zero_le _, Nat.zero_le _⟩) (fun r38 σ₁ H locs hf hP hL => ?_)
    obtain ⟨e₁, hf⟩ := hf
    rw [e₁] at hP
    refine p_calli hL (p_runV X cf8_ hP ht34 (metX9_look l G _ _ _ _ X.2.2 hf) (cwV 1 hts (lw_V q1611 q1613 qs71 q106 q1614) rfl rfl rfl (by decide +kernel) ⟨Nat.le_trans (Nat.le_of_ble_eq_true rfl) hRf, Nat.le_trans (Nat.le_of_ble_eq_true rfl) hRl⟩) rfl hl.1 rfl (by decide) dX9_open_32 ⟨Nat.zero_le _, Nat.zero_le _⟩) (fun r39 σ40 H locs hf hP hL => ?_)
    have hl := lv_sub hl [1] rfl
    refine p_istore_n (i := 3) hx hb dX9_open_35 rfl hl (by decide) ⟨⟨ne_ rfl, Or.inl (ne_ rfl)⟩, trivial⟩ (fun ls hl => ?_)
    refine p_aload_n hx hb dX9_open_36 rfl (lv_at hl 1 rfl) ?_
    refine lv_iload_n hx hb dX9_open_37 rfl (lv_at hl 0 rfl) ?_
    refine lv_if_ge (tgt := 45) hx hb dX9_open_38 (by decide) (fun c41 => ?_) (fun c41 => ?_)
    · have hf := hf.1 c41
      refine lv_iload_n hx hb dX9_open_45 rfl (lv_at hl 0 rfl) ?_
      exact sX9_open_L46 Y hf _ _ _ _ _ hP hL ⟨rfl, rfl⟩ (lv_sub hl [1, 0] rfl)
    · have hf := hf.2 c41
      refine lv_iconst (v := 0) hx hb dX9_open_41 (by decide) ?_
      refine lv_goto (tgt := 46) hx hb dX9_open_42 (by decide) ?_
      exact sX9_open_L46 Y hf _ _ _ _ _ hP hL ⟨rfl, rfl⟩ (lv_sub hl [1, 0] rfl)
  · have hf := hf.2 c37
    refine lv_ldcw hx hb hown (hts _ q1673) dX9_open_15 ?_
    exact p_iret X hlk hP hL (Nat.le_refl _) (Nat.le_refl _) hr dX9_open_18 hf
set_option maxHeartbeats 4000000 in
theorem metX9_open (l : Launch) (G : GG_) (x0 : Nat) (x1 : Int32) (σ : Hp) (post : Int32 → Hp → Prop) (hG : GOK_ G) (hf : wX9_open x0 x1 σ post) : Met l yX9_open (ws_ yX9_open cX9_open 5 (some Jvm.ClassFile.FieldType.int)) { frames := 9, cells := 0, slots := 0, locals := 212 } (PC_ G [rv_ x0, .int x1] σ) (QI_ G post) 0 0 (FR_ G) := by
  refine Met.ofW (cc := cX9_open) (maxL := 5) (ret := (some Jvm.ClassFile.FieldType.int)) (by decide) rfl ?_
  intro p e s m args below meth c s₁ B hml hv
  obtain ⟨rfl, hP, hW⟩ := hv
  have hts := atoms_spec (ws := ws_ yX9_open cX9_open 5 (some Jvm.ClassFile.FieldType.int)) B.pre
  have hts : ∀ w ∈ lw_all, w.before _ s = true := fun w h => hts w (List.mem_cons_of_mem _ h)
  rw [lg_entry_eq]
  have hl := en_entry [rv_ x0, .int x1] [1, 1] (n := 5) (ca_r (ca_i ca_n)) (by decide)
  exact sX9_open ⟨⟨⟨B.exec, B.bytes, hml, findClass_of_methodNamed B.named, hts⟩, hW, hG⟩, B.notSynchronized, B.returns, Nat.le_refl _, Nat.le_refl _, ⟨rfl, rfl⟩, (name_of_methodNamed B.named B.method).1⟩ hf _ _ _ _ _ hP (LO_nil G) ⟨rfl, rfl⟩ hl
abbrev cX9_node : ByteArray := prog_11_method_68_code
def yX9_node : MethodName := ⟨RX9, "node", "(II)I"⟩
theorem dX9_node_0 : decode cX9_node 0 = .ok (.aload_n 0, 1) := by decide +kernel
theorem dX9_node_1 : decode cX9_node 1 = .ok (.iload_n 1, 1) := by decide +kernel
theorem dX9_node_2 : decode cX9_node 2 = .ok (.iconst 0, 1) := by decide +kernel
theorem dX9_node_3 : decode cX9_node 3 = .ok (.aload_n 0, 1) := by decide +kernel
theorem dX9_node_4 : decode cX9_node 4 = .ok (.getfield 254, 3) := by decide +kernel
theorem dX9_node_7 : decode cX9_node 7 = .ok (.iconst 1, 1) := by decide +kernel
theorem dX9_node_8 : decode cX9_node 8 = .ok (.isub, 1) := by decide +kernel
theorem dX9_node_9 : decode cX9_node 9 = .ok (.invokestatic 118, 3) := by decide +kernel
theorem dX9_node_12 : decode cX9_node 12 = .ok (.ifCond .eq 16, 3) := by decide +kernel
theorem dX9_node_15 : decode cX9_node 15 = .ok (.iload_n 2, 1) := by decide +kernel
theorem dX9_node_16 : decode cX9_node 16 = .ok (.iconst 0, 1) := by decide +kernel
theorem dX9_node_17 : decode cX9_node 17 = .ok (.iconst 3, 1) := by decide +kernel
theorem dX9_node_18 : decode cX9_node 18 = .ok (.invokestatic 118, 3) := by decide +kernel
theorem dX9_node_21 : decode cX9_node 21 = .ok (.ifCond .eq 7, 3) := by decide +kernel
theorem dX9_node_24 : decode cX9_node 24 = .ok (.iconst 0, 1) := by decide +kernel
theorem dX9_node_25 : decode cX9_node 25 = .ok (.goto 4, 3) := by decide +kernel
theorem dX9_node_28 : decode cX9_node 28 = .ok (.iconst 1, 1) := by decide +kernel
theorem dX9_node_29 : decode cX9_node 29 = .ok (.putfield 109, 3) := by decide +kernel
theorem dX9_node_32 : decode cX9_node 32 = .ok (.aload_n 0, 1) := by decide +kernel
theorem dX9_node_33 : decode cX9_node 33 = .ok (.getfield 109, 3) := by decide +kernel
theorem dX9_node_36 : decode cX9_node 36 = .ok (.iconst 1, 1) := by decide +kernel
theorem dX9_node_37 : decode cX9_node 37 = .ok (.if_icmp .ne 5, 3) := by decide +kernel
theorem dX9_node_40 : decode cX9_node 40 = .ok (.iconst 0, 1) := by decide +kernel
theorem dX9_node_41 : decode cX9_node 41 = .ok (.ireturn, 1) := by decide +kernel
theorem dX9_node_42 : decode cX9_node 42 = .ok (.iload_n 2, 1) := by decide +kernel
theorem dX9_node_43 : decode cX9_node 43 = .ok (.ifCond .ne 12, 3) := by decide +kernel
theorem dX9_node_46 : decode cX9_node 46 = .ok (.aload_n 0, 1) := by decide +kernel
theorem dX9_node_47 : decode cX9_node 47 = .ok (.getfield 84, 3) := by decide +kernel
theorem dX9_node_50 : decode cX9_node 50 = .ok (.iload_n 1, 1) := by decide +kernel
theorem dX9_node_51 : decode cX9_node 51 = .ok (.iaload, 1) := by decide +kernel
theorem dX9_node_52 : decode cX9_node 52 = .ok (.goto 45, 3) := by decide +kernel
theorem dX9_node_55 : decode cX9_node 55 = .ok (.iload_n 2, 1) := by decide +kernel
theorem dX9_node_56 : decode cX9_node 56 = .ok (.iconst 1, 1) := by decide +kernel
theorem dX9_node_57 : decode cX9_node 57 = .ok (.if_icmp .ne 20, 3) := by decide +kernel
theorem dX9_node_60 : decode cX9_node 60 = .ok (.aload_n 0, 1) := by decide +kernel
theorem dX9_node_61 : decode cX9_node 61 = .ok (.getfield 87, 3) := by decide +kernel
theorem dX9_node_64 : decode cX9_node 64 = .ok (.iload_n 1, 1) := by decide +kernel
theorem dX9_node_65 : decode cX9_node 65 = .ok (.baload, 1) := by decide +kernel
theorem dX9_node_66 : decode cX9_node 66 = .ok (.ifCond .eq 7, 3) := by decide +kernel
theorem dX9_node_69 : decode cX9_node 69 = .ok (.iconst 0, 1) := by decide +kernel
theorem dX9_node_70 : decode cX9_node 70 = .ok (.goto 27, 3) := by decide +kernel
theorem dX9_node_73 : decode cX9_node 73 = .ok (.iconst 1, 1) := by decide +kernel
theorem dX9_node_74 : decode cX9_node 74 = .ok (.goto 23, 3) := by decide +kernel
theorem dX9_node_77 : decode cX9_node 77 = .ok (.iload_n 2, 1) := by decide +kernel
theorem dX9_node_78 : decode cX9_node 78 = .ok (.iconst 2, 1) := by decide +kernel
theorem dX9_node_79 : decode cX9_node 79 = .ok (.if_icmp .ne 12, 3) := by decide +kernel
theorem dX9_node_82 : decode cX9_node 82 = .ok (.aload_n 0, 1) := by decide +kernel
theorem dX9_node_83 : decode cX9_node 83 = .ok (.getfield 90, 3) := by decide +kernel
theorem dX9_node_86 : decode cX9_node 86 = .ok (.iload_n 1, 1) := by decide +kernel
theorem dX9_node_87 : decode cX9_node 87 = .ok (.iaload, 1) := by decide +kernel
theorem dX9_node_88 : decode cX9_node 88 = .ok (.goto 9, 3) := by decide +kernel
theorem dX9_node_91 : decode cX9_node 91 = .ok (.aload_n 0, 1) := by decide +kernel
theorem dX9_node_92 : decode cX9_node 92 = .ok (.getfield 93, 3) := by decide +kernel
theorem dX9_node_95 : decode cX9_node 95 = .ok (.iload_n 1, 1) := by decide +kernel
theorem dX9_node_96 : decode cX9_node 96 = .ok (.iaload, 1) := by decide +kernel
theorem dX9_node_97 : decode cX9_node 97 = .ok (.ireturn, 1) := by decide +kernel
/-- WriteOnceDiscModel.node(II)I -/
def wX9_node_L29 (post : Int32 → Hp → Prop) (x0 : Nat) (x1 : Int32) (x2 : Int32) (s0 : Int32) (s1 : Nat) (σ : Hp) : Prop :=
(tg_ σ s1 = 9 ∧ (∀ σ2, σ2 = sI_ σ 8 0 s1 s0 → (tg_ σ2 x0 = 9 ∧ ((¬ (fI_ σ2 8 0 x0) = (1 : Int32) →
  ((¬ x2 = 0 →
   ((¬ x2 = (1 : Int32) →
    ((¬ x2 = (2 : Int32) →
     (tg_ σ2 (fR_ σ2 8 39 x0) = 102 ∧ (vp_in x1 (ln_ σ2 (fR_ σ2 8 39 x0)) ∧ post (aI_ σ2 (fR_ σ2 8 39 x0) (x1).toNatClampNeg) σ2))) ∧
    (x2 = (2 : Int32) →
     (tg_ σ2 (fR_ σ2 8 38 x0) = 102 ∧ (vp_in x1 (ln_ σ2 (fR_ σ2 8 38 x0)) ∧ post (aI_ σ2 (fR_ σ2 8 38 x0) (x1).toNatClampNeg) σ2))))) ∧
   (x2 = (1 : Int32) →
    (tg_ σ2 (fR_ σ2 8 37 x0) = 101 ∧ (vp_in x1 (ln_ σ2 (fR_ σ2 8 37 x0)) ∧ (((aI_ σ2 (fR_ σ2 8 37 x0) (x1).toNatClampNeg) = 0 →
     post (1 : Int32) σ2) ∧
    (¬ (aI_ σ2 (fR_ σ2 8 37 x0) (x1).toNatClampNeg) = 0 →
     post (0 : Int32) σ2))))))) ∧
  (x2 = 0 →
   (tg_ σ2 (fR_ σ2 8 36 x0) = 102 ∧ (vp_in x1 (ln_ σ2 (fR_ σ2 8 36 x0)) ∧ post (aI_ σ2 (fR_ σ2 8 36 x0) (x1).toNatClampNeg) σ2))))) ∧
 ((fI_ σ2 8 0 x0) = (1 : Int32) →
  post (0 : Int32) σ2)))))
def wX9_node_L28 (post : Int32 → Hp → Prop) (x0 : Nat) (x1 : Int32) (x2 : Int32) (s0 : Nat) (σ : Hp) : Prop :=
wX9_node_L29 post x0 x1 x2 (1 : Int32) s0 σ
def wX9_node (x0 : Nat) (x1 : Int32) (x2 : Int32) (σ : Hp) (post : Int32 → Hp → Prop) : Prop :=
(tg_ σ x0 = 9 ∧ (wX9_in x1 (0 : Int32) ((fI_ σ 8 35 x0) - (1 : Int32)) σ (fun r18 => ((r18 = 0 →
  wX9_node_L28 post x0 x1 x2 x0 σ) ∧
 (¬ r18 = 0 →
  (wX9_in x2 (0 : Int32) (3 : Int32) σ (fun r20 => ((r20 = 0 →
   wX9_node_L28 post x0 x1 x2 x0 σ) ∧
  (¬ r20 = 0 →
   wX9_node_L29 post x0 x1 x2 (0 : Int32) x0 σ)))))))))
set_option maxHeartbeats 4000000 in
theorem sX9_node_L29 {G : GG_} {p : Program} {l : Launch} {e : Env} {R : Room} {s : State} {m : MethodId} {args : Array Value} {below : List Frame} {meth : Method} {c : Code} (Y : MX_ G p R s m args meth c cX9_node 3 RX9 (some Jvm.ClassFile.FieldType.int) 2 42 0 0 "node") {post : Int32 → Hp → Prop} {x0 : Nat} {x1 : Int32} {x2 : Int32} {s0 : Int32} {s1 : Nat} {σ : Hp} (hf : wX9_node_L29 post x0 x1 x2 s0 s1 σ) : WG_ G p l e R s m args below meth c (MQ below (QI_ G post) args s 0 0 (FR_ G)) BN_ 3 29 [(0, rv_ x0), (1, .int x1), (2, .int x2)] [.int s0, rv_ s1] σ := by
  have ⟨X, hlk, hr, hRf, hRl, hRc, hnm⟩ := Y
  have ⟨⟨hx, hb, _, hown, hts⟩, _, _⟩ := X
  intro H locs cells slots ls hP hL hB hl
  obtain ⟨rfl, rfl⟩ := hB
  unfold wX9_node_L29 at hf
  obtain ⟨ht1, hf⟩ := hf
  refine p_pI X cf8_ (k := 0) (by decide) rfl hP hL ht1 (p_ow hP ht1 rfl) q1295 (fun _ h => h) (Or.inl rfl) rfl rfl dX9_node_29 (fun H locs hP hL => ?_)
  refine p_nmP hP (fun σ2 hσ2 hP => ?_)
  have hf := hf σ2 hσ2
  have ht1 : tg_ σ2 s1 = 9 := by rw [hσ2]; exact ht1
  refine p_aload_n hx hb dX9_node_32 rfl (lv_at hl 0 rfl) ?_
  obtain ⟨ht3, hf⟩ := hf
  refine p_gI X cf8_ (k := 0) (by decide) rfl hP ht3 q1295 (fun _ h => h) dX9_node_33 ?_
  refine lv_iconst (v := 1) hx hb dX9_node_36 (by decide) ?_
  refine lv_icmp_ne (tgt := 42) hx hb dX9_node_37 (by decide) (fun c4 => ?_) (fun c4 => ?_)
  · have hf := hf.1 c4
    refine lv_iload_n hx hb dX9_node_42 rfl (lv_at hl 2 rfl) ?_
    refine lv_if_ne (tgt := 55) hx hb dX9_node_43 (by decide) (fun c5 => ?_) (fun c5 => ?_)
    · have hf := hf.1 c5
      refine lv_iload_n hx hb dX9_node_55 rfl (lv_at hl 2 rfl) ?_
      refine lv_iconst (v := 1) hx hb dX9_node_56 (by decide) ?_
      refine lv_icmp_ne (tgt := 77) hx hb dX9_node_57 (by decide) (fun c6 => ?_) (fun c6 => ?_)
      · have hf := hf.1 c6
        refine lv_iload_n hx hb dX9_node_77 rfl (lv_at hl 2 rfl) ?_
        refine lv_iconst (v := 2) hx hb dX9_node_78 (by decide) ?_
        refine lv_icmp_ne (tgt := 91) hx hb dX9_node_79 (by decide) (fun c7 => ?_) (fun c7 => ?_)
        · have hf := hf.1 c7
          refine p_aload_n hx hb dX9_node_91 rfl (lv_at hl 0 rfl) ?_
          refine p_gR X cf8_ (k := 39) (by decide) rfl hP ht3 q1333 (fun _ h => h) dX9_node_92 ?_
          refine lv_iload_n hx hb dX9_node_95 rfl (lv_at hl 1 rfl) ?_
          obtain ⟨ht8, hf⟩ := hf
          obtain ⟨hi9, hf⟩ := hf
          refine p_iald X hP ht8 hi9 dX9_node_96 ?_
          exact p_iret X hlk hP hL (Nat.le_refl _) (Nat.le_refl _) hr dX9_node_97 hf
        · have hf := hf.2 c7
          refine p_aload_n hx hb dX9_node_82 rfl (lv_at hl 0 rfl) ?_
          refine p_gR X cf8_ (k := 38) (by decide) rfl hP ht3 q1332 (fun _ h => h) dX9_node_83 ?_
          refine lv_iload_n hx hb dX9_node_86 rfl (lv_at hl 1 rfl) ?_
          obtain ⟨ht10, hf⟩ := hf
          obtain ⟨hi11, hf⟩ := hf
          refine p_iald X hP ht10 hi11 dX9_node_87 ?_
          refine lv_goto (tgt := 97) hx hb dX9_node_88 (by decide) ?_
          exact p_iret X hlk hP hL (Nat.le_refl _) (Nat.le_refl _) hr dX9_node_97 hf
      · have hf := hf.2 c6
        refine p_aload_n hx hb dX9_node_60 rfl (lv_at hl 0 rfl) ?_
        refine p_gR X cf8_ (k := 37) (by decide) rfl hP ht3 q1331 (fun _ h => h) dX9_node_61 ?_
        refine lv_iload_n hx hb dX9_node_64 rfl (lv_at hl 1 rfl) ?_
        obtain ⟨ht12, hf⟩ := hf
        obtain ⟨hi13, hf⟩ := hf
        refine p_zald X hP ht12 hi13 dX9_node_65 ?_
        refine lv_if_eq (tgt := 73) hx hb dX9_node_66 (by decide) (fun c14 => ?_) (fun c14 => ?_)
        · have hf := hf.1 c14
          refine lv_iconst (v := 1) hx hb dX9_node_73 (by decide) ?_
          refine lv_goto (tgt := 97) hx hb dX9_node_74 (by decide) ?_
          exact p_iret X hlk hP hL (Nat.le_refl _) (Nat.le_refl _) hr dX9_node_97 hf
        · have hf := hf.2 c14
          refine lv_iconst (v := 0) hx hb dX9_node_69 (by decide) ?_
          refine lv_goto (tgt := 97) hx hb dX9_node_70 (by decide) ?_
          exact p_iret X hlk hP hL (Nat.le_refl _) (Nat.le_refl _) hr dX9_node_97 hf
    · have hf := hf.2 c5
      refine p_aload_n hx hb dX9_node_46 rfl (lv_at hl 0 rfl) ?_
      refine p_gR X cf8_ (k := 36) (by decide) rfl hP ht3 q1330 (fun _ h => h) dX9_node_47 ?_
      refine lv_iload_n hx hb dX9_node_50 rfl (lv_at hl 1 rfl) ?_
      obtain ⟨ht15, hf⟩ := hf
      obtain ⟨hi16, hf⟩ := hf
      refine p_iald X hP ht15 hi16 dX9_node_51 ?_
      refine lv_goto (tgt := 97) hx hb dX9_node_52 (by decide) ?_
      exact p_iret X hlk hP hL (Nat.le_refl _) (Nat.le_refl _) hr dX9_node_97 hf
  · have hf := hf.2 c4
    refine lv_iconst (v := 0) hx hb dX9_node_40 (by decide) ?_
    exact p_iret X hlk hP hL (Nat.le_refl _) (Nat.le_refl _) hr dX9_node_41 hf
set_option maxHeartbeats 4000000 in
theorem sX9_node_L28 {G : GG_} {p : Program} {l : Launch} {e : Env} {R : Room} {s : State} {m : MethodId} {args : Array Value} {below : List Frame} {meth : Method} {c : Code} (Y : MX_ G p R s m args meth c cX9_node 3 RX9 (some Jvm.ClassFile.FieldType.int) 2 42 0 0 "node") {post : Int32 → Hp → Prop} {x0 : Nat} {x1 : Int32} {x2 : Int32} {s0 : Nat} {σ : Hp} (hf : wX9_node_L28 post x0 x1 x2 s0 σ) : WG_ G p l e R s m args below meth c (MQ below (QI_ G post) args s 0 0 (FR_ G)) BN_ 3 28 [(0, rv_ x0), (1, .int x1), (2, .int x2)] [rv_ s0] σ := by
  have ⟨X, hlk, hr, hRf, hRl, hRc, hnm⟩ := Y
  have ⟨⟨hx, hb, _, hown, hts⟩, _, _⟩ := X
  intro H locs cells slots ls hP hL hB hl
  obtain ⟨rfl, rfl⟩ := hB
  unfold wX9_node_L28 at hf
  refine lv_iconst (v := 1) hx hb dX9_node_28 (by decide) ?_
  exact sX9_node_L29 Y hf _ _ _ _ _ hP hL ⟨rfl, rfl⟩ (lv_sub hl [0, 1, 2] rfl)
set_option maxHeartbeats 4000000 in
theorem sX9_node {G : GG_} {p : Program} {l : Launch} {e : Env} {R : Room} {s : State} {m : MethodId} {args : Array Value} {below : List Frame} {meth : Method} {c : Code} (Y : MX_ G p R s m args meth c cX9_node 3 RX9 (some Jvm.ClassFile.FieldType.int) 2 42 0 0 "node") {post : Int32 → Hp → Prop} {x0 : Nat} {x1 : Int32} {x2 : Int32} {σ : Hp} (hf : wX9_node x0 x1 x2 σ post) : WG_ G p l e R s m args below meth c (MQ below (QI_ G post) args s 0 0 (FR_ G)) BN_ 3 0 [(0, rv_ x0), (1, .int x1), (2, .int x2)] [] σ := by
  have ⟨X, hlk, hr, hRf, hRl, hRc, hnm⟩ := Y
  have ⟨⟨hx, hb, _, hown, hts⟩, _, _⟩ := X
  intro H locs cells slots ls hP hL hB hl
  obtain ⟨rfl, rfl⟩ := hB
  unfold wX9_node at hf
  refine p_aload_n hx hb dX9_node_0 rfl (lv_at hl 0 rfl) ?_
  refine lv_iload_n hx hb dX9_node_1 rfl (lv_at hl 1 rfl) ?_
  refine lv_iconst (v := 0) hx hb dX9_node_2 (by decide) ?_
  refine p_aload_n hx hb dX9_node_3 rfl (lv_at hl 0 rfl) ?_
  obtain ⟨ht17, hf⟩ := hf
  refine p_gI X cf8_ (k := 35) (by decide) rfl hP ht17 q1329 (fun _ h => h) dX9_node_4 ?_
  refine lv_iconst (v := 1) hx hb dX9_node_7 (by decide) ?_
  refine lv_isub hx hb dX9_node_8 ?_
  refine p_calli hL (p_runS X hP (metX9_in l G _ _ _ _ _ X.2.2 hf) (va_cwS 3 hts (lw_S q1427 q1428 q106 q1429) rfl rfl rfl (by decide +kernel) ⟨Nat.le_trans (Nat.le_of_ble_eq_true rfl) hRf, Nat.le_trans (Nat.le_of_ble_eq_true rfl) hRl⟩) rfl hl.1 rfl (by rw [(ca_r ca_n)]; decide) dX9_node_9 ⟨Nat.zero_le _, Nat.zero_le _⟩) (fun r18 σ₁ H locs hf hP hL => ?_)
  obtain ⟨e₁, hf⟩ := hf
  rw [e₁] at hP
  refine lv_if_eq (tgt := 28) hx hb dX9_node_12 (by decide) (fun c19 => ?_) (fun c19 => ?_)
  · have hf := hf.1 c19
    exact sX9_node_L28 Y hf _ _ _ _ _ hP hL ⟨rfl, rfl⟩ (lv_sub hl [0, 1, 2] rfl)
  · have hf := hf.2 c19
    refine lv_iload_n hx hb dX9_node_15 rfl (lv_at hl 2 rfl) ?_
    refine lv_iconst (v := 0) hx hb dX9_node_16 (by decide) ?_
    refine lv_iconst (v := 3) hx hb dX9_node_17 (by decide) ?_
    refine p_calli hL (p_runS X hP (metX9_in l G _ _ _ _ _ X.2.2 hf) (va_cwS 3 hts (lw_S q1427 q1428 q106 q1429) rfl rfl rfl (by decide +kernel) ⟨Nat.le_trans (Nat.le_of_ble_eq_true rfl) hRf, Nat.le_trans (Nat.le_of_ble_eq_true rfl) hRl⟩) rfl hl.1 rfl (by rw [(ca_r ca_n)]; decide) dX9_node_18 ⟨Nat.zero_le _, Nat.zero_le _⟩) (fun r20 σ₁ H locs hf hP hL => ?_)
    obtain ⟨e₁, hf⟩ := hf
    rw [e₁] at hP
    refine lv_if_eq (tgt := 28) hx hb dX9_node_21 (by decide) (fun c21 => ?_) (fun c21 => ?_)
    · have hf := hf.1 c21
      exact sX9_node_L28 Y hf _ _ _ _ _ hP hL ⟨rfl, rfl⟩ (lv_sub hl [0, 1, 2] rfl)
    · have hf := hf.2 c21
      refine lv_iconst (v := 0) hx hb dX9_node_24 (by decide) ?_
      refine lv_goto (tgt := 29) hx hb dX9_node_25 (by decide) ?_
      exact sX9_node_L29 Y hf _ _ _ _ _ hP hL ⟨rfl, rfl⟩ (lv_sub hl [0, 1, 2] rfl)
set_option maxHeartbeats 4000000 in
theorem metX9_node (l : Launch) (G : GG_) (x0 : Nat) (x1 : Int32) (x2 : Int32) (σ : Hp) (post : Int32 → Hp → Prop) (hG : GOK_ G) (hf : wX9_node x0 x1 x2 σ post) : Met l yX9_node (ws_ yX9_node cX9_node 3 (some Jvm.ClassFile.FieldType.int)) { frames := 2, cells := 0, slots := 0, locals := 42 } (PC_ G [rv_ x0, .int x1, .int x2] σ) (QI_ G post) 0 0 (FR_ G) := by
  refine Met.ofW (cc := cX9_node) (maxL := 3) (ret := (some Jvm.ClassFile.FieldType.int)) (by decide) rfl ?_
  intro p e s m args below meth c s₁ B hml hv
  obtain ⟨rfl, hP, hW⟩ := hv
  have hts := atoms_spec (ws := ws_ yX9_node cX9_node 3 (some Jvm.ClassFile.FieldType.int)) B.pre
  have hts : ∀ w ∈ lw_all, w.before _ s = true := fun w h => hts w (List.mem_cons_of_mem _ h)
  rw [lg_entry_eq]
  have hl := en_entry [rv_ x0, .int x1, .int x2] [1, 1, 1] (n := 3) (ca_r (ca_i (ca_i ca_n))) (by decide)
  exact sX9_node ⟨⟨⟨B.exec, B.bytes, hml, findClass_of_methodNamed B.named, hts⟩, hW, hG⟩, B.notSynchronized, B.returns, Nat.le_refl _, Nat.le_refl _, ⟨rfl, rfl⟩, (name_of_methodNamed B.named B.method).1⟩ hf _ _ _ _ _ hP (LO_nil G) ⟨rfl, rfl⟩ hl
abbrev cX9_name : ByteArray := prog_11_method_69_code
def yX9_name : MethodName := ⟨RX9, "name", "(I)J"⟩
theorem dX9_name_0 : decode cX9_name 0 = .ok (.aload_n 0, 1) := by decide +kernel
theorem dX9_name_1 : decode cX9_name 1 = .ok (.iload_n 1, 1) := by decide +kernel
theorem dX9_name_2 : decode cX9_name 2 = .ok (.iconst 0, 1) := by decide +kernel
theorem dX9_name_3 : decode cX9_name 3 = .ok (.aload_n 0, 1) := by decide +kernel
theorem dX9_name_4 : decode cX9_name 4 = .ok (.getfield 254, 3) := by decide +kernel
theorem dX9_name_7 : decode cX9_name 7 = .ok (.iconst 1, 1) := by decide +kernel
theorem dX9_name_8 : decode cX9_name 8 = .ok (.isub, 1) := by decide +kernel
theorem dX9_name_9 : decode cX9_name 9 = .ok (.invokestatic 118, 3) := by decide +kernel
theorem dX9_name_12 : decode cX9_name 12 = .ok (.ifCond .eq 7, 3) := by decide +kernel
theorem dX9_name_15 : decode cX9_name 15 = .ok (.iconst 0, 1) := by decide +kernel
theorem dX9_name_16 : decode cX9_name 16 = .ok (.goto 4, 3) := by decide +kernel
theorem dX9_name_19 : decode cX9_name 19 = .ok (.iconst 1, 1) := by decide +kernel
theorem dX9_name_20 : decode cX9_name 20 = .ok (.putfield 109, 3) := by decide +kernel
theorem dX9_name_23 : decode cX9_name 23 = .ok (.aload_n 0, 1) := by decide +kernel
theorem dX9_name_24 : decode cX9_name 24 = .ok (.getfield 109, 3) := by decide +kernel
theorem dX9_name_27 : decode cX9_name 27 = .ok (.iconst 1, 1) := by decide +kernel
theorem dX9_name_28 : decode cX9_name 28 = .ok (.if_icmp .ne 7, 3) := by decide +kernel
theorem dX9_name_31 : decode cX9_name 31 = .ok (.lconst 0, 1) := by decide +kernel
theorem dX9_name_32 : decode cX9_name 32 = .ok (.goto 9, 3) := by decide +kernel
theorem dX9_name_35 : decode cX9_name 35 = .ok (.aload_n 0, 1) := by decide +kernel
theorem dX9_name_36 : decode cX9_name 36 = .ok (.getfield 96, 3) := by decide +kernel
theorem dX9_name_39 : decode cX9_name 39 = .ok (.iload_n 1, 1) := by decide +kernel
theorem dX9_name_40 : decode cX9_name 40 = .ok (.laload, 1) := by decide +kernel
theorem dX9_name_41 : decode cX9_name 41 = .ok (.lreturn, 1) := by decide +kernel
/-- WriteOnceDiscModel.name(I)J -/
def wX9_name_L20 (post : Int64 → Hp → Prop) (x0 : Nat) (x1 : Int32) (s0 : Int32) (s1 : Nat) (σ : Hp) : Prop :=
(tg_ σ s1 = 9 ∧ (∀ σ2, σ2 = sI_ σ 8 0 s1 s0 → (tg_ σ2 x0 = 9 ∧ ((¬ (fI_ σ2 8 0 x0) = (1 : Int32) →
  (tg_ σ2 (fR_ σ2 8 40 x0) = 103 ∧ (vp_in x1 (ln_ σ2 (fR_ σ2 8 40 x0)) ∧ post (aL_ σ2 (fR_ σ2 8 40 x0) (x1).toNatClampNeg) σ2))) ∧
 ((fI_ σ2 8 0 x0) = (1 : Int32) →
  post (0 : Int64) σ2)))))
def wX9_name (x0 : Nat) (x1 : Int32) (σ : Hp) (post : Int64 → Hp → Prop) : Prop :=
(tg_ σ x0 = 9 ∧ (wX9_in x1 (0 : Int32) ((fI_ σ 8 35 x0) - (1 : Int32)) σ (fun r8 => ((r8 = 0 →
  wX9_name_L20 post x0 x1 (1 : Int32) x0 σ) ∧
 (¬ r8 = 0 →
  wX9_name_L20 post x0 x1 (0 : Int32) x0 σ)))))
set_option maxHeartbeats 4000000 in
theorem sX9_name_L20 {G : GG_} {p : Program} {l : Launch} {e : Env} {R : Room} {s : State} {m : MethodId} {args : Array Value} {below : List Frame} {meth : Method} {c : Code} (Y : MX_ G p R s m args meth c cX9_name 2 RX9 (some Jvm.ClassFile.FieldType.long) 2 42 0 0 "name") {post : Int64 → Hp → Prop} {x0 : Nat} {x1 : Int32} {s0 : Int32} {s1 : Nat} {σ : Hp} (hf : wX9_name_L20 post x0 x1 s0 s1 σ) : WG_ G p l e R s m args below meth c (MQ below (QL_ G post) args s 0 0 (FR_ G)) BN_ 2 20 [(0, rv_ x0), (1, .int x1)] [.int s0, rv_ s1] σ := by
  have ⟨X, hlk, hr, hRf, hRl, hRc, hnm⟩ := Y
  have ⟨⟨hx, hb, _, hown, hts⟩, _, _⟩ := X
  intro H locs cells slots ls hP hL hB hl
  obtain ⟨rfl, rfl⟩ := hB
  unfold wX9_name_L20 at hf
  obtain ⟨ht1, hf⟩ := hf
  refine p_pI X cf8_ (k := 0) (by decide) rfl hP hL ht1 (p_ow hP ht1 rfl) q1295 (fun _ h => h) (Or.inl rfl) rfl rfl dX9_name_20 (fun H locs hP hL => ?_)
  refine p_nmP hP (fun σ2 hσ2 hP => ?_)
  have hf := hf σ2 hσ2
  have ht1 : tg_ σ2 s1 = 9 := by rw [hσ2]; exact ht1
  refine p_aload_n hx hb dX9_name_23 rfl (lv_at hl 0 rfl) ?_
  obtain ⟨ht3, hf⟩ := hf
  refine p_gI X cf8_ (k := 0) (by decide) rfl hP ht3 q1295 (fun _ h => h) dX9_name_24 ?_
  refine lv_iconst (v := 1) hx hb dX9_name_27 (by decide) ?_
  refine lv_icmp_ne (tgt := 35) hx hb dX9_name_28 (by decide) (fun c4 => ?_) (fun c4 => ?_)
  · have hf := hf.1 c4
    refine p_aload_n hx hb dX9_name_35 rfl (lv_at hl 0 rfl) ?_
    refine p_gR X cf8_ (k := 40) (by decide) rfl hP ht3 q1334 (fun _ h => h) dX9_name_36 ?_
    refine lv_iload_n hx hb dX9_name_39 rfl (lv_at hl 1 rfl) ?_
    obtain ⟨ht5, hf⟩ := hf
    obtain ⟨hi6, hf⟩ := hf
    refine p_lald X hP ht5 hi6 dX9_name_40 ?_
    exact p_lret X hlk hP hL (Nat.le_refl _) (Nat.le_refl _) hr dX9_name_41 hf
  · have hf := hf.2 c4
    refine lv_lconst (v := 0) hx hb dX9_name_31 (by decide) ?_
    refine lv_goto (tgt := 41) hx hb dX9_name_32 (by decide) ?_
    exact p_lret X hlk hP hL (Nat.le_refl _) (Nat.le_refl _) hr dX9_name_41 hf
set_option maxHeartbeats 4000000 in
theorem sX9_name {G : GG_} {p : Program} {l : Launch} {e : Env} {R : Room} {s : State} {m : MethodId} {args : Array Value} {below : List Frame} {meth : Method} {c : Code} (Y : MX_ G p R s m args meth c cX9_name 2 RX9 (some Jvm.ClassFile.FieldType.long) 2 42 0 0 "name") {post : Int64 → Hp → Prop} {x0 : Nat} {x1 : Int32} {σ : Hp} (hf : wX9_name x0 x1 σ post) : WG_ G p l e R s m args below meth c (MQ below (QL_ G post) args s 0 0 (FR_ G)) BN_ 2 0 [(0, rv_ x0), (1, .int x1)] [] σ := by
  have ⟨X, hlk, hr, hRf, hRl, hRc, hnm⟩ := Y
  have ⟨⟨hx, hb, _, hown, hts⟩, _, _⟩ := X
  intro H locs cells slots ls hP hL hB hl
  obtain ⟨rfl, rfl⟩ := hB
  unfold wX9_name at hf
  refine p_aload_n hx hb dX9_name_0 rfl (lv_at hl 0 rfl) ?_
  refine lv_iload_n hx hb dX9_name_1 rfl (lv_at hl 1 rfl) ?_
  refine lv_iconst (v := 0) hx hb dX9_name_2 (by decide) ?_
  refine p_aload_n hx hb dX9_name_3 rfl (lv_at hl 0 rfl) ?_
  obtain ⟨ht7, hf⟩ := hf
  refine p_gI X cf8_ (k := 35) (by decide) rfl hP ht7 q1329 (fun _ h => h) dX9_name_4 ?_
  refine lv_iconst (v := 1) hx hb dX9_name_7 (by decide) ?_
  refine lv_isub hx hb dX9_name_8 ?_
  refine p_calli hL (p_runS X hP (metX9_in l G _ _ _ _ _ X.2.2 hf) (va_cwS 3 hts (lw_S q1427 q1428 q106 q1429) rfl rfl rfl (by decide +kernel) ⟨Nat.le_trans (Nat.le_of_ble_eq_true rfl) hRf, Nat.le_trans (Nat.le_of_ble_eq_true rfl) hRl⟩) rfl hl.1 rfl (by rw [(ca_r ca_n)]; decide) dX9_name_9 ⟨Nat.zero_le _, Nat.zero_le _⟩) (fun r8 σ₁ H locs hf hP hL => ?_)
  obtain ⟨e₁, hf⟩ := hf
  rw [e₁] at hP
  refine lv_if_eq (tgt := 19) hx hb dX9_name_12 (by decide) (fun c9 => ?_) (fun c9 => ?_)
  · have hf := hf.1 c9
    refine lv_iconst (v := 1) hx hb dX9_name_19 (by decide) ?_
    exact sX9_name_L20 Y hf _ _ _ _ _ hP hL ⟨rfl, rfl⟩ (lv_sub hl [0, 1] rfl)
  · have hf := hf.2 c9
    refine lv_iconst (v := 0) hx hb dX9_name_15 (by decide) ?_
    refine lv_goto (tgt := 20) hx hb dX9_name_16 (by decide) ?_
    exact sX9_name_L20 Y hf _ _ _ _ _ hP hL ⟨rfl, rfl⟩ (lv_sub hl [0, 1] rfl)
set_option maxHeartbeats 4000000 in
theorem metX9_name (l : Launch) (G : GG_) (x0 : Nat) (x1 : Int32) (σ : Hp) (post : Int64 → Hp → Prop) (hG : GOK_ G) (hf : wX9_name x0 x1 σ post) : Met l yX9_name (ws_ yX9_name cX9_name 2 (some Jvm.ClassFile.FieldType.long)) { frames := 2, cells := 0, slots := 0, locals := 42 } (PC_ G [rv_ x0, .int x1] σ) (QL_ G post) 0 0 (FR_ G) := by
  refine Met.ofW (cc := cX9_name) (maxL := 2) (ret := (some Jvm.ClassFile.FieldType.long)) (by decide) rfl ?_
  intro p e s m args below meth c s₁ B hml hv
  obtain ⟨rfl, hP, hW⟩ := hv
  have hts := atoms_spec (ws := ws_ yX9_name cX9_name 2 (some Jvm.ClassFile.FieldType.long)) B.pre
  have hts : ∀ w ∈ lw_all, w.before _ s = true := fun w h => hts w (List.mem_cons_of_mem _ h)
  rw [lg_entry_eq]
  have hl := en_entry [rv_ x0, .int x1] [1, 1] (n := 2) (ca_r (ca_i ca_n)) (by decide)
  exact sX9_name ⟨⟨⟨B.exec, B.bytes, hml, findClass_of_methodNamed B.named, hts⟩, hW, hG⟩, B.notSynchronized, B.returns, Nat.le_refl _, Nat.le_refl _, ⟨rfl, rfl⟩, (name_of_methodNamed B.named B.method).1⟩ hf _ _ _ _ _ hP (LO_nil G) ⟨rfl, rfl⟩ hl
abbrev cX9_read : ByteArray := prog_11_method_70_code
def yX9_read : MethodName := ⟨RX9, "read", "(II)I"⟩
theorem dX9_read_0 : decode cX9_read 0 = .ok (.aload_n 0, 1) := by decide +kernel
theorem dX9_read_1 : decode cX9_read 1 = .ok (.iload_n 1, 1) := by decide +kernel
theorem dX9_read_2 : decode cX9_read 2 = .ok (.iconst 0, 1) := by decide +kernel
theorem dX9_read_3 : decode cX9_read 3 = .ok (.aload_n 0, 1) := by decide +kernel
theorem dX9_read_4 : decode cX9_read 4 = .ok (.getfield 254, 3) := by decide +kernel
theorem dX9_read_7 : decode cX9_read 7 = .ok (.iconst 1, 1) := by decide +kernel
theorem dX9_read_8 : decode cX9_read 8 = .ok (.isub, 1) := by decide +kernel
theorem dX9_read_9 : decode cX9_read 9 = .ok (.invokestatic 118, 3) := by decide +kernel
theorem dX9_read_12 : decode cX9_read 12 = .ok (.ifCond .eq 32, 3) := by decide +kernel
theorem dX9_read_15 : decode cX9_read 15 = .ok (.aload_n 0, 1) := by decide +kernel
theorem dX9_read_16 : decode cX9_read 16 = .ok (.getfield 87, 3) := by decide +kernel
theorem dX9_read_19 : decode cX9_read 19 = .ok (.iload_n 1, 1) := by decide +kernel
theorem dX9_read_20 : decode cX9_read 20 = .ok (.baload, 1) := by decide +kernel
theorem dX9_read_21 : decode cX9_read 21 = .ok (.ifCond .ne 23, 3) := by decide +kernel
theorem dX9_read_24 : decode cX9_read 24 = .ok (.iload_n 2, 1) := by decide +kernel
theorem dX9_read_25 : decode cX9_read 25 = .ok (.iconst 0, 1) := by decide +kernel
theorem dX9_read_26 : decode cX9_read 26 = .ok (.aload_n 0, 1) := by decide +kernel
theorem dX9_read_27 : decode cX9_read 27 = .ok (.getfield 90, 3) := by decide +kernel
theorem dX9_read_30 : decode cX9_read 30 = .ok (.iload_n 1, 1) := by decide +kernel
theorem dX9_read_31 : decode cX9_read 31 = .ok (.iaload, 1) := by decide +kernel
theorem dX9_read_32 : decode cX9_read 32 = .ok (.iconst 1, 1) := by decide +kernel
theorem dX9_read_33 : decode cX9_read 33 = .ok (.isub, 1) := by decide +kernel
theorem dX9_read_34 : decode cX9_read 34 = .ok (.invokestatic 118, 3) := by decide +kernel
theorem dX9_read_37 : decode cX9_read 37 = .ok (.ifCond .eq 7, 3) := by decide +kernel
theorem dX9_read_40 : decode cX9_read 40 = .ok (.iconst 0, 1) := by decide +kernel
theorem dX9_read_41 : decode cX9_read 41 = .ok (.goto 4, 3) := by decide +kernel
theorem dX9_read_44 : decode cX9_read 44 = .ok (.iconst 1, 1) := by decide +kernel
theorem dX9_read_45 : decode cX9_read 45 = .ok (.putfield 109, 3) := by decide +kernel
theorem dX9_read_48 : decode cX9_read 48 = .ok (.aload_n 0, 1) := by decide +kernel
theorem dX9_read_49 : decode cX9_read 49 = .ok (.getfield 109, 3) := by decide +kernel
theorem dX9_read_52 : decode cX9_read 52 = .ok (.iconst 1, 1) := by decide +kernel
theorem dX9_read_53 : decode cX9_read 53 = .ok (.if_icmp .ne 7, 3) := by decide +kernel
theorem dX9_read_56 : decode cX9_read 56 = .ok (.iconst 0, 1) := by decide +kernel
theorem dX9_read_57 : decode cX9_read 57 = .ok (.goto 19, 3) := by decide +kernel
theorem dX9_read_60 : decode cX9_read 60 = .ok (.aload_n 0, 1) := by decide +kernel
theorem dX9_read_61 : decode cX9_read 61 = .ok (.sipush 2048, 3) := by decide +kernel
theorem dX9_read_64 : decode cX9_read 64 = .ok (.aload_n 0, 1) := by decide +kernel
theorem dX9_read_65 : decode cX9_read 65 = .ok (.getfield 93, 3) := by decide +kernel
theorem dX9_read_68 : decode cX9_read 68 = .ok (.iload_n 1, 1) := by decide +kernel
theorem dX9_read_69 : decode cX9_read 69 = .ok (.iaload, 1) := by decide +kernel
theorem dX9_read_70 : decode cX9_read 70 = .ok (.imul, 1) := by decide +kernel
theorem dX9_read_71 : decode cX9_read 71 = .ok (.iload_n 2, 1) := by decide +kernel
theorem dX9_read_72 : decode cX9_read 72 = .ok (.iadd, 1) := by decide +kernel
theorem dX9_read_73 : decode cX9_read 73 = .ok (.invokevirtual 225, 3) := by decide +kernel
theorem dX9_read_76 : decode cX9_read 76 = .ok (.ireturn, 1) := by decide +kernel
/-- WriteOnceDiscModel.read(II)I -/
def wX9_read_L45 (post : Int32 → Hp → Prop) (x0 : Nat) (x1 : Int32) (x2 : Int32) (s0 : Int32) (s1 : Nat) (σ : Hp) : Prop :=
(tg_ σ s1 = 9 ∧ (∀ σ2, σ2 = sI_ σ 8 0 s1 s0 → (tg_ σ2 x0 = 9 ∧ ((¬ (fI_ σ2 8 0 x0) = (1 : Int32) →
  (tg_ σ2 (fR_ σ2 8 39 x0) = 102 ∧ (vp_in x1 (ln_ σ2 (fR_ σ2 8 39 x0)) ∧ (wX9_get x0 (((2048 : Int32) * (aI_ σ2 (fR_ σ2 8 39 x0) (x1).toNatClampNeg)) + x2) σ2 (fun r7 => post r7 σ2))))) ∧
 ((fI_ σ2 8 0 x0) = (1 : Int32) →
  post (0 : Int32) σ2)))))
def wX9_read_L44 (post : Int32 → Hp → Prop) (x0 : Nat) (x1 : Int32) (x2 : Int32) (s0 : Nat) (σ : Hp) : Prop :=
wX9_read_L45 post x0 x1 x2 (1 : Int32) s0 σ
def wX9_read (x0 : Nat) (x1 : Int32) (x2 : Int32) (σ : Hp) (post : Int32 → Hp → Prop) : Prop :=
(tg_ σ x0 = 9 ∧ (wX9_in x1 (0 : Int32) ((fI_ σ 8 35 x0) - (1 : Int32)) σ (fun r9 => ((r9 = 0 →
  wX9_read_L44 post x0 x1 x2 x0 σ) ∧
 (¬ r9 = 0 →
  (tg_ σ (fR_ σ 8 37 x0) = 101 ∧ (vp_in x1 (ln_ σ (fR_ σ 8 37 x0)) ∧ ((¬ (aI_ σ (fR_ σ 8 37 x0) (x1).toNatClampNeg) = 0 →
   wX9_read_L44 post x0 x1 x2 x0 σ) ∧
  ((aI_ σ (fR_ σ 8 37 x0) (x1).toNatClampNeg) = 0 →
   (tg_ σ (fR_ σ 8 38 x0) = 102 ∧ (vp_in x1 (ln_ σ (fR_ σ 8 38 x0)) ∧ (wX9_in x2 (0 : Int32) ((aI_ σ (fR_ σ 8 38 x0) (x1).toNatClampNeg) - (1 : Int32)) σ (fun r16 => ((r16 = 0 →
    wX9_read_L44 post x0 x1 x2 x0 σ) ∧
   (¬ r16 = 0 →
    wX9_read_L45 post x0 x1 x2 (0 : Int32) x0 σ)))))))))))))))
set_option maxHeartbeats 4000000 in
theorem sX9_read_L45 {G : GG_} {p : Program} {l : Launch} {e : Env} {R : Room} {s : State} {m : MethodId} {args : Array Value} {below : List Frame} {meth : Method} {c : Code} (Y : MX_ G p R s m args meth c cX9_read 3 RX9 (some Jvm.ClassFile.FieldType.int) 2 42 0 0 "read") {post : Int32 → Hp → Prop} {x0 : Nat} {x1 : Int32} {x2 : Int32} {s0 : Int32} {s1 : Nat} {σ : Hp} (hf : wX9_read_L45 post x0 x1 x2 s0 s1 σ) : WG_ G p l e R s m args below meth c (MQ below (QI_ G post) args s 0 0 (FR_ G)) BN_ 3 45 [(0, rv_ x0), (1, .int x1), (2, .int x2)] [.int s0, rv_ s1] σ := by
  have ⟨X, hlk, hr, hRf, hRl, hRc, hnm⟩ := Y
  have ⟨⟨hx, hb, _, hown, hts⟩, _, _⟩ := X
  intro H locs cells slots ls hP hL hB hl
  obtain ⟨rfl, rfl⟩ := hB
  unfold wX9_read_L45 at hf
  obtain ⟨ht1, hf⟩ := hf
  refine p_pI X cf8_ (k := 0) (by decide) rfl hP hL ht1 (p_ow hP ht1 rfl) q1295 (fun _ h => h) (Or.inl rfl) rfl rfl dX9_read_45 (fun H locs hP hL => ?_)
  refine p_nmP hP (fun σ2 hσ2 hP => ?_)
  have hf := hf σ2 hσ2
  have ht1 : tg_ σ2 s1 = 9 := by rw [hσ2]; exact ht1
  refine p_aload_n hx hb dX9_read_48 rfl (lv_at hl 0 rfl) ?_
  obtain ⟨ht3, hf⟩ := hf
  refine p_gI X cf8_ (k := 0) (by decide) rfl hP ht3 q1295 (fun _ h => h) dX9_read_49 ?_
  refine lv_iconst (v := 1) hx hb dX9_read_52 (by decide) ?_
  refine lv_icmp_ne (tgt := 60) hx hb dX9_read_53 (by decide) (fun c4 => ?_) (fun c4 => ?_)
  · have hf := hf.1 c4
    refine p_aload_n hx hb dX9_read_60 rfl (lv_at hl 0 rfl) ?_
    refine lv_sipush (v := 2048) hx hb dX9_read_61 (by decide) ?_
    refine p_aload_n hx hb dX9_read_64 rfl (lv_at hl 0 rfl) ?_
    refine p_gR X cf8_ (k := 39) (by decide) rfl hP ht3 q1333 (fun _ h => h) dX9_read_65 ?_
    refine lv_iload_n hx hb dX9_read_68 rfl (lv_at hl 1 rfl) ?_
    obtain ⟨ht5, hf⟩ := hf
    obtain ⟨hi6, hf⟩ := hf
    refine p_iald X hP ht5 hi6 dX9_read_69 ?_
    refine lv_imul hx hb dX9_read_70 ?_
    refine lv_iload_n hx hb dX9_read_71 rfl (lv_at hl 2 rfl) ?_
    refine lv_iadd hx hb dX9_read_72 ?_
    refine p_calli hL (p_runV X cf8_ hP ht3 (metX9_get l G _ _ _ _ X.2.2 hf) (cwV 1 hts (lw_V q1508 q1510 qs52 q106 q1511) rfl rfl rfl (by decide +kernel) ⟨Nat.le_trans (Nat.le_of_ble_eq_true rfl) hRf, Nat.le_trans (Nat.le_of_ble_eq_true rfl) hRl⟩) rfl hl.1 rfl (by decide) dX9_read_73 ⟨Nat.zero_le _, Nat.zero_le _⟩) (fun r7 σ₁ H locs hf hP hL => ?_)
    obtain ⟨e₁, hf⟩ := hf
    rw [e₁] at hP
    exact p_iret X hlk hP hL (Nat.le_refl _) (Nat.le_refl _) hr dX9_read_76 hf
  · have hf := hf.2 c4
    refine lv_iconst (v := 0) hx hb dX9_read_56 (by decide) ?_
    refine lv_goto (tgt := 76) hx hb dX9_read_57 (by decide) ?_
    exact p_iret X hlk hP hL (Nat.le_refl _) (Nat.le_refl _) hr dX9_read_76 hf
set_option maxHeartbeats 4000000 in
theorem sX9_read_L44 {G : GG_} {p : Program} {l : Launch} {e : Env} {R : Room} {s : State} {m : MethodId} {args : Array Value} {below : List Frame} {meth : Method} {c : Code} (Y : MX_ G p R s m args meth c cX9_read 3 RX9 (some Jvm.ClassFile.FieldType.int) 2 42 0 0 "read") {post : Int32 → Hp → Prop} {x0 : Nat} {x1 : Int32} {x2 : Int32} {s0 : Nat} {σ : Hp} (hf : wX9_read_L44 post x0 x1 x2 s0 σ) : WG_ G p l e R s m args below meth c (MQ below (QI_ G post) args s 0 0 (FR_ G)) BN_ 3 44 [(0, rv_ x0), (1, .int x1), (2, .int x2)] [rv_ s0] σ := by
  have ⟨X, hlk, hr, hRf, hRl, hRc, hnm⟩ := Y
  have ⟨⟨hx, hb, _, hown, hts⟩, _, _⟩ := X
  intro H locs cells slots ls hP hL hB hl
  obtain ⟨rfl, rfl⟩ := hB
  unfold wX9_read_L44 at hf
  refine lv_iconst (v := 1) hx hb dX9_read_44 (by decide) ?_
  exact sX9_read_L45 Y hf _ _ _ _ _ hP hL ⟨rfl, rfl⟩ (lv_sub hl [0, 1, 2] rfl)
set_option maxHeartbeats 4000000 in
theorem sX9_read {G : GG_} {p : Program} {l : Launch} {e : Env} {R : Room} {s : State} {m : MethodId} {args : Array Value} {below : List Frame} {meth : Method} {c : Code} (Y : MX_ G p R s m args meth c cX9_read 3 RX9 (some Jvm.ClassFile.FieldType.int) 2 42 0 0 "read") {post : Int32 → Hp → Prop} {x0 : Nat} {x1 : Int32} {x2 : Int32} {σ : Hp} (hf : wX9_read x0 x1 x2 σ post) : WG_ G p l e R s m args below meth c (MQ below (QI_ G post) args s 0 0 (FR_ G)) BN_ 3 0 [(0, rv_ x0), (1, .int x1), (2, .int x2)] [] σ := by
  have ⟨X, hlk, hr, hRf, hRl, hRc, hnm⟩ := Y
  have ⟨⟨hx, hb, _, hown, hts⟩, _, _⟩ := X
  intro H locs cells slots ls hP hL hB hl
  obtain ⟨rfl, rfl⟩ := hB
  unfold wX9_read at hf
  refine p_aload_n hx hb dX9_read_0 rfl (lv_at hl 0 rfl) ?_
  refine lv_iload_n hx hb dX9_read_1 rfl (lv_at hl 1 rfl) ?_
  refine lv_iconst (v := 0) hx hb dX9_read_2 (by decide) ?_
  refine p_aload_n hx hb dX9_read_3 rfl (lv_at hl 0 rfl) ?_
  obtain ⟨ht8, hf⟩ := hf
  refine p_gI X cf8_ (k := 35) (by decide) rfl hP ht8 q1329 (fun _ h => h) dX9_read_4 ?_
  refine lv_iconst (v := 1) hx hb dX9_read_7 (by decide) ?_
  refine lv_isub hx hb dX9_read_8 ?_
  refine p_calli hL (p_runS X hP (metX9_in l G _ _ _ _ _ X.2.2 hf) (va_cwS 3 hts (lw_S q1427 q1428 q106 q1429) rfl rfl rfl (by decide +kernel) ⟨Nat.le_trans (Nat.le_of_ble_eq_true rfl) hRf, Nat.le_trans (Nat.le_of_ble_eq_true rfl) hRl⟩) rfl hl.1 rfl (by rw [(ca_r ca_n)]; decide) dX9_read_9 ⟨Nat.zero_le _, Nat.zero_le _⟩) (fun r9 σ₁ H locs hf hP hL => ?_)
  obtain ⟨e₁, hf⟩ := hf
  rw [e₁] at hP
  refine lv_if_eq (tgt := 44) hx hb dX9_read_12 (by decide) (fun c10 => ?_) (fun c10 => ?_)
  · have hf := hf.1 c10
    exact sX9_read_L44 Y hf _ _ _ _ _ hP hL ⟨rfl, rfl⟩ (lv_sub hl [0, 1, 2] rfl)
  · have hf := hf.2 c10
    refine p_aload_n hx hb dX9_read_15 rfl (lv_at hl 0 rfl) ?_
    refine p_gR X cf8_ (k := 37) (by decide) rfl hP ht8 q1331 (fun _ h => h) dX9_read_16 ?_
    refine lv_iload_n hx hb dX9_read_19 rfl (lv_at hl 1 rfl) ?_
    obtain ⟨ht11, hf⟩ := hf
    obtain ⟨hi12, hf⟩ := hf
    refine p_zald X hP ht11 hi12 dX9_read_20 ?_
    refine lv_if_ne (tgt := 44) hx hb dX9_read_21 (by decide) (fun c13 => ?_) (fun c13 => ?_)
    · have hf := hf.1 c13
      exact sX9_read_L44 Y hf _ _ _ _ _ hP hL ⟨rfl, rfl⟩ (lv_sub hl [0, 1, 2] rfl)
    · have hf := hf.2 c13
      refine lv_iload_n hx hb dX9_read_24 rfl (lv_at hl 2 rfl) ?_
      refine lv_iconst (v := 0) hx hb dX9_read_25 (by decide) ?_
      refine p_aload_n hx hb dX9_read_26 rfl (lv_at hl 0 rfl) ?_
      refine p_gR X cf8_ (k := 38) (by decide) rfl hP ht8 q1332 (fun _ h => h) dX9_read_27 ?_
      refine lv_iload_n hx hb dX9_read_30 rfl (lv_at hl 1 rfl) ?_
      obtain ⟨ht14, hf⟩ := hf
      obtain ⟨hi15, hf⟩ := hf
      refine p_iald X hP ht14 hi15 dX9_read_31 ?_
      refine lv_iconst (v := 1) hx hb dX9_read_32 (by decide) ?_
      refine lv_isub hx hb dX9_read_33 ?_
      refine p_calli hL (p_runS X hP (metX9_in l G _ _ _ _ _ X.2.2 hf) (va_cwS 3 hts (lw_S q1427 q1428 q106 q1429) rfl rfl rfl (by decide +kernel) ⟨Nat.le_trans (Nat.le_of_ble_eq_true rfl) hRf, Nat.le_trans (Nat.le_of_ble_eq_true rfl) hRl⟩) rfl hl.1 rfl (by rw [(ca_r ca_n)]; decide) dX9_read_34 ⟨Nat.zero_le _, Nat.zero_le _⟩) (fun r16 σ₁ H locs hf hP hL => ?_)
      obtain ⟨e₁, hf⟩ := hf
      rw [e₁] at hP
      refine lv_if_eq (tgt := 44) hx hb dX9_read_37 (by decide) (fun c17 => ?_) (fun c17 => ?_)
      · have hf := hf.1 c17
        exact sX9_read_L44 Y hf _ _ _ _ _ hP hL ⟨rfl, rfl⟩ (lv_sub hl [0, 1, 2] rfl)
      · have hf := hf.2 c17
        refine lv_iconst (v := 0) hx hb dX9_read_40 (by decide) ?_
        refine lv_goto (tgt := 45) hx hb dX9_read_41 (by decide) ?_
        exact sX9_read_L45 Y hf _ _ _ _ _ hP hL ⟨rfl, rfl⟩ (lv_sub hl [0, 1, 2] rfl)
set_option maxHeartbeats 4000000 in
theorem metX9_read (l : Launch) (G : GG_) (x0 : Nat) (x1 : Int32) (x2 : Int32) (σ : Hp) (post : Int32 → Hp → Prop) (hG : GOK_ G) (hf : wX9_read x0 x1 x2 σ post) : Met l yX9_read (ws_ yX9_read cX9_read 3 (some Jvm.ClassFile.FieldType.int)) { frames := 2, cells := 0, slots := 0, locals := 42 } (PC_ G [rv_ x0, .int x1, .int x2] σ) (QI_ G post) 0 0 (FR_ G) := by
  refine Met.ofW (cc := cX9_read) (maxL := 3) (ret := (some Jvm.ClassFile.FieldType.int)) (by decide) rfl ?_
  intro p e s m args below meth c s₁ B hml hv
  obtain ⟨rfl, hP, hW⟩ := hv
  have hts := atoms_spec (ws := ws_ yX9_read cX9_read 3 (some Jvm.ClassFile.FieldType.int)) B.pre
  have hts : ∀ w ∈ lw_all, w.before _ s = true := fun w h => hts w (List.mem_cons_of_mem _ h)
  rw [lg_entry_eq]
  have hl := en_entry [rv_ x0, .int x1, .int x2] [1, 1, 1] (n := 3) (ca_r (ca_i (ca_i ca_n))) (by decide)
  exact sX9_read ⟨⟨⟨B.exec, B.bytes, hml, findClass_of_methodNamed B.named, hts⟩, hW, hG⟩, B.notSynchronized, B.returns, Nat.le_refl _, Nat.le_refl _, ⟨rfl, rfl⟩, (name_of_methodNamed B.named B.method).1⟩ hf _ _ _ _ _ hP (LO_nil G) ⟨rfl, rfl⟩ hl
abbrev cX9_state : ByteArray := prog_11_method_71_code
def yX9_state : MethodName := ⟨RX9, "state", "(I)I"⟩
theorem dX9_state_0 : decode cX9_state 0 = .ok (.aload_n 0, 1) := by decide +kernel
theorem dX9_state_1 : decode cX9_state 1 = .ok (.iconst 0, 1) := by decide +kernel
theorem dX9_state_2 : decode cX9_state 2 = .ok (.putfield 109, 3) := by decide +kernel
theorem dX9_state_5 : decode cX9_state 5 = .ok (.iload_n 1, 1) := by decide +kernel
theorem dX9_state_6 : decode cX9_state 6 = .ok (.iconst 0, 1) := by decide +kernel
theorem dX9_state_7 : decode cX9_state 7 = .ok (.aload_n 0, 1) := by decide +kernel
theorem dX9_state_8 : decode cX9_state 8 = .ok (.getfield 99, 3) := by decide +kernel
theorem dX9_state_11 : decode cX9_state 11 = .ok (.iconst 1, 1) := by decide +kernel
theorem dX9_state_12 : decode cX9_state 12 = .ok (.isub, 1) := by decide +kernel
theorem dX9_state_13 : decode cX9_state 13 = .ok (.invokestatic 118, 3) := by decide +kernel
theorem dX9_state_16 : decode cX9_state 16 = .ok (.ifCond .eq 17, 3) := by decide +kernel
theorem dX9_state_19 : decode cX9_state 19 = .ok (.aload_n 0, 1) := by decide +kernel
theorem dX9_state_20 : decode cX9_state 20 = .ok (.getfield 14, 3) := by decide +kernel
theorem dX9_state_23 : decode cX9_state 23 = .ok (.aload_n 0, 1) := by decide +kernel
theorem dX9_state_24 : decode cX9_state 24 = .ok (.getfield 115, 3) := by decide +kernel
theorem dX9_state_27 : decode cX9_state 27 = .ok (.iload_n 1, 1) := by decide +kernel
theorem dX9_state_28 : decode cX9_state 28 = .ok (.iadd, 1) := by decide +kernel
theorem dX9_state_29 : decode cX9_state 29 = .ok (.baload, 1) := by decide +kernel
theorem dX9_state_30 : decode cX9_state 30 = .ok (.goto 4, 3) := by decide +kernel
theorem dX9_state_33 : decode cX9_state 33 = .ok (.iconst (-1), 1) := by decide +kernel
theorem dX9_state_34 : decode cX9_state 34 = .ok (.ireturn, 1) := by decide +kernel
/-- WriteOnceDiscModel.state(I)I -/
def wX9_state (x0 : Nat) (x1 : Int32) (σ : Hp) (post : Int32 → Hp → Prop) : Prop :=
(tg_ σ x0 = 9 ∧ (∀ σ2, σ2 = sI_ σ 8 0 x0 (0 : Int32) → (wX9_in x1 (0 : Int32) ((fI_ σ2 8 1 x0) - (1 : Int32)) σ2 (fun r3 => ((r3 = 0 →
  post (-1 : Int32) σ2) ∧
 (¬ r3 = 0 →
  (tg_ σ2 (fR_ σ2 8 4 x0) = 100 ∧ (vp_in ((fI_ σ2 8 2 x0) + x1) (ln_ σ2 (fR_ σ2 8 4 x0)) ∧ post (aI_ σ2 (fR_ σ2 8 4 x0) (((fI_ σ2 8 2 x0) + x1)).toNatClampNeg) σ2))))))))
set_option maxHeartbeats 4000000 in
theorem sX9_state {G : GG_} {p : Program} {l : Launch} {e : Env} {R : Room} {s : State} {m : MethodId} {args : Array Value} {below : List Frame} {meth : Method} {c : Code} (Y : MX_ G p R s m args meth c cX9_state 2 RX9 (some Jvm.ClassFile.FieldType.int) 2 42 0 0 "state") {post : Int32 → Hp → Prop} {x0 : Nat} {x1 : Int32} {σ : Hp} (hf : wX9_state x0 x1 σ post) : WG_ G p l e R s m args below meth c (MQ below (QI_ G post) args s 0 0 (FR_ G)) BN_ 2 0 [(0, rv_ x0), (1, .int x1)] [] σ := by
  have ⟨X, hlk, hr, hRf, hRl, hRc, hnm⟩ := Y
  have ⟨⟨hx, hb, _, hown, hts⟩, _, _⟩ := X
  intro H locs cells slots ls hP hL hB hl
  obtain ⟨rfl, rfl⟩ := hB
  unfold wX9_state at hf
  refine p_aload_n hx hb dX9_state_0 rfl (lv_at hl 0 rfl) ?_
  refine lv_iconst (v := 0) hx hb dX9_state_1 (by decide) ?_
  obtain ⟨ht1, hf⟩ := hf
  refine p_pI X cf8_ (k := 0) (by decide) rfl hP hL ht1 (p_ow hP ht1 rfl) q1295 (fun _ h => h) (Or.inl rfl) rfl rfl dX9_state_2 (fun H locs hP hL => ?_)
  refine p_nmP hP (fun σ2 hσ2 hP => ?_)
  have hf := hf σ2 hσ2
  have ht1 : tg_ σ2 x0 = 9 := by rw [hσ2]; exact ht1
  refine lv_iload_n hx hb dX9_state_5 rfl (lv_at hl 1 rfl) ?_
  refine lv_iconst (v := 0) hx hb dX9_state_6 (by decide) ?_
  refine p_aload_n hx hb dX9_state_7 rfl (lv_at hl 0 rfl) ?_
  refine p_gI X cf8_ (k := 1) (by decide) rfl hP ht1 q1296 (fun _ h => h) dX9_state_8 ?_
  refine lv_iconst (v := 1) hx hb dX9_state_11 (by decide) ?_
  refine lv_isub hx hb dX9_state_12 ?_
  refine p_calli hL (p_runS X hP (metX9_in l G _ _ _ _ _ X.2.2 hf) (va_cwS 3 hts (lw_S q1427 q1428 q106 q1429) rfl rfl rfl (by decide +kernel) ⟨Nat.le_trans (Nat.le_of_ble_eq_true rfl) hRf, Nat.le_trans (Nat.le_of_ble_eq_true rfl) hRl⟩) rfl hl.1 rfl (by decide) dX9_state_13 ⟨Nat.zero_le _, Nat.zero_le _⟩) (fun r3 σ₁ H locs hf hP hL => ?_)
  obtain ⟨e₁, hf⟩ := hf
  rw [e₁] at hP
  refine lv_if_eq (tgt := 33) hx hb dX9_state_16 (by decide) (fun c4 => ?_) (fun c4 => ?_)
  · have hf := hf.1 c4
    refine lv_iconst (v := (-1)) hx hb dX9_state_33 (by decide) ?_
    exact p_iret X hlk hP hL (Nat.le_refl _) (Nat.le_refl _) hr dX9_state_34 hf
  · have hf := hf.2 c4
    refine p_aload_n hx hb dX9_state_19 rfl (lv_at hl 0 rfl) ?_
    refine p_gR X cf8_ (k := 4) (by decide) rfl hP ht1 q1299 (fun _ h => h) dX9_state_20 ?_
    refine p_aload_n hx hb dX9_state_23 rfl (lv_at hl 0 rfl) ?_
    refine p_gI X cf8_ (k := 2) (by decide) rfl hP ht1 q1297 (fun _ h => h) dX9_state_24 ?_
    refine lv_iload_n hx hb dX9_state_27 rfl (lv_at hl 1 rfl) ?_
    refine lv_iadd hx hb dX9_state_28 ?_
    obtain ⟨ht5, hf⟩ := hf
    obtain ⟨hi6, hf⟩ := hf
    refine p_bald X hP ht5 hi6 dX9_state_29 ?_
    refine lv_goto (tgt := 34) hx hb dX9_state_30 (by decide) ?_
    exact p_iret X hlk hP hL (Nat.le_refl _) (Nat.le_refl _) hr dX9_state_34 hf
set_option maxHeartbeats 4000000 in
theorem metX9_state (l : Launch) (G : GG_) (x0 : Nat) (x1 : Int32) (σ : Hp) (post : Int32 → Hp → Prop) (hG : GOK_ G) (hf : wX9_state x0 x1 σ post) : Met l yX9_state (ws_ yX9_state cX9_state 2 (some Jvm.ClassFile.FieldType.int)) { frames := 2, cells := 0, slots := 0, locals := 42 } (PC_ G [rv_ x0, .int x1] σ) (QI_ G post) 0 0 (FR_ G) := by
  refine Met.ofW (cc := cX9_state) (maxL := 2) (ret := (some Jvm.ClassFile.FieldType.int)) (by decide) rfl ?_
  intro p e s m args below meth c s₁ B hml hv
  obtain ⟨rfl, hP, hW⟩ := hv
  have hts := atoms_spec (ws := ws_ yX9_state cX9_state 2 (some Jvm.ClassFile.FieldType.int)) B.pre
  have hts : ∀ w ∈ lw_all, w.before _ s = true := fun w h => hts w (List.mem_cons_of_mem _ h)
  rw [lg_entry_eq]
  have hl := en_entry [rv_ x0, .int x1] [1, 1] (n := 2) (ca_r (ca_i ca_n)) (by decide)
  exact sX9_state ⟨⟨⟨B.exec, B.bytes, hml, findClass_of_methodNamed B.named, hts⟩, hW, hG⟩, B.notSynchronized, B.returns, Nat.le_refl _, Nat.le_refl _, ⟨rfl, rfl⟩, (name_of_methodNamed B.named B.method).1⟩ hf _ _ _ _ _ hP (LO_nil G) ⟨rfl, rfl⟩ hl
abbrev cX9_byteAt : ByteArray := prog_11_method_72_code
def yX9_byteAt : MethodName := ⟨RX9, "byteAt", "(I)I"⟩
theorem dX9_byteAt_0 : decode cX9_byteAt 0 = .ok (.aload_n 0, 1) := by decide +kernel
theorem dX9_byteAt_1 : decode cX9_byteAt 1 = .ok (.iconst 0, 1) := by decide +kernel
theorem dX9_byteAt_2 : decode cX9_byteAt 2 = .ok (.putfield 109, 3) := by decide +kernel
theorem dX9_byteAt_5 : decode cX9_byteAt 5 = .ok (.iload_n 1, 1) := by decide +kernel
theorem dX9_byteAt_6 : decode cX9_byteAt 6 = .ok (.iconst 0, 1) := by decide +kernel
theorem dX9_byteAt_7 : decode cX9_byteAt 7 = .ok (.sipush 2048, 3) := by decide +kernel
theorem dX9_byteAt_10 : decode cX9_byteAt 10 = .ok (.aload_n 0, 1) := by decide +kernel
theorem dX9_byteAt_11 : decode cX9_byteAt 11 = .ok (.getfield 99, 3) := by decide +kernel
theorem dX9_byteAt_14 : decode cX9_byteAt 14 = .ok (.imul, 1) := by decide +kernel
theorem dX9_byteAt_15 : decode cX9_byteAt 15 = .ok (.iconst 1, 1) := by decide +kernel
theorem dX9_byteAt_16 : decode cX9_byteAt 16 = .ok (.isub, 1) := by decide +kernel
theorem dX9_byteAt_17 : decode cX9_byteAt 17 = .ok (.invokestatic 118, 3) := by decide +kernel
theorem dX9_byteAt_20 : decode cX9_byteAt 20 = .ok (.ifCond .eq 11, 3) := by decide +kernel
theorem dX9_byteAt_23 : decode cX9_byteAt 23 = .ok (.aload_n 0, 1) := by decide +kernel
theorem dX9_byteAt_24 : decode cX9_byteAt 24 = .ok (.iload_n 1, 1) := by decide +kernel
theorem dX9_byteAt_25 : decode cX9_byteAt 25 = .ok (.invokevirtual 225, 3) := by decide +kernel
theorem dX9_byteAt_28 : decode cX9_byteAt 28 = .ok (.goto 4, 3) := by decide +kernel
theorem dX9_byteAt_31 : decode cX9_byteAt 31 = .ok (.iconst (-1), 1) := by decide +kernel
theorem dX9_byteAt_32 : decode cX9_byteAt 32 = .ok (.ireturn, 1) := by decide +kernel
/-- WriteOnceDiscModel.byteAt(I)I -/
def wX9_byteAt (x0 : Nat) (x1 : Int32) (σ : Hp) (post : Int32 → Hp → Prop) : Prop :=
(tg_ σ x0 = 9 ∧ (∀ σ2, σ2 = sI_ σ 8 0 x0 (0 : Int32) → (wX9_in x1 (0 : Int32) (((2048 : Int32) * (fI_ σ2 8 1 x0)) - (1 : Int32)) σ2 (fun r3 => ((r3 = 0 →
  post (-1 : Int32) σ2) ∧
 (¬ r3 = 0 →
  (wX9_get x0 x1 σ2 (fun r5 => post r5 σ2))))))))
set_option maxHeartbeats 4000000 in
theorem sX9_byteAt {G : GG_} {p : Program} {l : Launch} {e : Env} {R : Room} {s : State} {m : MethodId} {args : Array Value} {below : List Frame} {meth : Method} {c : Code} (Y : MX_ G p R s m args meth c cX9_byteAt 2 RX9 (some Jvm.ClassFile.FieldType.int) 2 42 0 0 "byteAt") {post : Int32 → Hp → Prop} {x0 : Nat} {x1 : Int32} {σ : Hp} (hf : wX9_byteAt x0 x1 σ post) : WG_ G p l e R s m args below meth c (MQ below (QI_ G post) args s 0 0 (FR_ G)) BN_ 2 0 [(0, rv_ x0), (1, .int x1)] [] σ := by
  have ⟨X, hlk, hr, hRf, hRl, hRc, hnm⟩ := Y
  have ⟨⟨hx, hb, _, hown, hts⟩, _, _⟩ := X
  intro H locs cells slots ls hP hL hB hl
  obtain ⟨rfl, rfl⟩ := hB
  unfold wX9_byteAt at hf
  refine p_aload_n hx hb dX9_byteAt_0 rfl (lv_at hl 0 rfl) ?_
  refine lv_iconst (v := 0) hx hb dX9_byteAt_1 (by decide) ?_
  obtain ⟨ht1, hf⟩ := hf
  refine p_pI X cf8_ (k := 0) (by decide) rfl hP hL ht1 (p_ow hP ht1 rfl) q1295 (fun _ h => h) (Or.inl rfl) rfl rfl dX9_byteAt_2 (fun H locs hP hL => ?_)
  refine p_nmP hP (fun σ2 hσ2 hP => ?_)
  have hf := hf σ2 hσ2
  have ht1 : tg_ σ2 x0 = 9 := by rw [hσ2]; exact ht1
  refine lv_iload_n hx hb dX9_byteAt_5 rfl (lv_at hl 1 rfl) ?_
  refine lv_iconst (v := 0) hx hb dX9_byteAt_6 (by decide) ?_
  refine lv_sipush (v := 2048) hx hb dX9_byteAt_7 (by decide) ?_
  refine p_aload_n hx hb dX9_byteAt_10 rfl (lv_at hl 0 rfl) ?_
  refine p_gI X cf8_ (k := 1) (by decide) rfl hP ht1 q1296 (fun _ h => h) dX9_byteAt_11 ?_
  refine lv_imul hx hb dX9_byteAt_14 ?_
  refine lv_iconst (v := 1) hx hb dX9_byteAt_15 (by decide) ?_
  refine lv_isub hx hb dX9_byteAt_16 ?_
  refine p_calli hL (p_runS X hP (metX9_in l G _ _ _ _ _ X.2.2 hf) (va_cwS 3 hts (lw_S q1427 q1428 q106 q1429) rfl rfl rfl (by decide +kernel) ⟨Nat.le_trans (Nat.le_of_ble_eq_true rfl) hRf, Nat.le_trans (Nat.le_of_ble_eq_true rfl) hRl⟩) rfl hl.1 rfl (by decide) dX9_byteAt_17 ⟨Nat.zero_le _, Nat.zero_le _⟩) (fun r3 σ₁ H locs hf hP hL => ?_)
  obtain ⟨e₁, hf⟩ := hf
  rw [e₁] at hP
  refine lv_if_eq (tgt := 31) hx hb dX9_byteAt_20 (by decide) (fun c4 => ?_) (fun c4 => ?_)
  · have hf := hf.1 c4
    refine lv_iconst (v := (-1)) hx hb dX9_byteAt_31 (by decide) ?_
    exact p_iret X hlk hP hL (Nat.le_refl _) (Nat.le_refl _) hr dX9_byteAt_32 hf
  · have hf := hf.2 c4
    refine p_aload_n hx hb dX9_byteAt_23 rfl (lv_at hl 0 rfl) ?_
    refine lv_iload_n hx hb dX9_byteAt_24 rfl (lv_at hl 1 rfl) ?_
    refine p_calli hL (p_runV X cf8_ hP ht1 (metX9_get l G _ _ _ _ X.2.2 hf) (cwV 1 hts (lw_V q1508 q1510 qs52 q106 q1511) rfl rfl rfl (by decide +kernel) ⟨Nat.le_trans (Nat.le_of_ble_eq_true rfl) hRf, Nat.le_trans (Nat.le_of_ble_eq_true rfl) hRl⟩) rfl hl.1 rfl (by decide) dX9_byteAt_25 ⟨Nat.zero_le _, Nat.zero_le _⟩) (fun r5 σ₁ H locs hf hP hL => ?_)
    obtain ⟨e₁, hf⟩ := hf
    rw [e₁] at hP
    refine lv_goto (tgt := 32) hx hb dX9_byteAt_28 (by decide) ?_
    exact p_iret X hlk hP hL (Nat.le_refl _) (Nat.le_refl _) hr dX9_byteAt_32 hf
set_option maxHeartbeats 4000000 in
theorem metX9_byteAt (l : Launch) (G : GG_) (x0 : Nat) (x1 : Int32) (σ : Hp) (post : Int32 → Hp → Prop) (hG : GOK_ G) (hf : wX9_byteAt x0 x1 σ post) : Met l yX9_byteAt (ws_ yX9_byteAt cX9_byteAt 2 (some Jvm.ClassFile.FieldType.int)) { frames := 2, cells := 0, slots := 0, locals := 42 } (PC_ G [rv_ x0, .int x1] σ) (QI_ G post) 0 0 (FR_ G) := by
  refine Met.ofW (cc := cX9_byteAt) (maxL := 2) (ret := (some Jvm.ClassFile.FieldType.int)) (by decide) rfl ?_
  intro p e s m args below meth c s₁ B hml hv
  obtain ⟨rfl, hP, hW⟩ := hv
  have hts := atoms_spec (ws := ws_ yX9_byteAt cX9_byteAt 2 (some Jvm.ClassFile.FieldType.int)) B.pre
  have hts : ∀ w ∈ lw_all, w.before _ s = true := fun w h => hts w (List.mem_cons_of_mem _ h)
  rw [lg_entry_eq]
  have hl := en_entry [rv_ x0, .int x1] [1, 1] (n := 2) (ca_r (ca_i ca_n)) (by decide)
  exact sX9_byteAt ⟨⟨⟨B.exec, B.bytes, hml, findClass_of_methodNamed B.named, hts⟩, hW, hG⟩, B.notSynchronized, B.returns, Nat.le_refl _, Nat.le_refl _, ⟨rfl, rfl⟩, (name_of_methodNamed B.named B.method).1⟩ hf _ _ _ _ _ hP (LO_nil G) ⟨rfl, rfl⟩ hl
abbrev cX9_spoil : ByteArray := prog_11_method_73_code
def yX9_spoil : MethodName := ⟨RX9, "spoil", "(II)I"⟩
theorem dX9_spoil_0 : decode cX9_spoil 0 = .ok (.aload_n 0, 1) := by decide +kernel
theorem dX9_spoil_1 : decode cX9_spoil 1 = .ok (.iconst 0, 1) := by decide +kernel
theorem dX9_spoil_2 : decode cX9_spoil 2 = .ok (.putfield 109, 3) := by decide +kernel
theorem dX9_spoil_5 : decode cX9_spoil 5 = .ok (.iload_n 1, 1) := by decide +kernel
theorem dX9_spoil_6 : decode cX9_spoil 6 = .ok (.iconst 0, 1) := by decide +kernel
theorem dX9_spoil_7 : decode cX9_spoil 7 = .ok (.sipush 2048, 3) := by decide +kernel
theorem dX9_spoil_10 : decode cX9_spoil 10 = .ok (.aload_n 0, 1) := by decide +kernel
theorem dX9_spoil_11 : decode cX9_spoil 11 = .ok (.getfield 99, 3) := by decide +kernel
theorem dX9_spoil_14 : decode cX9_spoil 14 = .ok (.imul, 1) := by decide +kernel
theorem dX9_spoil_15 : decode cX9_spoil 15 = .ok (.iconst 1, 1) := by decide +kernel
theorem dX9_spoil_16 : decode cX9_spoil 16 = .ok (.isub, 1) := by decide +kernel
theorem dX9_spoil_17 : decode cX9_spoil 17 = .ok (.invokestatic 118, 3) := by decide +kernel
theorem dX9_spoil_20 : decode cX9_spoil 20 = .ok (.ifCond .eq 22, 3) := by decide +kernel
theorem dX9_spoil_23 : decode cX9_spoil 23 = .ok (.aload_n 0, 1) := by decide +kernel
theorem dX9_spoil_24 : decode cX9_spoil 24 = .ok (.getfield 14, 3) := by decide +kernel
theorem dX9_spoil_27 : decode cX9_spoil 27 = .ok (.aload_n 0, 1) := by decide +kernel
theorem dX9_spoil_28 : decode cX9_spoil 28 = .ok (.getfield 115, 3) := by decide +kernel
theorem dX9_spoil_31 : decode cX9_spoil 31 = .ok (.iload_n 1, 1) := by decide +kernel
theorem dX9_spoil_32 : decode cX9_spoil 32 = .ok (.sipush 2048, 3) := by decide +kernel
theorem dX9_spoil_35 : decode cX9_spoil 35 = .ok (.idiv, 1) := by decide +kernel
theorem dX9_spoil_36 : decode cX9_spoil 36 = .ok (.iadd, 1) := by decide +kernel
theorem dX9_spoil_37 : decode cX9_spoil 37 = .ok (.baload, 1) := by decide +kernel
theorem dX9_spoil_38 : decode cX9_spoil 38 = .ok (.iconst 1, 1) := by decide +kernel
theorem dX9_spoil_39 : decode cX9_spoil 39 = .ok (.if_icmp .eq 5, 3) := by decide +kernel
theorem dX9_spoil_42 : decode cX9_spoil 42 = .ok (.iconst (-1), 1) := by decide +kernel
theorem dX9_spoil_43 : decode cX9_spoil 43 = .ok (.ireturn, 1) := by decide +kernel
theorem dX9_spoil_44 : decode cX9_spoil 44 = .ok (.aload_n 0, 1) := by decide +kernel
theorem dX9_spoil_45 : decode cX9_spoil 45 = .ok (.iload_n 1, 1) := by decide +kernel
theorem dX9_spoil_46 : decode cX9_spoil 46 = .ok (.invokevirtual 225, 3) := by decide +kernel
theorem dX9_spoil_49 : decode cX9_spoil 49 = .ok (.istore_n 3, 1) := by decide +kernel
theorem dX9_spoil_50 : decode cX9_spoil 50 = .ok (.aload_n 0, 1) := by decide +kernel
theorem dX9_spoil_51 : decode cX9_spoil 51 = .ok (.getfield 8, 3) := by decide +kernel
theorem dX9_spoil_54 : decode cX9_spoil 54 = .ok (.sipush 2048, 3) := by decide +kernel
theorem dX9_spoil_57 : decode cX9_spoil 57 = .ok (.aload_n 0, 1) := by decide +kernel
theorem dX9_spoil_58 : decode cX9_spoil 58 = .ok (.getfield 115, 3) := by decide +kernel
theorem dX9_spoil_61 : decode cX9_spoil 61 = .ok (.imul, 1) := by decide +kernel
theorem dX9_spoil_62 : decode cX9_spoil 62 = .ok (.iload_n 1, 1) := by decide +kernel
theorem dX9_spoil_63 : decode cX9_spoil 63 = .ok (.iadd, 1) := by decide +kernel
theorem dX9_spoil_64 : decode cX9_spoil 64 = .ok (.iload_n 2, 1) := by decide +kernel
theorem dX9_spoil_65 : decode cX9_spoil 65 = .ok (.i2b, 1) := by decide +kernel
theorem dX9_spoil_66 : decode cX9_spoil 66 = .ok (.bastore, 1) := by decide +kernel
theorem dX9_spoil_67 : decode cX9_spoil 67 = .ok (.iload_n 3, 1) := by decide +kernel
theorem dX9_spoil_68 : decode cX9_spoil 68 = .ok (.ireturn, 1) := by decide +kernel
/-- WriteOnceDiscModel.spoil(II)I -/
def wX9_spoil (x0 : Nat) (x1 : Int32) (x2 : Int32) (σ : Hp) (post : Int32 → Hp → Prop) : Prop :=
(tg_ σ x0 = 9 ∧ (∀ σ2, σ2 = sI_ σ 8 0 x0 (0 : Int32) → (wX9_in x1 (0 : Int32) (((2048 : Int32) * (fI_ σ2 8 1 x0)) - (1 : Int32)) σ2 (fun r3 => ((r3 = 0 →
  post (-1 : Int32) σ2) ∧
 (¬ r3 = 0 →
  (tg_ σ2 (fR_ σ2 8 4 x0) = 100 ∧ (vp_in ((fI_ σ2 8 2 x0) + (x1 / (2048 : Int32))) (ln_ σ2 (fR_ σ2 8 4 x0)) ∧ (((aI_ σ2 (fR_ σ2 8 4 x0) (((fI_ σ2 8 2 x0) + (x1 / (2048 : Int32)))).toNatClampNeg) = (1 : Int32) →
   (wX9_get x0 x1 σ2 (fun r8 => (tg_ σ2 (fR_ σ2 8 3 x0) = 100 ∧ (lo_ σ2 < (fR_ σ2 8 3 x0) ∧ (vp_in (((2048 : Int32) * (fI_ σ2 8 2 x0)) + x1) (ln_ σ2 (fR_ σ2 8 3 x0)) ∧ (∀ σ12, σ12 = wI_ σ2 (fR_ σ2 8 3 x0) ((((2048 : Int32) * (fI_ σ2 8 2 x0)) + x1)).toNatClampNeg (vp_nar .byte (x2).toInt8.toInt32) → post r8 σ12))))))) ∧
  (¬ (aI_ σ2 (fR_ σ2 8 4 x0) (((fI_ σ2 8 2 x0) + (x1 / (2048 : Int32)))).toNatClampNeg) = (1 : Int32) →
   post (-1 : Int32) σ2))))))))))
set_option maxHeartbeats 4000000 in
theorem sX9_spoil {G : GG_} {p : Program} {l : Launch} {e : Env} {R : Room} {s : State} {m : MethodId} {args : Array Value} {below : List Frame} {meth : Method} {c : Code} (Y : MX_ G p R s m args meth c cX9_spoil 4 RX9 (some Jvm.ClassFile.FieldType.int) 2 42 0 0 "spoil") {post : Int32 → Hp → Prop} {x0 : Nat} {x1 : Int32} {x2 : Int32} {σ : Hp} (hf : wX9_spoil x0 x1 x2 σ post) : WG_ G p l e R s m args below meth c (MQ below (QI_ G post) args s 0 0 (FR_ G)) BN_ 4 0 [(0, rv_ x0), (1, .int x1), (2, .int x2)] [] σ := by
  have ⟨X, hlk, hr, hRf, hRl, hRc, hnm⟩ := Y
  have ⟨⟨hx, hb, _, hown, hts⟩, _, _⟩ := X
  intro H locs cells slots ls hP hL hB hl
  obtain ⟨rfl, rfl⟩ := hB
  unfold wX9_spoil at hf
  refine p_aload_n hx hb dX9_spoil_0 rfl (lv_at hl 0 rfl) ?_
  refine lv_iconst (v := 0) hx hb dX9_spoil_1 (by decide) ?_
  obtain ⟨ht1, hf⟩ := hf
  refine p_pI X cf8_ (k := 0) (by decide) rfl hP hL ht1 (p_ow hP ht1 rfl) q1295 (fun _ h => h) (Or.inl rfl) rfl rfl dX9_spoil_2 (fun H locs hP hL => ?_)
  refine p_nmP hP (fun σ2 hσ2 hP => ?_)
  have hf := hf σ2 hσ2
  have ht1 : tg_ σ2 x0 = 9 := by rw [hσ2]; exact ht1
  refine lv_iload_n hx hb dX9_spoil_5 rfl (lv_at hl 1 rfl) ?_
  refine lv_iconst (v := 0) hx hb dX9_spoil_6 (by decide) ?_
  refine lv_sipush (v := 2048) hx hb dX9_spoil_7 (by decide) ?_
  refine p_aload_n hx hb dX9_spoil_10 rfl (lv_at hl 0 rfl) ?_
  refine p_gI X cf8_ (k := 1) (by decide) rfl hP ht1 q1296 (fun _ h => h) dX9_spoil_11 ?_
  refine lv_imul hx hb dX9_spoil_14 ?_
  refine lv_iconst (v := 1) hx hb dX9_spoil_15 (by decide) ?_
  refine lv_isub hx hb dX9_spoil_16 ?_
  refine p_calli hL (p_runS X hP (metX9_in l G _ _ _ _ _ X.2.2 hf) (va_cwS 3 hts (lw_S q1427 q1428 q106 q1429) rfl rfl rfl (by decide +kernel) ⟨Nat.le_trans (Nat.le_of_ble_eq_true rfl) hRf, Nat.le_trans (Nat.le_of_ble_eq_true rfl) hRl⟩) rfl hl.1 rfl (by decide) dX9_spoil_17 ⟨Nat.zero_le _, Nat.zero_le _⟩) (fun r3 σ₁ H locs hf hP hL => ?_)
  obtain ⟨e₁, hf⟩ := hf
  rw [e₁] at hP
  refine lv_if_eq (tgt := 42) hx hb dX9_spoil_20 (by decide) (fun c4 => ?_) (fun c4 => ?_)
  · have hf := hf.1 c4
    refine lv_iconst (v := (-1)) hx hb dX9_spoil_42 (by decide) ?_
    exact p_iret X hlk hP hL (Nat.le_refl _) (Nat.le_refl _) hr dX9_spoil_43 hf
  · have hf := hf.2 c4
    refine p_aload_n hx hb dX9_spoil_23 rfl (lv_at hl 0 rfl) ?_
    refine p_gR X cf8_ (k := 4) (by decide) rfl hP ht1 q1299 (fun _ h => h) dX9_spoil_24 ?_
    refine p_aload_n hx hb dX9_spoil_27 rfl (lv_at hl 0 rfl) ?_
    refine p_gI X cf8_ (k := 2) (by decide) rfl hP ht1 q1297 (fun _ h => h) dX9_spoil_28 ?_
    refine lv_iload_n hx hb dX9_spoil_31 rfl (lv_at hl 1 rfl) ?_
    refine lv_sipush (v := 2048) hx hb dX9_spoil_32 (by decide) ?_
    refine lv_idiv hx hb dX9_spoil_35 (by decide) ?_
    refine lv_iadd hx hb dX9_spoil_36 ?_
    obtain ⟨ht5, hf⟩ := hf
    obtain ⟨hi6, hf⟩ := hf
    refine p_bald X hP ht5 hi6 dX9_spoil_37 ?_
    refine lv_iconst (v := 1) hx hb dX9_spoil_38 (by decide) ?_
    refine lv_icmp_eq (tgt := 44) hx hb dX9_spoil_39 (by decide) (fun c7 => ?_) (fun c7 => ?_)
    · have hf := hf.1 c7
      refine p_aload_n hx hb dX9_spoil_44 rfl (lv_at hl 0 rfl) ?_
      refine lv_iload_n hx hb dX9_spoil_45 rfl (lv_at hl 1 rfl) ?_
      refine p_calli hL (p_runV X cf8_ hP ht1 (metX9_get l G _ _ _ _ X.2.2 hf) (cwV 1 hts (lw_V q1508 q1510 qs52 q106 q1511) rfl rfl rfl (by decide +kernel) ⟨Nat.le_trans (Nat.le_of_ble_eq_true rfl) hRf, Nat.le_trans (Nat.le_of_ble_eq_true rfl) hRl⟩) rfl hl.1 rfl (by decide) dX9_spoil_46 ⟨Nat.zero_le _, Nat.zero_le _⟩) (fun r8 σ₁ H locs hf hP hL => ?_)
      obtain ⟨e₁, hf⟩ := hf
      rw [e₁] at hP
      refine p_istore_n (i := 3) hx hb dX9_spoil_49 rfl hl (by decide) ⟨⟨ne_ rfl, Or.inl (ne_ rfl)⟩, ⟨⟨ne_ rfl, Or.inl (ne_ rfl)⟩, ⟨⟨ne_ rfl, Or.inr rfl⟩, trivial⟩⟩⟩ (fun ls hl => ?_)
      refine p_aload_n hx hb dX9_spoil_50 rfl (lv_at hl 1 rfl) ?_
      refine p_gR X cf8_ (k := 3) (by decide) rfl hP ht1 q1298 (fun _ h => h) dX9_spoil_51 ?_
      refine lv_sipush (v := 2048) hx hb dX9_spoil_54 (by decide) ?_
      refine p_aload_n hx hb dX9_spoil_57 rfl (lv_at hl 1 rfl) ?_
      refine p_gI X cf8_ (k := 2) (by decide) rfl hP ht1 q1297 (fun _ h => h) dX9_spoil_58 ?_
      refine lv_imul hx hb dX9_spoil_61 ?_
      refine lv_iload_n hx hb dX9_spoil_62 rfl (lv_at hl 2 rfl) ?_
      refine lv_iadd hx hb dX9_spoil_63 ?_
      refine lv_iload_n hx hb dX9_spoil_64 rfl (lv_at hl 3 rfl) ?_
      refine lv_i2b hx hb dX9_spoil_65 rfl ?_
      obtain ⟨ht9, hf⟩ := hf
      obtain ⟨hlo10, hf⟩ := hf
      obtain ⟨hi11, hf⟩ := hf
      refine p_bast X hP hL ht9 hlo10 hi11 dX9_spoil_66 (fun H locs hP hL => ?_)
      refine p_nmP hP (fun σ12 hσ12 hP => ?_)
      have hf := hf σ12 hσ12
      have ht1 : tg_ σ12 x0 = 9 := by rw [hσ12]; exact ht1
      refine lv_iload_n hx hb dX9_spoil_67 rfl (lv_at hl 0 rfl) ?_
      exact p_iret X hlk hP hL (Nat.le_refl _) (Nat.le_refl _) hr dX9_spoil_68 hf
    · have hf := hf.2 c7
      refine lv_iconst (v := (-1)) hx hb dX9_spoil_42 (by decide) ?_
      exact p_iret X hlk hP hL (Nat.le_refl _) (Nat.le_refl _) hr dX9_spoil_43 hf
set_option maxHeartbeats 4000000 in
theorem metX9_spoil (l : Launch) (G : GG_) (x0 : Nat) (x1 : Int32) (x2 : Int32) (σ : Hp) (post : Int32 → Hp → Prop) (hG : GOK_ G) (hf : wX9_spoil x0 x1 x2 σ post) : Met l yX9_spoil (ws_ yX9_spoil cX9_spoil 4 (some Jvm.ClassFile.FieldType.int)) { frames := 2, cells := 0, slots := 0, locals := 42 } (PC_ G [rv_ x0, .int x1, .int x2] σ) (QI_ G post) 0 0 (FR_ G) := by
  refine Met.ofW (cc := cX9_spoil) (maxL := 4) (ret := (some Jvm.ClassFile.FieldType.int)) (by decide) rfl ?_
  intro p e s m args below meth c s₁ B hml hv
  obtain ⟨rfl, hP, hW⟩ := hv
  have hts := atoms_spec (ws := ws_ yX9_spoil cX9_spoil 4 (some Jvm.ClassFile.FieldType.int)) B.pre
  have hts : ∀ w ∈ lw_all, w.before _ s = true := fun w h => hts w (List.mem_cons_of_mem _ h)
  rw [lg_entry_eq]
  have hl := en_entry [rv_ x0, .int x1, .int x2] [1, 1, 1] (n := 4) (ca_r (ca_i (ca_i ca_n))) (by decide)
  exact sX9_spoil ⟨⟨⟨B.exec, B.bytes, hml, findClass_of_methodNamed B.named, hts⟩, hW, hG⟩, B.notSynchronized, B.returns, Nat.le_refl _, Nat.le_refl _, ⟨rfl, rfl⟩, (name_of_methodNamed B.named B.method).1⟩ hf _ _ _ _ _ hP (LO_nil G) ⟨rfl, rfl⟩ hl
abbrev cX9_writes : ByteArray := prog_11_method_74_code
def yX9_writes : MethodName := ⟨RX9, "writes", "()I"⟩
theorem dX9_writes_0 : decode cX9_writes 0 = .ok (.aload_n 0, 1) := by decide +kernel
theorem dX9_writes_1 : decode cX9_writes 1 = .ok (.iconst 0, 1) := by decide +kernel
theorem dX9_writes_2 : decode cX9_writes 2 = .ok (.putfield 109, 3) := by decide +kernel
theorem dX9_writes_5 : decode cX9_writes 5 = .ok (.aload_n 0, 1) := by decide +kernel
theorem dX9_writes_6 : decode cX9_writes 6 = .ok (.getfield 122, 3) := by decide +kernel
theorem dX9_writes_9 : decode cX9_writes 9 = .ok (.ireturn, 1) := by decide +kernel
/-- WriteOnceDiscModel.writes()I -/
def wX9_writes (x0 : Nat) (σ : Hp) (post : Int32 → Hp → Prop) : Prop :=
(tg_ σ x0 = 9 ∧ (∀ σ2, σ2 = sI_ σ 8 0 x0 (0 : Int32) → post (fI_ σ2 8 8 x0) σ2))
set_option maxHeartbeats 4000000 in
theorem sX9_writes {G : GG_} {p : Program} {l : Launch} {e : Env} {R : Room} {s : State} {m : MethodId} {args : Array Value} {below : List Frame} {meth : Method} {c : Code} (Y : MX_ G p R s m args meth c cX9_writes 1 RX9 (some Jvm.ClassFile.FieldType.int) 1 20 0 0 "writes") {post : Int32 → Hp → Prop} {x0 : Nat} {σ : Hp} (hf : wX9_writes x0 σ post) : WG_ G p l e R s m args below meth c (MQ below (QI_ G post) args s 0 0 (FR_ G)) BN_ 1 0 [(0, rv_ x0)] [] σ := by
  have ⟨X, hlk, hr, hRf, hRl, hRc, hnm⟩ := Y
  have ⟨⟨hx, hb, _, hown, hts⟩, _, _⟩ := X
  intro H locs cells slots ls hP hL hB hl
  obtain ⟨rfl, rfl⟩ := hB
  unfold wX9_writes at hf
  refine p_aload_n hx hb dX9_writes_0 rfl (lv_at hl 0 rfl) ?_
  refine lv_iconst (v := 0) hx hb dX9_writes_1 (by decide) ?_
  obtain ⟨ht1, hf⟩ := hf
  refine p_pI X cf8_ (k := 0) (by decide) rfl hP hL ht1 (p_ow hP ht1 rfl) q1295 (fun _ h => h) (Or.inl rfl) rfl rfl dX9_writes_2 (fun H locs hP hL => ?_)
  refine p_nmP hP (fun σ2 hσ2 hP => ?_)
  have hf := hf σ2 hσ2
  have ht1 : tg_ σ2 x0 = 9 := by rw [hσ2]; exact ht1
  refine p_aload_n hx hb dX9_writes_5 rfl (lv_at hl 0 rfl) ?_
  refine p_gI X cf8_ (k := 8) (by decide) rfl hP ht1 q1303 (fun _ h => h) dX9_writes_6 ?_
  exact p_iret X hlk hP hL (Nat.le_refl _) (Nat.le_refl _) hr dX9_writes_9 hf
set_option maxHeartbeats 4000000 in
theorem metX9_writes (l : Launch) (G : GG_) (x0 : Nat) (σ : Hp) (post : Int32 → Hp → Prop) (hG : GOK_ G) (hf : wX9_writes x0 σ post) : Met l yX9_writes (ws_ yX9_writes cX9_writes 1 (some Jvm.ClassFile.FieldType.int)) { frames := 1, cells := 0, slots := 0, locals := 20 } (PC_ G [rv_ x0] σ) (QI_ G post) 0 0 (FR_ G) := by
  refine Met.ofW (cc := cX9_writes) (maxL := 1) (ret := (some Jvm.ClassFile.FieldType.int)) (by decide) rfl ?_
  intro p e s m args below meth c s₁ B hml hv
  obtain ⟨rfl, hP, hW⟩ := hv
  have hts := atoms_spec (ws := ws_ yX9_writes cX9_writes 1 (some Jvm.ClassFile.FieldType.int)) B.pre
  have hts : ∀ w ∈ lw_all, w.before _ s = true := fun w h => hts w (List.mem_cons_of_mem _ h)
  rw [lg_entry_eq]
  have hl := en_entry [rv_ x0] [1] (n := 1) (ca_r ca_n) (by decide)
  exact sX9_writes ⟨⟨⟨B.exec, B.bytes, hml, findClass_of_methodNamed B.named, hts⟩, hW, hG⟩, B.notSynchronized, B.returns, Nat.le_refl _, Nat.le_refl _, ⟨rfl, rfl⟩, (name_of_methodNamed B.named B.method).1⟩ hf _ _ _ _ _ hP (LO_nil G) ⟨rfl, rfl⟩ hl
