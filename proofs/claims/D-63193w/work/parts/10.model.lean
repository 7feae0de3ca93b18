set_option maxRecDepth 100000
abbrev cX9_rootAlone : ByteArray := prog_11_method_3_code
def yX9_rootAlone : MethodName := ⟨RX9, "rootAlone", "()V"⟩
theorem dX9_rootAlone_0 : decode cX9_rootAlone 0 = .ok (.aload_n 0, 1) := by decide +kernel
theorem dX9_rootAlone_1 : decode cX9_rootAlone 1 = .ok (.iconst 1, 1) := by decide +kernel
theorem dX9_rootAlone_2 : decode cX9_rootAlone 2 = .ok (.putfield 112, 3) := by decide +kernel
theorem dX9_rootAlone_5 : decode cX9_rootAlone 5 = .ok (.aload_n 0, 1) := by decide +kernel
theorem dX9_rootAlone_6 : decode cX9_rootAlone 6 = .ok (.getfield 24, 3) := by decide +kernel
theorem dX9_rootAlone_9 : decode cX9_rootAlone 9 = .ok (.iconst 0, 1) := by decide +kernel
theorem dX9_rootAlone_10 : decode cX9_rootAlone 10 = .ok (.iconst 1, 1) := by decide +kernel
theorem dX9_rootAlone_11 : decode cX9_rootAlone 11 = .ok (.bastore, 1) := by decide +kernel
theorem dX9_rootAlone_12 : decode cX9_rootAlone 12 = .ok (.aload_n 0, 1) := by decide +kernel
theorem dX9_rootAlone_13 : decode cX9_rootAlone 13 = .ok (.getfield 27, 3) := by decide +kernel
theorem dX9_rootAlone_16 : decode cX9_rootAlone 16 = .ok (.iconst 0, 1) := by decide +kernel
theorem dX9_rootAlone_17 : decode cX9_rootAlone 17 = .ok (.iconst 1, 1) := by decide +kernel
theorem dX9_rootAlone_18 : decode cX9_rootAlone 18 = .ok (.bastore, 1) := by decide +kernel
theorem dX9_rootAlone_19 : decode cX9_rootAlone 19 = .ok (.aload_n 0, 1) := by decide +kernel
theorem dX9_rootAlone_20 : decode cX9_rootAlone 20 = .ok (.getfield 30, 3) := by decide +kernel
theorem dX9_rootAlone_23 : decode cX9_rootAlone 23 = .ok (.iconst 0, 1) := by decide +kernel
theorem dX9_rootAlone_24 : decode cX9_rootAlone 24 = .ok (.iconst (-1), 1) := by decide +kernel
theorem dX9_rootAlone_25 : decode cX9_rootAlone 25 = .ok (.iastore, 1) := by decide +kernel
theorem dX9_rootAlone_26 : decode cX9_rootAlone 26 = .ok (.aload_n 0, 1) := by decide +kernel
theorem dX9_rootAlone_27 : decode cX9_rootAlone 27 = .ok (.getfield 34, 3) := by decide +kernel
theorem dX9_rootAlone_30 : decode cX9_rootAlone 30 = .ok (.iconst 0, 1) := by decide +kernel
theorem dX9_rootAlone_31 : decode cX9_rootAlone 31 = .ok (.lconst 0, 1) := by decide +kernel
theorem dX9_rootAlone_32 : decode cX9_rootAlone 32 = .ok (.lastore, 1) := by decide +kernel
theorem dX9_rootAlone_33 : decode cX9_rootAlone 33 = .ok (.aload_n 0, 1) := by decide +kernel
theorem dX9_rootAlone_34 : decode cX9_rootAlone 34 = .ok (.getfield 38, 3) := by decide +kernel
theorem dX9_rootAlone_37 : decode cX9_rootAlone 37 = .ok (.iconst 0, 1) := by decide +kernel
theorem dX9_rootAlone_38 : decode cX9_rootAlone 38 = .ok (.iconst 0, 1) := by decide +kernel
theorem dX9_rootAlone_39 : decode cX9_rootAlone 39 = .ok (.iastore, 1) := by decide +kernel
theorem dX9_rootAlone_40 : decode cX9_rootAlone 40 = .ok (.aload_n 0, 1) := by decide +kernel
theorem dX9_rootAlone_41 : decode cX9_rootAlone 41 = .ok (.getfield 41, 3) := by decide +kernel
theorem dX9_rootAlone_44 : decode cX9_rootAlone 44 = .ok (.iconst 0, 1) := by decide +kernel
theorem dX9_rootAlone_45 : decode cX9_rootAlone 45 = .ok (.iconst 0, 1) := by decide +kernel
theorem dX9_rootAlone_46 : decode cX9_rootAlone 46 = .ok (.iastore, 1) := by decide +kernel
theorem dX9_rootAlone_47 : decode cX9_rootAlone 47 = .ok (.aload_n 0, 1) := by decide +kernel
theorem dX9_rootAlone_48 : decode cX9_rootAlone 48 = .ok (.getfield 47, 3) := by decide +kernel
theorem dX9_rootAlone_51 : decode cX9_rootAlone 51 = .ok (.iconst 0, 1) := by decide +kernel
theorem dX9_rootAlone_52 : decode cX9_rootAlone 52 = .ok (.iconst 0, 1) := by decide +kernel
theorem dX9_rootAlone_53 : decode cX9_rootAlone 53 = .ok (.iastore, 1) := by decide +kernel
theorem dX9_rootAlone_54 : decode cX9_rootAlone 54 = .ok (.return_, 1) := by decide +kernel
/-- WriteOnceDiscModel.rootAlone()V -/
def wX9_rootAlone (x0 : Nat) (σ : Hp) (post : Hp → Prop) : Prop :=
(tg_ σ x0 = 9 ∧ (∀ σ2, σ2 = sI_ σ 8 10 x0 (1 : Int32) → (tg_ σ2 (fR_ σ2 8 11 x0) = 101 ∧ (vp_in (0 : Int32) (ln_ σ2 (fR_ σ2 8 11 x0)) ∧ (∀ σ5, σ5 = wI_ σ2 (fR_ σ2 8 11 x0) ((0 : Int32)).toNatClampNeg (vp_nar .boolean (1 : Int32)) → (tg_ σ5 (fR_ σ5 8 12 x0) = 101 ∧ (vp_in (0 : Int32) (ln_ σ5 (fR_ σ5 8 12 x0)) ∧ (∀ σ8, σ8 = wI_ σ5 (fR_ σ5 8 12 x0) ((0 : Int32)).toNatClampNeg (vp_nar .boolean (1 : Int32)) → (tg_ σ8 (fR_ σ8 8 13 x0) = 102 ∧ (lo_ σ8 < (fR_ σ8 8 13 x0) ∧ (vp_in (0 : Int32) (ln_ σ8 (fR_ σ8 8 13 x0)) ∧ (∀ σ12, σ12 = wI_ σ8 (fR_ σ8 8 13 x0) ((0 : Int32)).toNatClampNeg (-1 : Int32) → (tg_ σ12 (fR_ σ12 8 14 x0) = 103 ∧ (vp_in (0 : Int32) (ln_ σ12 (fR_ σ12 8 14 x0)) ∧ (∀ σ15, σ15 = wL_ σ12 (fR_ σ12 8 14 x0) ((0 : Int32)).toNatClampNeg (0 : Int64) → (tg_ σ15 (fR_ σ15 8 15 x0) = 102 ∧ (lo_ σ15 < (fR_ σ15 8 15 x0) ∧ (vp_in (0 : Int32) (ln_ σ15 (fR_ σ15 8 15 x0)) ∧ (∀ σ19, σ19 = wI_ σ15 (fR_ σ15 8 15 x0) ((0 : Int32)).toNatClampNeg (0 : Int32) → (tg_ σ19 (fR_ σ19 8 16 x0) = 102 ∧ (lo_ σ19 < (fR_ σ19 8 16 x0) ∧ (vp_in (0 : Int32) (ln_ σ19 (fR_ σ19 8 16 x0)) ∧ (∀ σ23, σ23 = wI_ σ19 (fR_ σ19 8 16 x0) ((0 : Int32)).toNatClampNeg (0 : Int32) → (tg_ σ23 (fR_ σ23 8 18 x0) = 102 ∧ (lo_ σ23 < (fR_ σ23 8 18 x0) ∧ (vp_in (0 : Int32) (ln_ σ23 (fR_ σ23 8 18 x0)) ∧ (∀ σ27, σ27 = wI_ σ23 (fR_ σ23 8 18 x0) ((0 : Int32)).toNatClampNeg (0 : Int32) → post σ27)))))))))))))))))))))))))))
set_option maxHeartbeats 4000000 in
theorem sX9_rootAlone {G : GG_} {p : Program} {l : Launch} {e : Env} {R : Room} {s : State} {m : MethodId} {args : Array Value} {below : List Frame} {meth : Method} {c : Code} (Y : MX_ G p R s m args meth c cX9_rootAlone 1 RX9 none 1 20 0 0 "rootAlone") {post : Hp → Prop} {x0 : Nat} {σ : Hp} (hf : wX9_rootAlone x0 σ post) : WG_ G p l e R s m args below meth c (MQ below (QV_ G post) args s 0 0 (FR_ G)) BN_ 1 0 [(0, rv_ x0)] [] σ := by
  have ⟨X, hlk, hr, hRf, hRl, hRc, hnm⟩ := Y
  have ⟨⟨hx, hb, _, hown, hts⟩, _, _⟩ := X
  intro H locs cells slots ls hP hL hB hl
  obtain ⟨rfl, rfl⟩ := hB
  unfold wX9_rootAlone at hf
  refine p_aload_n hx hb dX9_rootAlone_0 rfl (lv_at hl 0 rfl) ?_
  refine lv_iconst (v := 1) hx hb dX9_rootAlone_1 (by decide) ?_
  obtain ⟨ht1, hf⟩ := hf
  refine p_pI X cf8_ (k := 10) (by decide) rfl hP hL ht1 (p_ow hP ht1 rfl) q1305 (fun _ h => h) (Or.inl rfl) rfl rfl dX9_rootAlone_2 (fun H locs hP hL => ?_)
  refine p_nmP hP (fun σ2 hσ2 hP => ?_)
  have hf := hf σ2 hσ2
  have ht1 : tg_ σ2 x0 = 9 := by rw [hσ2]; exact ht1
  refine p_aload_n hx hb dX9_rootAlone_5 rfl (lv_at hl 0 rfl) ?_
  refine p_gR X cf8_ (k := 11) (by decide) rfl hP ht1 q1306 (fun _ h => h) dX9_rootAlone_6 ?_
  refine lv_iconst (v := 0) hx hb dX9_rootAlone_9 (by decide) ?_
  refine lv_iconst (v := 1) hx hb dX9_rootAlone_10 (by decide) ?_
  obtain ⟨ht3, hf⟩ := hf
  obtain ⟨hi4, hf⟩ := hf
  refine p_zast X hP hL ht3 (p_ow hP ht3 rfl) hi4 dX9_rootAlone_11 (fun H locs hP hL => ?_)
  refine p_nmP hP (fun σ5 hσ5 hP => ?_)
  have hf := hf σ5 hσ5
  have ht1 : tg_ σ5 x0 = 9 := by rw [hσ5]; exact ht1
  refine p_aload_n hx hb dX9_rootAlone_12 rfl (lv_at hl 0 rfl) ?_
  refine p_gR X cf8_ (k := 12) (by decide) rfl hP ht1 q1307 (fun _ h => h) dX9_rootAlone_13 ?_
  refine lv_iconst (v := 0) hx hb dX9_rootAlone_16 (by decide) ?_
  refine lv_iconst (v := 1) hx hb dX9_rootAlone_17 (by decide) ?_
  obtain ⟨ht6, hf⟩ := hf
  obtain ⟨hi7, hf⟩ := hf
  refine p_zast X hP hL ht6 (p_ow hP ht6 rfl) hi7 dX9_rootAlone_18 (fun H locs hP hL => ?_)
  refine p_nmP hP (fun σ8 hσ8 hP => ?_)
  have hf := hf σ8 hσ8
  have ht1 : tg_ σ8 x0 = 9 := by rw [hσ8]; exact ht1
  refine p_aload_n hx hb dX9_rootAlone_19 rfl (lv_at hl 0 rfl) ?_
  refine p_gR X cf8_ (k := 13) (by decide) rfl hP ht1 q1308 (fun _ h => h) dX9_rootAlone_20 ?_
  refine lv_iconst (v := 0) hx hb dX9_rootAlone_23 (by decide) ?_
  refine lv_iconst (v := (-1)) hx hb dX9_rootAlone_24 (by decide) ?_
  obtain ⟨ht9, hf⟩ := hf
  obtain ⟨hlo10, hf⟩ := hf
  obtain ⟨hi11, hf⟩ := hf
  refine p_iast X hP hL ht9 hlo10 hi11 dX9_rootAlone_25 (fun H locs hP hL => ?_)
  refine p_nmP hP (fun σ12 hσ12 hP => ?_)
  have hf := hf σ12 hσ12
  have ht1 : tg_ σ12 x0 = 9 := by rw [hσ12]; exact ht1
  refine p_aload_n hx hb dX9_rootAlone_26 rfl (lv_at hl 0 rfl) ?_
  refine p_gR X cf8_ (k := 14) (by decide) rfl hP ht1 q1309 (fun _ h => h) dX9_rootAlone_27 ?_
  refine lv_iconst (v := 0) hx hb dX9_rootAlone_30 (by decide) ?_
  refine lv_lconst (v := 0) hx hb dX9_rootAlone_31 (by decide) ?_
  obtain ⟨ht13, hf⟩ := hf
  obtain ⟨hi14, hf⟩ := hf
  refine p_last X hP hL ht13 (p_ow hP ht13 rfl) hi14 dX9_rootAlone_32 (fun H locs hP hL => ?_)
  refine p_nmP hP (fun σ15 hσ15 hP => ?_)
  have hf := hf σ15 hσ15
  have ht1 : tg_ σ15 x0 = 9 := by rw [hσ15]; exact ht1
  refine p_aload_n hx hb dX9_rootAlone_33 rfl (lv_at hl 0 rfl) ?_
  refine p_gR X cf8_ (k := 15) (by decide) rfl hP ht1 q1310 (fun _ h => h) dX9_rootAlone_34 ?_
  refine lv_iconst (v := 0) hx hb dX9_rootAlone_37 (by decide) ?_
  refine lv_iconst (v := 0) hx hb dX9_rootAlone_38 (by decide) ?_
  obtain ⟨ht16, hf⟩ := hf
  obtain ⟨hlo17, hf⟩ := hf
  obtain ⟨hi18, hf⟩ := hf
  refine p_iast X hP hL ht16 hlo17 hi18 dX9_rootAlone_39 (fun H locs hP hL => ?_)
  refine p_nmP hP (fun σ19 hσ19 hP => ?_)
  have hf := hf σ19 hσ19
  have ht1 : tg_ σ19 x0 = 9 := by rw [hσ19]; exact ht1
  refine p_aload_n hx hb dX9_rootAlone_40 rfl (lv_at hl 0 rfl) ?_
  refine p_gR X cf8_ (k := 16) (by decide) rfl hP ht1 q1311 (fun _ h => h) dX9_rootAlone_41 ?_
  refine lv_iconst (v := 0) hx hb dX9_rootAlone_44 (by decide) ?_
  refine lv_iconst (v := 0) hx hb dX9_rootAlone_45 (by decide) ?_
  obtain ⟨ht20, hf⟩ := hf
  obtain ⟨hlo21, hf⟩ := hf
  obtain ⟨hi22, hf⟩ := hf
  refine p_iast X hP hL ht20 hlo21 hi22 dX9_rootAlone_46 (fun H locs hP hL => ?_)
  refine p_nmP hP (fun σ23 hσ23 hP => ?_)
  have hf := hf σ23 hσ23
  have ht1 : tg_ σ23 x0 = 9 := by rw [hσ23]; exact ht1
  refine p_aload_n hx hb dX9_rootAlone_47 rfl (lv_at hl 0 rfl) ?_
  refine p_gR X cf8_ (k := 18) (by decide) rfl hP ht1 q1313 (fun _ h => h) dX9_rootAlone_48 ?_
  refine lv_iconst (v := 0) hx hb dX9_rootAlone_51 (by decide) ?_
  refine lv_iconst (v := 0) hx hb dX9_rootAlone_52 (by decide) ?_
  obtain ⟨ht24, hf⟩ := hf
  obtain ⟨hlo25, hf⟩ := hf
  obtain ⟨hi26, hf⟩ := hf
  refine p_iast X hP hL ht24 hlo25 hi26 dX9_rootAlone_53 (fun H locs hP hL => ?_)
  refine p_nmP hP (fun σ27 hσ27 hP => ?_)
  have hf := hf σ27 hσ27
  have ht1 : tg_ σ27 x0 = 9 := by rw [hσ27]; exact ht1
  exact p_vret X hlk hP hL (Nat.le_refl _) (Nat.le_refl _) hr dX9_rootAlone_54 hf
set_option maxHeartbeats 4000000 in
theorem metX9_rootAlone (l : Launch) (G : GG_) (x0 : Nat) (σ : Hp) (post : Hp → Prop) (hG : GOK_ G) (hf : wX9_rootAlone x0 σ post) : Met l yX9_rootAlone (ws_ yX9_rootAlone cX9_rootAlone 1 none) { frames := 1, cells := 0, slots := 0, locals := 20 } (PC_ G [rv_ x0] σ) (QV_ G post) 0 0 (FR_ G) := by
  refine Met.ofW (cc := cX9_rootAlone) (maxL := 1) (ret := none) (by decide) rfl ?_
  intro p e s m args below meth c s₁ B hml hv
  obtain ⟨rfl, hP, hW⟩ := hv
  have hts := atoms_spec (ws := ws_ yX9_rootAlone cX9_rootAlone 1 none) B.pre
  have hts : ∀ w ∈ lw_all, w.before _ s = true := fun w h => hts w (List.mem_cons_of_mem _ h)
  rw [lg_entry_eq]
  have hl := en_entry [rv_ x0] [1] (n := 1) (ca_r ca_n) (by decide)
  exact sX9_rootAlone ⟨⟨⟨B.exec, B.bytes, hml, findClass_of_methodNamed B.named, hts⟩, hW, hG⟩, B.notSynchronized, B.returns, Nat.le_refl _, Nat.le_refl _, ⟨rfl, rfl⟩, (name_of_methodNamed B.named B.method).1⟩ hf _ _ _ _ _ hP (LO_nil G) ⟨rfl, rfl⟩ hl
abbrev cX9_init : ByteArray := prog_11_method_1_code
def yX9_init : MethodName := ⟨RX9, "<init>", "(I)V"⟩
theorem dX9_init_0 : decode cX9_init 0 = .ok (.aload_n 0, 1) := by decide +kernel
theorem dX9_init_1 : decode cX9_init 1 = .ok (.invokespecial 1, 3) := by decide +kernel
theorem dX9_init_4 : decode cX9_init 4 = .ok (.aload_n 0, 1) := by decide +kernel
theorem dX9_init_5 : decode cX9_init 5 = .ok (.ldc 7, 2) := by decide +kernel
theorem dX9_init_7 : decode cX9_init 7 = .ok (.newarray .byte, 2) := by decide +kernel
theorem dX9_init_9 : decode cX9_init 9 = .ok (.putfield 8, 3) := by decide +kernel
theorem dX9_init_12 : decode cX9_init 12 = .ok (.aload_n 0, 1) := by decide +kernel
theorem dX9_init_13 : decode cX9_init 13 = .ok (.sipush 400, 3) := by decide +kernel
theorem dX9_init_16 : decode cX9_init 16 = .ok (.newarray .byte, 2) := by decide +kernel
theorem dX9_init_18 : decode cX9_init 18 = .ok (.putfield 14, 3) := by decide +kernel
theorem dX9_init_21 : decode cX9_init 21 = .ok (.aload_n 0, 1) := by decide +kernel
theorem dX9_init_22 : decode cX9_init 22 = .ok (.sipush 200, 3) := by decide +kernel
theorem dX9_init_25 : decode cX9_init 25 = .ok (.newarray .boolean, 2) := by decide +kernel
theorem dX9_init_27 : decode cX9_init 27 = .ok (.putfield 17, 3) := by decide +kernel
theorem dX9_init_30 : decode cX9_init 30 = .ok (.aload_n 0, 1) := by decide +kernel
theorem dX9_init_31 : decode cX9_init 31 = .ok (.sipush 2048, 3) := by decide +kernel
theorem dX9_init_34 : decode cX9_init 34 = .ok (.newarray .byte, 2) := by decide +kernel
theorem dX9_init_36 : decode cX9_init 36 = .ok (.putfield 21, 3) := by decide +kernel
theorem dX9_init_39 : decode cX9_init 39 = .ok (.aload_n 0, 1) := by decide +kernel
theorem dX9_init_40 : decode cX9_init 40 = .ok (.sipush 700, 3) := by decide +kernel
theorem dX9_init_43 : decode cX9_init 43 = .ok (.newarray .boolean, 2) := by decide +kernel
theorem dX9_init_45 : decode cX9_init 45 = .ok (.putfield 24, 3) := by decide +kernel
theorem dX9_init_48 : decode cX9_init 48 = .ok (.aload_n 0, 1) := by decide +kernel
theorem dX9_init_49 : decode cX9_init 49 = .ok (.sipush 700, 3) := by decide +kernel
theorem dX9_init_52 : decode cX9_init 52 = .ok (.newarray .boolean, 2) := by decide +kernel
theorem dX9_init_54 : decode cX9_init 54 = .ok (.putfield 27, 3) := by decide +kernel
theorem dX9_init_57 : decode cX9_init 57 = .ok (.aload_n 0, 1) := by decide +kernel
theorem dX9_init_58 : decode cX9_init 58 = .ok (.sipush 700, 3) := by decide +kernel
theorem dX9_init_61 : decode cX9_init 61 = .ok (.newarray .int, 2) := by decide +kernel
theorem dX9_init_63 : decode cX9_init 63 = .ok (.putfield 30, 3) := by decide +kernel
theorem dX9_init_66 : decode cX9_init 66 = .ok (.aload_n 0, 1) := by decide +kernel
theorem dX9_init_67 : decode cX9_init 67 = .ok (.sipush 700, 3) := by decide +kernel
theorem dX9_init_70 : decode cX9_init 70 = .ok (.newarray .long, 2) := by decide +kernel
theorem dX9_init_72 : decode cX9_init 72 = .ok (.putfield 34, 3) := by decide +kernel
theorem dX9_init_75 : decode cX9_init 75 = .ok (.aload_n 0, 1) := by decide +kernel
theorem dX9_init_76 : decode cX9_init 76 = .ok (.sipush 700, 3) := by decide +kernel
theorem dX9_init_79 : decode cX9_init 79 = .ok (.newarray .int, 2) := by decide +kernel
theorem dX9_init_81 : decode cX9_init 81 = .ok (.putfield 38, 3) := by decide +kernel
theorem dX9_init_84 : decode cX9_init 84 = .ok (.aload_n 0, 1) := by decide +kernel
theorem dX9_init_85 : decode cX9_init 85 = .ok (.sipush 700, 3) := by decide +kernel
theorem dX9_init_88 : decode cX9_init 88 = .ok (.newarray .int, 2) := by decide +kernel
theorem dX9_init_90 : decode cX9_init 90 = .ok (.putfield 41, 3) := by decide +kernel
theorem dX9_init_93 : decode cX9_init 93 = .ok (.aload_n 0, 1) := by decide +kernel
theorem dX9_init_94 : decode cX9_init 94 = .ok (.sipush 700, 3) := by decide +kernel
theorem dX9_init_97 : decode cX9_init 97 = .ok (.newarray .boolean, 2) := by decide +kernel
theorem dX9_init_99 : decode cX9_init 99 = .ok (.putfield 44, 3) := by decide +kernel
theorem dX9_init_102 : decode cX9_init 102 = .ok (.aload_n 0, 1) := by decide +kernel
theorem dX9_init_103 : decode cX9_init 103 = .ok (.sipush 700, 3) := by decide +kernel
theorem dX9_init_106 : decode cX9_init 106 = .ok (.newarray .int, 2) := by decide +kernel
theorem dX9_init_108 : decode cX9_init 108 = .ok (.putfield 47, 3) := by decide +kernel
theorem dX9_init_111 : decode cX9_init 111 = .ok (.aload_n 0, 1) := by decide +kernel
theorem dX9_init_112 : decode cX9_init 112 = .ok (.sipush 700, 3) := by decide +kernel
theorem dX9_init_115 : decode cX9_init 115 = .ok (.newarray .int, 2) := by decide +kernel
theorem dX9_init_117 : decode cX9_init 117 = .ok (.putfield 50, 3) := by decide +kernel
theorem dX9_init_120 : decode cX9_init 120 = .ok (.aload_n 0, 1) := by decide +kernel
theorem dX9_init_121 : decode cX9_init 121 = .ok (.ldc 53, 2) := by decide +kernel
theorem dX9_init_123 : decode cX9_init 123 = .ok (.newarray .byte, 2) := by decide +kernel
theorem dX9_init_125 : decode cX9_init 125 = .ok (.putfield 54, 3) := by decide +kernel
theorem dX9_init_128 : decode cX9_init 128 = .ok (.aload_n 0, 1) := by decide +kernel
theorem dX9_init_129 : decode cX9_init 129 = .ok (.bipush 30, 2) := by decide +kernel
theorem dX9_init_131 : decode cX9_init 131 = .ok (.newarray .int, 2) := by decide +kernel
theorem dX9_init_133 : decode cX9_init 133 = .ok (.putfield 57, 3) := by decide +kernel
theorem dX9_init_136 : decode cX9_init 136 = .ok (.aload_n 0, 1) := by decide +kernel
theorem dX9_init_137 : decode cX9_init 137 = .ok (.sipush 700, 3) := by decide +kernel
theorem dX9_init_140 : decode cX9_init 140 = .ok (.newarray .int, 2) := by decide +kernel
theorem dX9_init_142 : decode cX9_init 142 = .ok (.putfield 60, 3) := by decide +kernel
theorem dX9_init_145 : decode cX9_init 145 = .ok (.aload_n 0, 1) := by decide +kernel
theorem dX9_init_146 : decode cX9_init 146 = .ok (.sipush 700, 3) := by decide +kernel
theorem dX9_init_149 : decode cX9_init 149 = .ok (.newarray .int, 2) := by decide +kernel
theorem dX9_init_151 : decode cX9_init 151 = .ok (.putfield 63, 3) := by decide +kernel
theorem dX9_init_154 : decode cX9_init 154 = .ok (.aload_n 0, 1) := by decide +kernel
theorem dX9_init_155 : decode cX9_init 155 = .ok (.bipush 31, 2) := by decide +kernel
theorem dX9_init_157 : decode cX9_init 157 = .ok (.newarray .int, 2) := by decide +kernel
theorem dX9_init_159 : decode cX9_init 159 = .ok (.putfield 66, 3) := by decide +kernel
theorem dX9_init_162 : decode cX9_init 162 = .ok (.aload_n 0, 1) := by decide +kernel
theorem dX9_init_163 : decode cX9_init 163 = .ok (.bipush 31, 2) := by decide +kernel
theorem dX9_init_165 : decode cX9_init 165 = .ok (.newarray .boolean, 2) := by decide +kernel
theorem dX9_init_167 : decode cX9_init 167 = .ok (.putfield 69, 3) := by decide +kernel
theorem dX9_init_170 : decode cX9_init 170 = .ok (.aload_n 0, 1) := by decide +kernel
theorem dX9_init_171 : decode cX9_init 171 = .ok (.bipush 31, 2) := by decide +kernel
theorem dX9_init_173 : decode cX9_init 173 = .ok (.newarray .int, 2) := by decide +kernel
theorem dX9_init_175 : decode cX9_init 175 = .ok (.putfield 72, 3) := by decide +kernel
theorem dX9_init_178 : decode cX9_init 178 = .ok (.aload_n 0, 1) := by decide +kernel
theorem dX9_init_179 : decode cX9_init 179 = .ok (.bipush 31, 2) := by decide +kernel
theorem dX9_init_181 : decode cX9_init 181 = .ok (.newarray .int, 2) := by decide +kernel
theorem dX9_init_183 : decode cX9_init 183 = .ok (.putfield 75, 3) := by decide +kernel
theorem dX9_init_186 : decode cX9_init 186 = .ok (.aload_n 0, 1) := by decide +kernel
theorem dX9_init_187 : decode cX9_init 187 = .ok (.bipush 31, 2) := by decide +kernel
theorem dX9_init_189 : decode cX9_init 189 = .ok (.newarray .long, 2) := by decide +kernel
theorem dX9_init_191 : decode cX9_init 191 = .ok (.putfield 78, 3) := by decide +kernel
theorem dX9_init_194 : decode cX9_init 194 = .ok (.aload_n 0, 1) := by decide +kernel
theorem dX9_init_195 : decode cX9_init 195 = .ok (.bipush 31, 2) := by decide +kernel
theorem dX9_init_197 : decode cX9_init 197 = .ok (.newarray .int, 2) := by decide +kernel
theorem dX9_init_199 : decode cX9_init 199 = .ok (.putfield 81, 3) := by decide +kernel
theorem dX9_init_202 : decode cX9_init 202 = .ok (.aload_n 0, 1) := by decide +kernel
theorem dX9_init_203 : decode cX9_init 203 = .ok (.bipush 31, 2) := by decide +kernel
theorem dX9_init_205 : decode cX9_init 205 = .ok (.newarray .int, 2) := by decide +kernel
theorem dX9_init_207 : decode cX9_init 207 = .ok (.putfield 84, 3) := by decide +kernel
theorem dX9_init_210 : decode cX9_init 210 = .ok (.aload_n 0, 1) := by decide +kernel
theorem dX9_init_211 : decode cX9_init 211 = .ok (.bipush 31, 2) := by decide +kernel
theorem dX9_init_213 : decode cX9_init 213 = .ok (.newarray .boolean, 2) := by decide +kernel
theorem dX9_init_215 : decode cX9_init 215 = .ok (.putfield 87, 3) := by decide +kernel
theorem dX9_init_218 : decode cX9_init 218 = .ok (.aload_n 0, 1) := by decide +kernel
theorem dX9_init_219 : decode cX9_init 219 = .ok (.bipush 31, 2) := by decide +kernel
theorem dX9_init_221 : decode cX9_init 221 = .ok (.newarray .int, 2) := by decide +kernel
theorem dX9_init_223 : decode cX9_init 223 = .ok (.putfield 90, 3) := by decide +kernel
theorem dX9_init_226 : decode cX9_init 226 = .ok (.aload_n 0, 1) := by decide +kernel
theorem dX9_init_227 : decode cX9_init 227 = .ok (.bipush 31, 2) := by decide +kernel
theorem dX9_init_229 : decode cX9_init 229 = .ok (.newarray .int, 2) := by decide +kernel
theorem dX9_init_231 : decode cX9_init 231 = .ok (.putfield 93, 3) := by decide +kernel
theorem dX9_init_234 : decode cX9_init 234 = .ok (.aload_n 0, 1) := by decide +kernel
theorem dX9_init_235 : decode cX9_init 235 = .ok (.bipush 31, 2) := by decide +kernel
theorem dX9_init_237 : decode cX9_init 237 = .ok (.newarray .long, 2) := by decide +kernel
theorem dX9_init_239 : decode cX9_init 239 = .ok (.putfield 96, 3) := by decide +kernel
theorem dX9_init_242 : decode cX9_init 242 = .ok (.aload_n 0, 1) := by decide +kernel
theorem dX9_init_243 : decode cX9_init 243 = .ok (.iload_n 1, 1) := by decide +kernel
theorem dX9_init_244 : decode cX9_init 244 = .ok (.bipush 40, 2) := by decide +kernel
theorem dX9_init_246 : decode cX9_init 246 = .ok (.if_icmp .lt 14, 3) := by decide +kernel
theorem dX9_init_249 : decode cX9_init 249 = .ok (.iload_n 1, 1) := by decide +kernel
theorem dX9_init_250 : decode cX9_init 250 = .ok (.sipush 200, 3) := by decide +kernel
theorem dX9_init_253 : decode cX9_init 253 = .ok (.if_icmp .gt 7, 3) := by decide +kernel
theorem dX9_init_256 : decode cX9_init 256 = .ok (.iload_n 1, 1) := by decide +kernel
theorem dX9_init_257 : decode cX9_init 257 = .ok (.goto 5, 3) := by decide +kernel
theorem dX9_init_260 : decode cX9_init 260 = .ok (.bipush 100, 2) := by decide +kernel
theorem dX9_init_262 : decode cX9_init 262 = .ok (.putfield 99, 3) := by decide +kernel
theorem dX9_init_265 : decode cX9_init 265 = .ok (.aload_n 0, 1) := by decide +kernel
theorem dX9_init_266 : decode cX9_init 266 = .ok (.iconst (-1), 1) := by decide +kernel
theorem dX9_init_267 : decode cX9_init 267 = .ok (.putfield 103, 3) := by decide +kernel
theorem dX9_init_270 : decode cX9_init 270 = .ok (.aload_n 0, 1) := by decide +kernel
theorem dX9_init_271 : decode cX9_init 271 = .ok (.invokevirtual 106, 3) := by decide +kernel
theorem dX9_init_274 : decode cX9_init 274 = .ok (.return_, 1) := by decide +kernel
/-- WriteOnceDiscModel.<init>(I)V -/
def wX9_init_L262 (post : Hp → Prop) (x0 : Nat) (s0 : Int32) (s1 : Nat) (σ : Hp) : Prop :=
(tg_ σ s1 = 9 ∧ (∀ σ2, σ2 = sI_ σ 8 1 s1 s0 → (tg_ σ2 x0 = 9 ∧ (∀ σ4, σ4 = sI_ σ2 8 7 x0 (-1 : Int32) → (wX9_rootAlone x0  σ4 (fun σ5 => (∀ σ6, σ6 = bu_ σ5 (bc_ σ4) (bs_ σ4) → post σ6)))))))
def wX9_init_L260 (post : Hp → Prop) (x0 : Nat) (s0 : Nat) (σ : Hp) : Prop :=
wX9_init_L262 post x0 (100 : Int32) s0 σ
def wX9_init (x0 : Nat) (x1 : Int32) (σ : Hp) (post : Hp → Prop) : Prop :=
(tg_ σ x0 = 9 ∧ (¬ (819200 : Int32) < 0 ∧ (((819200 : Int32)).toNatClampNeg ≤ 1000000 ∧ (1 ≤ bc_ σ ∧ (((819200 : Int32)).toNatClampNeg ≤ bs_ σ ∧ (∀ σ12, σ12 = mA_ σ 100 ((819200 : Int32)).toNatClampNeg → (tg_ σ12 x0 = 9 ∧ (∀ σ14, σ14 = sR_ σ12 8 3 x0 (nx_ σ) → (¬ (400 : Int32) < 0 ∧ (((400 : Int32)).toNatClampNeg ≤ 1000000 ∧ (1 ≤ bc_ σ14 ∧ (((400 : Int32)).toNatClampNeg ≤ bs_ σ14 ∧ (∀ σ19, σ19 = mA_ σ14 100 ((400 : Int32)).toNatClampNeg → (tg_ σ19 x0 = 9 ∧ (∀ σ21, σ21 = sR_ σ19 8 4 x0 (nx_ σ14) → (¬ (200 : Int32) < 0 ∧ (((200 : Int32)).toNatClampNeg ≤ 1000000 ∧ (1 ≤ bc_ σ21 ∧ (((200 : Int32)).toNatClampNeg ≤ bs_ σ21 ∧ (∀ σ26, σ26 = mA_ σ21 101 ((200 : Int32)).toNatClampNeg → (tg_ σ26 x0 = 9 ∧ (∀ σ28, σ28 = sR_ σ26 8 5 x0 (nx_ σ21) → (¬ (2048 : Int32) < 0 ∧ (((2048 : Int32)).toNatClampNeg ≤ 1000000 ∧ (1 ≤ bc_ σ28 ∧ (((2048 : Int32)).toNatClampNeg ≤ bs_ σ28 ∧ (∀ σ33, σ33 = mA_ σ28 100 ((2048 : Int32)).toNatClampNeg → (tg_ σ33 x0 = 9 ∧ (∀ σ35, σ35 = sR_ σ33 8 9 x0 (nx_ σ28) → (¬ (700 : Int32) < 0 ∧ (((700 : Int32)).toNatClampNeg ≤ 1000000 ∧ (1 ≤ bc_ σ35 ∧ (((700 : Int32)).toNatClampNeg ≤ bs_ σ35 ∧ (∀ σ40, σ40 = mA_ σ35 101 ((700 : Int32)).toNatClampNeg → (tg_ σ40 x0 = 9 ∧ (∀ σ42, σ42 = sR_ σ40 8 11 x0 (nx_ σ35) → (¬ (700 : Int32) < 0 ∧ (((700 : Int32)).toNatClampNeg ≤ 1000000 ∧ (1 ≤ bc_ σ42 ∧ (((700 : Int32)).toNatClampNeg ≤ bs_ σ42 ∧ (∀ σ47, σ47 = mA_ σ42 101 ((700 : Int32)).toNatClampNeg → (tg_ σ47 x0 = 9 ∧ (∀ σ49, σ49 = sR_ σ47 8 12 x0 (nx_ σ42) → (¬ (700 : Int32) < 0 ∧ (((700 : Int32)).toNatClampNeg ≤ 1000000 ∧ (1 ≤ bc_ σ49 ∧ (((700 : Int32)).toNatClampNeg ≤ bs_ σ49 ∧ (∀ σ54, σ54 = mA_ σ49 102 ((700 : Int32)).toNatClampNeg → (tg_ σ54 x0 = 9 ∧ (∀ σ56, σ56 = sR_ σ54 8 13 x0 (nx_ σ49) → (¬ (700 : Int32) < 0 ∧ (((700 : Int32)).toNatClampNeg ≤ 1000000 ∧ (1 ≤ bc_ σ56 ∧ (((700 : Int32)).toNatClampNeg ≤ bs_ σ56 ∧ (∀ σ61, σ61 = mA_ σ56 103 ((700 : Int32)).toNatClampNeg → (tg_ σ61 x0 = 9 ∧ (∀ σ63, σ63 = sR_ σ61 8 14 x0 (nx_ σ56) → (¬ (700 : Int32) < 0 ∧ (((700 : Int32)).toNatClampNeg ≤ 1000000 ∧ (1 ≤ bc_ σ63 ∧ (((700 : Int32)).toNatClampNeg ≤ bs_ σ63 ∧ (∀ σ68, σ68 = mA_ σ63 102 ((700 : Int32)).toNatClampNeg → (tg_ σ68 x0 = 9 ∧ (∀ σ70, σ70 = sR_ σ68 8 15 x0 (nx_ σ63) → (¬ (700 : Int32) < 0 ∧ (((700 : Int32)).toNatClampNeg ≤ 1000000 ∧ (1 ≤ bc_ σ70 ∧ (((700 : Int32)).toNatClampNeg ≤ bs_ σ70 ∧ (∀ σ75, σ75 = mA_ σ70 102 ((700 : Int32)).toNatClampNeg → (tg_ σ75 x0 = 9 ∧ (∀ σ77, σ77 = sR_ σ75 8 16 x0 (nx_ σ70) → (¬ (700 : Int32) < 0 ∧ (((700 : Int32)).toNatClampNeg ≤ 1000000 ∧ (1 ≤ bc_ σ77 ∧ (((700 : Int32)).toNatClampNeg ≤ bs_ σ77 ∧ (∀ σ82, σ82 = mA_ σ77 101 ((700 : Int32)).toNatClampNeg → (tg_ σ82 x0 = 9 ∧ (∀ σ84, σ84 = sR_ σ82 8 17 x0 (nx_ σ77) → (¬ (700 : Int32) < 0 ∧ (((700 : Int32)).toNatClampNeg ≤ 1000000 ∧ (1 ≤ bc_ σ84 ∧ (((700 : Int32)).toNatClampNeg ≤ bs_ σ84 ∧ (∀ σ89, σ89 = mA_ σ84 102 ((700 : Int32)).toNatClampNeg → (tg_ σ89 x0 = 9 ∧ (∀ σ91, σ91 = sR_ σ89 8 18 x0 (nx_ σ84) → (¬ (700 : Int32) < 0 ∧ (((700 : Int32)).toNatClampNeg ≤ 1000000 ∧ (1 ≤ bc_ σ91 ∧ (((700 : Int32)).toNatClampNeg ≤ bs_ σ91 ∧ (∀ σ96, σ96 = mA_ σ91 102 ((700 : Int32)).toNatClampNeg → (tg_ σ96 x0 = 9 ∧ (∀ σ98, σ98 = sR_ σ96 8 19 x0 (nx_ σ91) → (¬ (163840 : Int32) < 0 ∧ (((163840 : Int32)).toNatClampNeg ≤ 1000000 ∧ (1 ≤ bc_ σ98 ∧ (((163840 : Int32)).toNatClampNeg ≤ bs_ σ98 ∧ (∀ σ103, σ103 = mA_ σ98 100 ((163840 : Int32)).toNatClampNeg → (tg_ σ103 x0 = 9 ∧ (∀ σ105, σ105 = sR_ σ103 8 21 x0 (nx_ σ98) → (¬ (30 : Int32) < 0 ∧ (((30 : Int32)).toNatClampNeg ≤ 1000000 ∧ (1 ≤ bc_ σ105 ∧ (((30 : Int32)).toNatClampNeg ≤ bs_ σ105 ∧ (∀ σ110, σ110 = mA_ σ105 102 ((30 : Int32)).toNatClampNeg → (tg_ σ110 x0 = 9 ∧ (∀ σ112, σ112 = sR_ σ110 8 24 x0 (nx_ σ105) → (¬ (700 : Int32) < 0 ∧ (((700 : Int32)).toNatClampNeg ≤ 1000000 ∧ (1 ≤ bc_ σ112 ∧ (((700 : Int32)).toNatClampNeg ≤ bs_ σ112 ∧ (∀ σ117, σ117 = mA_ σ112 102 ((700 : Int32)).toNatClampNeg → (tg_ σ117 x0 = 9 ∧ (∀ σ119, σ119 = sR_ σ117 8 25 x0 (nx_ σ112) → (¬ (700 : Int32) < 0 ∧ (((700 : Int32)).toNatClampNeg ≤ 1000000 ∧ (1 ≤ bc_ σ119 ∧ (((700 : Int32)).toNatClampNeg ≤ bs_ σ119 ∧ (∀ σ124, σ124 = mA_ σ119 102 ((700 : Int32)).toNatClampNeg → (tg_ σ124 x0 = 9 ∧ (∀ σ126, σ126 = sR_ σ124 8 26 x0 (nx_ σ119) → (¬ (31 : Int32) < 0 ∧ (((31 : Int32)).toNatClampNeg ≤ 1000000 ∧ (1 ≤ bc_ σ126 ∧ (((31 : Int32)).toNatClampNeg ≤ bs_ σ126 ∧ (∀ σ131, σ131 = mA_ σ126 102 ((31 : Int32)).toNatClampNeg → (tg_ σ131 x0 = 9 ∧ (∀ σ133, σ133 = sR_ σ131 8 29 x0 (nx_ σ126) → (¬ (31 : Int32) < 0 ∧ (((31 : Int32)).toNatClampNeg ≤ 1000000 ∧ (1 ≤ bc_ σ133 ∧ (((31 : Int32)).toNatClampNeg ≤ bs_ σ133 ∧ (∀ σ138, σ138 = mA_ σ133 101 ((31 : Int32)).toNatClampNeg → (tg_ σ138 x0 = 9 ∧ (∀ σ140, σ140 = sR_ σ138 8 30 x0 (nx_ σ133) → (¬ (31 : Int32) < 0 ∧ (((31 : Int32)).toNatClampNeg ≤ 1000000 ∧ (1 ≤ bc_ σ140 ∧ (((31 : Int32)).toNatClampNeg ≤ bs_ σ140 ∧ (∀ σ145, σ145 = mA_ σ140 102 ((31 : Int32)).toNatClampNeg → (tg_ σ145 x0 = 9 ∧ (∀ σ147, σ147 = sR_ σ145 8 31 x0 (nx_ σ140) → (¬ (31 : Int32) < 0 ∧ (((31 : Int32)).toNatClampNeg ≤ 1000000 ∧ (1 ≤ bc_ σ147 ∧ (((31 : Int32)).toNatClampNeg ≤ bs_ σ147 ∧ (∀ σ152, σ152 = mA_ σ147 102 ((31 : Int32)).toNatClampNeg → (tg_ σ152 x0 = 9 ∧ (∀ σ154, σ154 = sR_ σ152 8 32 x0 (nx_ σ147) → (¬ (31 : Int32) < 0 ∧ (((31 : Int32)).toNatClampNeg ≤ 1000000 ∧ (1 ≤ bc_ σ154 ∧ (((31 : Int32)).toNatClampNeg ≤ bs_ σ154 ∧ (∀ σ159, σ159 = mA_ σ154 103 ((31 : Int32)).toNatClampNeg → (tg_ σ159 x0 = 9 ∧ (∀ σ161, σ161 = sR_ σ159 8 33 x0 (nx_ σ154) → (¬ (31 : Int32) < 0 ∧ (((31 : Int32)).toNatClampNeg ≤ 1000000 ∧ (1 ≤ bc_ σ161 ∧ (((31 : Int32)).toNatClampNeg ≤ bs_ σ161 ∧ (∀ σ166, σ166 = mA_ σ161 102 ((31 : Int32)).toNatClampNeg → (tg_ σ166 x0 = 9 ∧ (∀ σ168, σ168 = sR_ σ166 8 34 x0 (nx_ σ161) → (¬ (31 : Int32) < 0 ∧ (((31 : Int32)).toNatClampNeg ≤ 1000000 ∧ (1 ≤ bc_ σ168 ∧ (((31 : Int32)).toNatClampNeg ≤ bs_ σ168 ∧ (∀ σ173, σ173 = mA_ σ168 102 ((31 : Int32)).toNatClampNeg → (tg_ σ173 x0 = 9 ∧ (∀ σ175, σ175 = sR_ σ173 8 36 x0 (nx_ σ168) → (¬ (31 : Int32) < 0 ∧ (((31 : Int32)).toNatClampNeg ≤ 1000000 ∧ (1 ≤ bc_ σ175 ∧ (((31 : Int32)).toNatClampNeg ≤ bs_ σ175 ∧ (∀ σ180, σ180 = mA_ σ175 101 ((31 : Int32)).toNatClampNeg → (tg_ σ180 x0 = 9 ∧ (∀ σ182, σ182 = sR_ σ180 8 37 x0 (nx_ σ175) → (¬ (31 : Int32) < 0 ∧ (((31 : Int32)).toNatClampNeg ≤ 1000000 ∧ (1 ≤ bc_ σ182 ∧ (((31 : Int32)).toNatClampNeg ≤ bs_ σ182 ∧ (∀ σ187, σ187 = mA_ σ182 102 ((31 : Int32)).toNatClampNeg → (tg_ σ187 x0 = 9 ∧ (∀ σ189, σ189 = sR_ σ187 8 38 x0 (nx_ σ182) → (¬ (31 : Int32) < 0 ∧ (((31 : Int32)).toNatClampNeg ≤ 1000000 ∧ (1 ≤ bc_ σ189 ∧ (((31 : Int32)).toNatClampNeg ≤ bs_ σ189 ∧ (∀ σ194, σ194 = mA_ σ189 102 ((31 : Int32)).toNatClampNeg → (tg_ σ194 x0 = 9 ∧ (∀ σ196, σ196 = sR_ σ194 8 39 x0 (nx_ σ189) → (¬ (31 : Int32) < 0 ∧ (((31 : Int32)).toNatClampNeg ≤ 1000000 ∧ (1 ≤ bc_ σ196 ∧ (((31 : Int32)).toNatClampNeg ≤ bs_ σ196 ∧ (∀ σ201, σ201 = mA_ σ196 103 ((31 : Int32)).toNatClampNeg → (tg_ σ201 x0 = 9 ∧ (∀ σ203, σ203 = sR_ σ201 8 40 x0 (nx_ σ196) → ((x1 < (40 : Int32) →
  wX9_init_L260 post x0 x0 σ203) ∧
 (¬ x1 < (40 : Int32) →
  (((200 : Int32) < x1 →
   wX9_init_L260 post x0 x0 σ203) ∧
  (¬ (200 : Int32) < x1 →
   wX9_init_L262 post x0 x1 x0 σ203)))))))))))))))))))))))))))))))))))))))))))))))))))))))))))))))))))))))))))))))))))))))))))))))))))))))))))))))))))))))))))))))))))))))))))))))))))))))))))))))))))))))))))))))))))))))))))))))))))))))))
set_option maxHeartbeats 4000000 in
theorem sX9_init_L262 {G : GG_} {p : Program} {l : Launch} {e : Env} {R : Room} {s : State} {m : MethodId} {args : Array Value} {below : List Frame} {meth : Method} {c : Code} {mc ms : Nat} (Y : MX_ G p R s m args meth c cX9_init 2 RX9 none 2 40 mc ms "<init>") {post : Hp → Prop} {x0 : Nat} {s0 : Int32} {s1 : Nat} {σ : Hp} (hf : wX9_init_L262 post x0 s0 s1 σ) : WG_ G p l e R s m args below meth c (MQ below (QV_ G post) args s mc ms (FR_ G)) (BU_ R) 2 262 [(0, rv_ x0)] [.int s0, rv_ s1] σ := by
  have ⟨X, hlk, hr, hRf, hRl, hRc, hnm⟩ := Y
  have ⟨⟨hx, hb, _, hown, hts⟩, _, _⟩ := X
  intro H locs cells slots ls hP hL hB hl
  unfold wX9_init_L262 at hf
  obtain ⟨ht1, hf⟩ := hf
  refine p_pI X cf8_ (k := 1) (by decide) rfl hP hL ht1 (p_ow hP ht1 rfl) q1296 (fun _ h => h) (Or.inr ⟨rfl, hnm, rfl⟩) rfl rfl dX9_init_262 (fun H locs hP hL => ?_)
  refine p_nmPB hP hB (fun σ2 hσ2 hP hB => ?_)
  have hf := hf σ2 hσ2
  have ht1 : tg_ σ2 s1 = 9 := by rw [hσ2]; exact ht1
  refine p_aload_n hx hb dX9_init_265 rfl (lv_at hl 0 rfl) ?_
  refine lv_iconst (v := (-1)) hx hb dX9_init_266 (by decide) ?_
  obtain ⟨ht3, hf⟩ := hf
  refine p_pI X cf8_ (k := 7) (by decide) rfl hP hL ht3 (p_ow hP ht3 rfl) q1302 (fun _ h => h) (Or.inl rfl) rfl rfl dX9_init_267 (fun H locs hP hL => ?_)
  refine p_nmPB hP hB (fun σ4 hσ4 hP hB => ?_)
  have hf := hf σ4 hσ4
  have ht1 : tg_ σ4 s1 = 9 := by rw [hσ4]; exact ht1
  have ht3 : tg_ σ4 x0 = 9 := by rw [hσ4]; exact ht3
  refine p_aload_n hx hb dX9_init_270 rfl (lv_at hl 0 rfl) ?_
  refine p_callv hL (p_runV X cf8_ hP ht3 (metX9_rootAlone l G _ _ _ X.2.2 hf) (cwV 0 hts (lw_V q1291 q1293 qs42 q106 q1294) rfl rfl rfl (by decide +kernel) ⟨Nat.le_trans (Nat.le_of_ble_eq_true rfl) hRf, Nat.le_trans (Nat.le_of_ble_eq_true rfl) hRl⟩) rfl hl.1 rfl (by decide) dX9_init_271 (BU_call hB (Nat.zero_le _) (Nat.zero_le _))) (fun σ5 H locs hf hP hL => ?_)
  have hB := BU_keep (τ := σ5) hB
  have hP := Pic_bu hP (bc_ σ4) (bs_ σ4)
  refine p_nmPB hP hB (fun σ6 hσ6 hP hB => ?_)
  have hf := hf σ6 hσ6
  exact p_vret X hlk hP hL (BU_le hB hRc).1 (BU_le hB hRc).2 hr dX9_init_274 hf
set_option maxHeartbeats 4000000 in
theorem sX9_init_L260 {G : GG_} {p : Program} {l : Launch} {e : Env} {R : Room} {s : State} {m : MethodId} {args : Array Value} {below : List Frame} {meth : Method} {c : Code} {mc ms : Nat} (Y : MX_ G p R s m args meth c cX9_init 2 RX9 none 2 40 mc ms "<init>") {post : Hp → Prop} {x0 : Nat} {s0 : Nat} {σ : Hp} (hf : wX9_init_L260 post x0 s0 σ) : WG_ G p l e R s m args below meth c (MQ below (QV_ G post) args s mc ms (FR_ G)) (BU_ R) 2 260 [(0, rv_ x0)] [rv_ s0] σ := by
  have ⟨X, hlk, hr, hRf, hRl, hRc, hnm⟩ := Y
  have ⟨⟨hx, hb, _, hown, hts⟩, _, _⟩ := X
  intro H locs cells slots ls hP hL hB hl
  unfold wX9_init_L260 at hf
  refine lv_bipush (v := 100) hx hb dX9_init_260 (by decide) ?_
  exact sX9_init_L262 Y hf _ _ _ _ _ hP hL hB (lv_sub hl [0] rfl)
set_option maxHeartbeats 4000000 in
theorem sX9_init {G : GG_} {p : Program} {l : Launch} {e : Env} {R : Room} {s : State} {m : MethodId} {args : Array Value} {below : List Frame} {meth : Method} {c : Code} {mc ms : Nat} (Y : MX_ G p R s m args meth c cX9_init 2 RX9 none 2 40 mc ms "<init>") {post : Hp → Prop} {x0 : Nat} {x1 : Int32} {σ : Hp} (hf : wX9_init x0 x1 σ post) : WG_ G p l e R s m args below meth c (MQ below (QV_ G post) args s mc ms (FR_ G)) (BU_ R) 2 0 [(0, rv_ x0), (1, .int x1)] [] σ := by
  have ⟨X, hlk, hr, hRf, hRl, hRc, hnm⟩ := Y
  have ⟨⟨hx, hb, _, hown, hts⟩, _, _⟩ := X
  intro H locs cells slots ls hP hL hB hl
  unfold wX9_init at hf
  refine p_aload_n hx hb dX9_init_0 rfl (lv_at hl 0 rfl) ?_
  obtain ⟨ht7, hf⟩ := hf
  refine p_objInit X hP ht7 q1288 q119 q120 hl.1 dX9_init_1 (Nat.le_trans (by decide) hRf) (by decide) (Nat.le_trans (by decide) hRl) ?_
  refine p_aload_n hx hb dX9_init_4 rfl (lv_at hl 0 rfl) ?_
  refine lv_ldc hx hb hown (hts _ q1289) dX9_init_5 ?_
  obtain ⟨hb8, hf⟩ := hf
  obtain ⟨hb9, hf⟩ := hf
  obtain ⟨hb10, hf⟩ := hf
  obtain ⟨hb11, hf⟩ := hf
  refine p_newa X (atype := .byte) (t := 100) rfl (by decide) (by decide) q184 hP hB hb8 hb9 hb10 hb11 dX9_init_7 (fun H hP hB => ?_)
  refine p_nmPB hP hB (fun σ12 hσ12 hP hB => ?_)
  have hf := hf σ12 hσ12
  obtain ⟨ht13, hf⟩ := hf
  refine p_pR X cf8_ (k := 3) (by decide) rfl hP hL ht13 (p_ow hP ht13 rfl) q1298 (fun _ h => h) (Or.inr ⟨rfl, hnm, rfl⟩) dX9_init_9 (fun H locs hP hL => ?_)
  refine p_nmPB hP hB (fun σ14 hσ14 hP hB => ?_)
  have hf := hf σ14 hσ14
  have ht13 : tg_ σ14 x0 = 9 := by rw [hσ14]; exact ht13
  refine p_aload_n hx hb dX9_init_12 rfl (lv_at hl 0 rfl) ?_
  refine lv_sipush (v := 400) hx hb dX9_init_13 (by decide) ?_
  obtain ⟨hb15, hf⟩ := hf
  obtain ⟨hb16, hf⟩ := hf
  obtain ⟨hb17, hf⟩ := hf
  obtain ⟨hb18, hf⟩ := hf
  refine p_newa X (atype := .byte) (t := 100) rfl (by decide) (by decide) q184 hP hB hb15 hb16 hb17 hb18 dX9_init_16 (fun H hP hB => ?_)
  refine p_nmPB hP hB (fun σ19 hσ19 hP hB => ?_)
  have hf := hf σ19 hσ19
  obtain ⟨ht20, hf⟩ := hf
  refine p_pR X cf8_ (k := 4) (by decide) rfl hP hL ht20 (p_ow hP ht20 rfl) q1299 (fun _ h => h) (Or.inr ⟨rfl, hnm, rfl⟩) dX9_init_18 (fun H locs hP hL => ?_)
  refine p_nmPB hP hB (fun σ21 hσ21 hP hB => ?_)
  have hf := hf σ21 hσ21
  have ht20 : tg_ σ21 x0 = 9 := by rw [hσ21]; exact ht20
  refine p_aload_n hx hb dX9_init_21 rfl (lv_at hl 0 rfl) ?_
  refine lv_sipush (v := 200) hx hb dX9_init_22 (by decide) ?_
  obtain ⟨hb22, hf⟩ := hf
  obtain ⟨hb23, hf⟩ := hf
  obtain ⟨hb24, hf⟩ := hf
  obtain ⟨hb25, hf⟩ := hf
  refine p_newa X (atype := .boolean) (t := 101) rfl (by decide) (by decide) q579 hP hB hb22 hb23 hb24 hb25 dX9_init_25 (fun H hP hB => ?_)
  refine p_nmPB hP hB (fun σ26 hσ26 hP hB => ?_)
  have hf := hf σ26 hσ26
  obtain ⟨ht27, hf⟩ := hf
  refine p_pR X cf8_ (k := 5) (by decide) rfl hP hL ht27 (p_ow hP ht27 rfl) q1300 (fun _ h => h) (Or.inr ⟨rfl, hnm, rfl⟩) dX9_init_27 (fun H locs hP hL => ?_)
  refine p_nmPB hP hB (fun σ28 hσ28 hP hB => ?_)
  have hf := hf σ28 hσ28
  have ht27 : tg_ σ28 x0 = 9 := by rw [hσ28]; exact ht27
  refine p_aload_n hx hb dX9_init_30 rfl (lv_at hl 0 rfl) ?_
  refine lv_sipush (v := 2048) hx hb dX9_init_31 (by decide) ?_
  obtain ⟨hb29, hf⟩ := hf
  obtain ⟨hb30, hf⟩ := hf
  obtain ⟨hb31, hf⟩ := hf
  obtain ⟨hb32, hf⟩ := hf
  refine p_newa X (atype := .byte) (t := 100) rfl (by decide) (by decide) q184 hP hB hb29 hb30 hb31 hb32 dX9_init_34 (fun H hP hB => ?_)
  refine p_nmPB hP hB (fun σ33 hσ33 hP hB => ?_)
  have hf := hf σ33 hσ33
  obtain ⟨ht34, hf⟩ := hf
  refine p_pR X cf8_ (k := 9) (by decide) rfl hP hL ht34 (p_ow hP ht34 rfl) q1304 (fun _ h => h) (Or.inr ⟨rfl, hnm, rfl⟩) dX9_init_36 (fun H locs hP hL => ?_)
  refine p_nmPB hP hB (fun σ35 hσ35 hP hB => ?_)
  have hf := hf σ35 hσ35
  have ht34 : tg_ σ35 x0 = 9 := by rw [hσ35]; exact ht34
  refine p_aload_n hx hb dX9_init_39 rfl (lv_at hl 0 rfl) ?_
  refine lv_sipush (v := 700) hx hb dX9_init_40 (by decide) ?_
  obtain ⟨hb36, hf⟩ := hf
  obtain ⟨hb37, hf⟩ := hf
  obtain ⟨hb38, hf⟩ := hf
  obtain ⟨hb39, hf⟩ := hf
  refine p_newa X (atype := .boolean) (t := 101) rfl (by decide) (by decide) q579 hP hB hb36 hb37 hb38 hb39 dX9_init_43 (fun H hP hB => ?_)
  refine p_nmPB hP hB (fun σ40 hσ40 hP hB => ?_)
  have hf := hf σ40 hσ40
  obtain ⟨ht41, hf⟩ := hf
  refine p_pR X cf8_ (k := 11) (by decide) rfl hP hL ht41 (p_ow hP ht41 rfl) q1306 (fun _ h => h) (Or.inr ⟨rfl, hnm, rfl⟩) dX9_init_45 (fun H locs hP hL => ?_)
  refine p_nmPB hP hB (fun σ42 hσ42 hP hB => ?_)
  have hf := hf σ42 hσ42
  have ht41 : tg_ σ42 x0 = 9 := by rw [hσ42]; exact ht41
  refine p_aload_n hx hb dX9_init_48 rfl (lv_at hl 0 rfl) ?_
  refine lv_sipush (v := 700) hx hb dX9_init_49 (by decide) ?_
  obtain ⟨hb43, hf⟩ := hf
  obtain ⟨hb44, hf⟩ := hf
  obtain ⟨hb45, hf⟩ := hf
  obtain ⟨hb46, hf⟩ := hf
  refine p_newa X (atype := .boolean) (t := 101) rfl (by decide) (by decide) q579 hP hB hb43 hb44 hb45 hb46 dX9_init_52 (fun H hP hB => ?_)
  refine p_nmPB hP hB (fun σ47 hσ47 hP hB => ?_)
  have hf := hf σ47 hσ47
  obtain ⟨ht48, hf⟩ := hf
  refine p_pR X cf8_ (k := 12) (by decide) rfl hP hL ht48 (p_ow hP ht48 rfl) q1307 (fun _ h => h) (Or.inr ⟨rfl, hnm, rfl⟩) dX9_init_54 (fun H locs hP hL => ?_)
  refine p_nmPB hP hB (fun σ49 hσ49 hP hB => ?_)
  have hf := hf σ49 hσ49
  have ht48 : tg_ σ49 x0 = 9 := by rw [hσ49]; exact ht48
  refine p_aload_n hx hb dX9_init_57 rfl (lv_at hl 0 rfl) ?_
  refine lv_sipush (v := 700) hx hb dX9_init_58 (by decide) ?_
  obtain ⟨hb50, hf⟩ := hf
  obtain ⟨hb51, hf⟩ := hf
  obtain ⟨hb52, hf⟩ := hf
  obtain ⟨hb53, hf⟩ := hf
  refine p_newa X (atype := .int) (t := 102) rfl (by decide) (by decide) q578 hP hB hb50 hb51 hb52 hb53 dX9_init_61 (fun H hP hB => ?_)
  refine p_nmPB hP hB (fun σ54 hσ54 hP hB => ?_)
  have hf := hf σ54 hσ54
  obtain ⟨ht55, hf⟩ := hf
  refine p_pR X cf8_ (k := 13) (by decide) rfl hP hL ht55 (p_ow hP ht55 rfl) q1308 (fun _ h => h) (Or.inr ⟨rfl, hnm, rfl⟩) dX9_init_63 (fun H locs hP hL => ?_)
  refine p_nmPB hP hB (fun σ56 hσ56 hP hB => ?_)
  have hf := hf σ56 hσ56
  have ht55 : tg_ σ56 x0 = 9 := by rw [hσ56]; exact ht55
  refine p_aload_n hx hb dX9_init_66 rfl (lv_at hl 0 rfl) ?_
  refine lv_sipush (v := 700) hx hb dX9_init_67 (by decide) ?_
  obtain ⟨hb57, hf⟩ := hf
  obtain ⟨hb58, hf⟩ := hf
  obtain ⟨hb59, hf⟩ := hf
  obtain ⟨hb60, hf⟩ := hf
  refine p_newa X (atype := .long) (t := 103) rfl (by decide) (by decide) q1418 hP hB hb57 hb58 hb59 hb60 dX9_init_70 (fun H hP hB => ?_)
  refine p_nmPB hP hB (fun σ61 hσ61 hP hB => ?_)
  have hf := hf σ61 hσ61
  obtain ⟨ht62, hf⟩ := hf
  refine p_pR X cf8_ (k := 14) (by decide) rfl hP hL ht62 (p_ow hP ht62 rfl) q1309 (fun _ h => h) (Or.inr ⟨rfl, hnm, rfl⟩) dX9_init_72 (fun H locs hP hL => ?_)
  refine p_nmPB hP hB (fun σ63 hσ63 hP hB => ?_)
  have hf := hf σ63 hσ63
  have ht62 : tg_ σ63 x0 = 9 := by rw [hσ63]; exact ht62
  refine p_aload_n hx hb dX9_init_75 rfl (lv_at hl 0 rfl) ?_
  refine lv_sipush (v := 700) hx hb dX9_init_76 (by decide) ?_
  obtain ⟨hb64, hf⟩ := hf
  obtain ⟨hb65, hf⟩ := hf
  obtain ⟨hb66, hf⟩ := hf
  obtain ⟨hb67, hf⟩ := hf
  refine p_newa X (atype := .int) (t := 102) rfl (by decide) (by decide) q578 hP hB hb64 hb65 hb66 hb67 dX9_init_79 (fun H hP hB => ?_)
  refine p_nmPB hP hB (fun σ68 hσ68 hP hB => ?_)
  have hf := hf σ68 hσ68
  obtain ⟨ht69, hf⟩ := hf
  refine p_pR X cf8_ (k := 15) (by decide) rfl hP hL ht69 (p_ow hP ht69 rfl) q1310 (fun _ h => h) (Or.inr ⟨rfl, hnm, rfl⟩) dX9_init_81 (fun H locs hP hL => ?_)
  refine p_nmPB hP hB (fun σ70 hσ70 hP hB => ?_)
  have hf := hf σ70 hσ70
  have ht69 : tg_ σ70 x0 = 9 := by rw [hσ70]; exact ht69
  refine p_aload_n hx hb dX9_init_84 rfl (lv_at hl 0 rfl) ?_
  refine lv_sipush (v := 700) hx hb dX9_init_85 (by decide) ?_
  obtain ⟨hb71, hf⟩ := hf
  obtain ⟨hb72, hf⟩ := hf
  obtain ⟨hb73, hf⟩ := hf
  obtain ⟨hb74, hf⟩ := hf
  refine p_newa X (atype := .int) (t := 102) rfl (by decide) (by decide) q578 hP hB hb71 hb72 hb73 hb74 dX9_init_88 (fun H hP hB => ?_)
  refine p_nmPB hP hB (fun σ75 hσ75 hP hB => ?_)
  have hf := hf σ75 hσ75
  obtain ⟨ht76, hf⟩ := hf
  refine p_pR X cf8_ (k := 16) (by decide) rfl hP hL ht76 (p_ow hP ht76 rfl) q1311 (fun _ h => h) (Or.inr ⟨rfl, hnm, rfl⟩) dX9_init_90 (fun H locs hP hL => ?_)
  refine p_nmPB hP hB (fun σ77 hσ77 hP hB => ?_)
  have hf := hf σ77 hσ77
  have ht76 : tg_ σ77 x0 = 9 := by rw [hσ77]; exact ht76
  refine p_aload_n hx hb dX9_init_93 rfl (lv_at hl 0 rfl) ?_
  refine lv_sipush (v := 700) hx hb dX9_init_94 (by decide) ?_
  obtain ⟨hb78, hf⟩ := hf
  obtain ⟨hb79, hf⟩ := hf
  obtain ⟨hb80, hf⟩ := hf
  obtain ⟨hb81, hf⟩ := hf
  refine p_newa X (atype := .boolean) (t := 101) rfl (by decide) (by decide) q579 hP hB hb78 hb79 hb80 hb81 dX9_init_97 (fun H hP hB => ?_)
  refine p_nmPB hP hB (fun σ82 hσ82 hP hB => ?_)
  have hf := hf σ82 hσ82
  obtain ⟨ht83, hf⟩ := hf
  refine p_pR X cf8_ (k := 17) (by decide) rfl hP hL ht83 (p_ow hP ht83 rfl) q1312 (fun _ h => h) (Or.inr ⟨rfl, hnm, rfl⟩) dX9_init_99 (fun H locs hP hL => ?_)
  refine p_nmPB hP hB (fun σ84 hσ84 hP hB => ?_)
  have hf := hf σ84 hσ84
  have ht83 : tg_ σ84 x0 = 9 := by rw [hσ84]; exact ht83
  refine p_aload_n hx hb dX9_init_102 rfl (lv_at hl 0 rfl) ?_
  refine lv_sipush (v := 700) hx hb dX9_init_103 (by decide) ?_
  obtain ⟨hb85, hf⟩ := hf
  obtain ⟨hb86, hf⟩ := hf
  obtain ⟨hb87, hf⟩ := hf
  obtain ⟨hb88, hf⟩ := hf
  refine p_newa X (atype := .int) (t := 102) rfl (by decide) (by decide) q578 hP hB hb85 hb86 hb87 hb88 dX9_init_106 (fun H hP hB => ?_)
  refine p_nmPB hP hB (fun σ89 hσ89 hP hB => ?_)
  have hf := hf σ89 hσ89
  obtain ⟨ht90, hf⟩ := hf
  refine p_pR X cf8_ (k := 18) (by decide) rfl hP hL ht90 (p_ow hP ht90 rfl) q1313 (fun _ h => h) (Or.inr ⟨rfl, hnm, rfl⟩) dX9_init_108 (fun H locs hP hL => ?_)
  refine p_nmPB hP hB (fun σ91 hσ91 hP hB => ?_)
  have hf := hf σ91 hσ91
  have ht90 : tg_ σ91 x0 = 9 := by rw [hσ91]; exact ht90
  refine p_aload_n hx hb dX9_init_111 rfl (lv_at hl 0 rfl) ?_
  refine lv_sipush (v := 700) hx hb dX9_init_112 (by decide) ?_
  obtain ⟨hb92, hf⟩ := hf
  obtain ⟨hb93, hf⟩ := hf
  obtain ⟨hb94, hf⟩ := hf
  obtain ⟨hb95, hf⟩ := hf
  refine p_newa X (atype := .int) (t := 102) rfl (by decide) (by decide) q578 hP hB hb92 hb93 hb94 hb95 dX9_init_115 (fun H hP hB => ?_)
  refine p_nmPB hP hB (fun σ96 hσ96 hP hB => ?_)
  have hf := hf σ96 hσ96
  obtain ⟨ht97, hf⟩ := hf
  refine p_pR X cf8_ (k := 19) (by decide) rfl hP hL ht97 (p_ow hP ht97 rfl) q1314 (fun _ h => h) (Or.inr ⟨rfl, hnm, rfl⟩) dX9_init_117 (fun H locs hP hL => ?_)
  refine p_nmPB hP hB (fun σ98 hσ98 hP hB => ?_)
  have hf := hf σ98 hσ98
  have ht97 : tg_ σ98 x0 = 9 := by rw [hσ98]; exact ht97
  refine p_aload_n hx hb dX9_init_120 rfl (lv_at hl 0 rfl) ?_
  refine lv_ldc hx hb hown (hts _ q1290) dX9_init_121 ?_
  obtain ⟨hb99, hf⟩ := hf
  obtain ⟨hb100, hf⟩ := hf
  obtain ⟨hb101, hf⟩ := hf
  obtain ⟨hb102, hf⟩ := hf
  refine p_newa X (atype := .byte) (t := 100) rfl (by decide) (by decide) q184 hP hB hb99 hb100 hb101 hb102 dX9_init_123 (fun H hP hB => ?_)
  refine p_nmPB hP hB (fun σ103 hσ103 hP hB => ?_)
  have hf := hf σ103 hσ103
  obtain ⟨ht104, hf⟩ := hf
  refine p_pR X cf8_ (k := 21) (by decide) rfl hP hL ht104 (p_ow hP ht104 rfl) q1316 (fun _ h => h) (Or.inr ⟨rfl, hnm, rfl⟩) dX9_init_125 (fun H locs hP hL => ?_)
  refine p_nmPB hP hB (fun σ105 hσ105 hP hB => ?_)
  have hf := hf σ105 hσ105
  have ht104 : tg_ σ105 x0 = 9 := by rw [hσ105]; exact ht104
  refine p_aload_n hx hb dX9_init_128 rfl (lv_at hl 0 rfl) ?_
  refine lv_bipush (v := 30) hx hb dX9_init_129 (by decide) ?_
  obtain ⟨hb106, hf⟩ := hf
  obtain ⟨hb107, hf⟩ := hf
  obtain ⟨hb108, hf⟩ := hf
  obtain ⟨hb109, hf⟩ := hf
  refine p_newa X (atype := .int) (t := 102) rfl (by decide) (by decide) q578 hP hB hb106 hb107 hb108 hb109 dX9_init_131 (fun H hP hB => ?_)
  refine p_nmPB hP hB (fun σ110 hσ110 hP hB => ?_)
  have hf := hf σ110 hσ110
  obtain ⟨ht111, hf⟩ := hf
  refine p_pR X cf8_ (k := 24) (by decide) rfl hP hL ht111 (p_ow hP ht111 rfl) q1318 (fun _ h => h) (Or.inr ⟨rfl, hnm, rfl⟩) dX9_init_133 (fun H locs hP hL => ?_)
  refine p_nmPB hP hB (fun σ112 hσ112 hP hB => ?_)
  have hf := hf σ112 hσ112
  have ht111 : tg_ σ112 x0 = 9 := by rw [hσ112]; exact ht111
  refine p_aload_n hx hb dX9_init_136 rfl (lv_at hl 0 rfl) ?_
  refine lv_sipush (v := 700) hx hb dX9_init_137 (by decide) ?_
  obtain ⟨hb113, hf⟩ := hf
  obtain ⟨hb114, hf⟩ := hf
  obtain ⟨hb115, hf⟩ := hf
  obtain ⟨hb116, hf⟩ := hf
  refine p_newa X (atype := .int) (t := 102) rfl (by decide) (by decide) q578 hP hB hb113 hb114 hb115 hb116 dX9_init_140 (fun H hP hB => ?_)
  refine p_nmPB hP hB (fun σ117 hσ117 hP hB => ?_)
  have hf := hf σ117 hσ117
  obtain ⟨ht118, hf⟩ := hf
  refine p_pR X cf8_ (k := 25) (by decide) rfl hP hL ht118 (p_ow hP ht118 rfl) q1319 (fun _ h => h) (Or.inr ⟨rfl, hnm, rfl⟩) dX9_init_142 (fun H locs hP hL => ?_)
  refine p_nmPB hP hB (fun σ119 hσ119 hP hB => ?_)
  have hf := hf σ119 hσ119
  have ht118 : tg_ σ119 x0 = 9 := by rw [hσ119]; exact ht118
  refine p_aload_n hx hb dX9_init_145 rfl (lv_at hl 0 rfl) ?_
  refine lv_sipush (v := 700) hx hb dX9_init_146 (by decide) ?_
  obtain ⟨hb120, hf⟩ := hf
  obtain ⟨hb121, hf⟩ := hf
  obtain ⟨hb122, hf⟩ := hf
  obtain ⟨hb123, hf⟩ := hf
  refine p_newa X (atype := .int) (t := 102) rfl (by decide) (by decide) q578 hP hB hb120 hb121 hb122 hb123 dX9_init_149 (fun H hP hB => ?_)
  refine p_nmPB hP hB (fun σ124 hσ124 hP hB => ?_)
  have hf := hf σ124 hσ124
  obtain ⟨ht125, hf⟩ := hf
  refine p_pR X cf8_ (k := 26) (by decide) rfl hP hL ht125 (p_ow hP ht125 rfl) q1320 (fun _ h => h) (Or.inr ⟨rfl, hnm, rfl⟩) dX9_init_151 (fun H locs hP hL => ?_)
  refine p_nmPB hP hB (fun σ126 hσ126 hP hB => ?_)
  have hf := hf σ126 hσ126
  have ht125 : tg_ σ126 x0 = 9 := by rw [hσ126]; exact ht125
  refine p_aload_n hx hb dX9_init_154 rfl (lv_at hl 0 rfl) ?_
  refine lv_bipush (v := 31) hx hb dX9_init_155 (by decide) ?_
  obtain ⟨hb127, hf⟩ := hf
  obtain ⟨hb128, hf⟩ := hf
  obtain ⟨hb129, hf⟩ := hf
  obtain ⟨hb130, hf⟩ := hf
  refine p_newa X (atype := .int) (t := 102) rfl (by decide) (by decide) q578 hP hB hb127 hb128 hb129 hb130 dX9_init_157 (fun H hP hB => ?_)
  refine p_nmPB hP hB (fun σ131 hσ131 hP hB => ?_)
  have hf := hf σ131 hσ131
  obtain ⟨ht132, hf⟩ := hf
  refine p_pR X cf8_ (k := 29) (by decide) rfl hP hL ht132 (p_ow hP ht132 rfl) q1323 (fun _ h => h) (Or.inr ⟨rfl, hnm, rfl⟩) dX9_init_159 (fun H locs hP hL => ?_)
  refine p_nmPB hP hB (fun σ133 hσ133 hP hB => ?_)
  have hf := hf σ133 hσ133
  have ht132 : tg_ σ133 x0 = 9 := by rw [hσ133]; exact ht132
  refine p_aload_n hx hb dX9_init_162 rfl (lv_at hl 0 rfl) ?_
  refine lv_bipush (v := 31) hx hb dX9_init_163 (by decide) ?_
  obtain ⟨hb134, hf⟩ := hf
  obtain ⟨hb135, hf⟩ := hf
  obtain ⟨hb136, hf⟩ := hf
  obtain ⟨hb137, hf⟩ := hf
  refine p_newa X (atype := .boolean) (t := 101) rfl (by decide) (by decide) q579 hP hB hb134 hb135 hb136 hb137 dX9_init_165 (fun H hP hB => ?_)
  refine p_nmPB hP hB (fun σ138 hσ138 hP hB => ?_)
  have hf := hf σ138 hσ138
  obtain ⟨ht139, hf⟩ := hf
  refine p_pR X cf8_ (k := 30) (by decide) rfl hP hL ht139 (p_ow hP ht139 rfl) q1324 (fun _ h => h) (Or.inr ⟨rfl, hnm, rfl⟩) dX9_init_167 (fun H locs hP hL => ?_)
  refine p_nmPB hP hB (fun σ140 hσ140 hP hB => ?_)
  have hf := hf σ140 hσ140
  have ht139 : tg_ σ140 x0 = 9 := by rw [hσ140]; exact ht139
  refine p_aload_n hx hb dX9_init_170 rfl (lv_at hl 0 rfl) ?_
  refine lv_bipush (v := 31) hx hb dX9_init_171 (by decide) ?_
  obtain ⟨hb141, hf⟩ := hf
  obtain ⟨hb142, hf⟩ := hf
  obtain ⟨hb143, hf⟩ := hf
  obtain ⟨hb144, hf⟩ := hf
  refine p_newa X (atype := .int) (t := 102) rfl (by decide) (by decide) q578 hP hB hb141 hb142 hb143 hb144 dX9_init_173 (fun H hP hB => ?_)
  refine p_nmPB hP hB (fun σ145 hσ145 hP hB => ?_)
  have hf := hf σ145 hσ145
  obtain ⟨ht146, hf⟩ := hf
  refine p_pR X cf8_ (k := 31) (by decide) rfl hP hL ht146 (p_ow hP ht146 rfl) q1325 (fun _ h => h) (Or.inr ⟨rfl, hnm, rfl⟩) dX9_init_175 (fun H locs hP hL => ?_)
  refine p_nmPB hP hB (fun σ147 hσ147 hP hB => ?_)
  have hf := hf σ147 hσ147
  have ht146 : tg_ σ147 x0 = 9 := by rw [hσ147]; exact ht146
  refine p_aload_n hx hb dX9_init_178 rfl (lv_at hl 0 rfl) ?_
  refine lv_bipush (v := 31) hx hb dX9_init_179 (by decide) ?_
  obtain ⟨hb148, hf⟩ := hf
  obtain ⟨hb149, hf⟩ := hf
  obtain ⟨hb150, hf⟩ := hf
  obtain ⟨hb151, hf⟩ := hf
  refine p_newa X (atype := .int) (t := 102) rfl (by decide) (by decide) q578 hP hB hb148 hb149 hb150 hb151 dX9_init_181 (fun H hP hB => ?_)
  refine p_nmPB hP hB (fun σ152 hσ152 hP hB => ?_)
  have hf := hf σ152 hσ152
  obtain ⟨ht153, hf⟩ := hf
  refine p_pR X cf8_ (k := 32) (by decide) rfl hP hL ht153 (p_ow hP ht153 rfl) q1326 (fun _ h => h) (Or.inr ⟨rfl, hnm, rfl⟩) dX9_init_183 (fun H locs hP hL => ?_)
  refine p_nmPB hP hB (fun σ154 hσ154 hP hB => ?_)
  have hf := hf σ154 hσ154
  have ht153 : tg_ σ154 x0 = 9 := by rw [hσ154]; exact ht153
  refine p_aload_n hx hb dX9_init_186 rfl (lv_at hl 0 rfl) ?_
  refine lv_bipush (v := 31) hx hb dX9_init_187 (by decide) ?_
  obtain ⟨hb155, hf⟩ := hf
  obtain ⟨hb156, hf⟩ := hf
  obtain ⟨hb157, hf⟩ := hf
  obtain ⟨hb158, hf⟩ := hf
  refine p_newa X (atype := .long) (t := 103) rfl (by decide) (by decide) q1418 hP hB hb155 hb156 hb157 hb158 dX9_init_189 (fun H hP hB => ?_)
  refine p_nmPB hP hB (fun σ159 hσ159 hP hB => ?_)
  have hf := hf σ159 hσ159
  obtain ⟨ht160, hf⟩ := hf
  refine p_pR X cf8_ (k := 33) (by decide) rfl hP hL ht160 (p_ow hP ht160 rfl) q1327 (fun _ h => h) (Or.inr ⟨rfl, hnm, rfl⟩) dX9_init_191 (fun H locs hP hL => ?_)
  refine p_nmPB hP hB (fun σ161 hσ161 hP hB => ?_)
  have hf := hf σ161 hσ161
  have ht160 : tg_ σ161 x0 = 9 := by rw [hσ161]; exact ht160
  refine p_aload_n hx hb dX9_init_194 rfl (lv_at hl 0 rfl) ?_
  refine lv_bipush (v := 31) hx hb dX9_init_195 (by decide) ?_
  obtain ⟨hb162, hf⟩ := hf
  obtain ⟨hb163, hf⟩ := hf
  obtain ⟨hb164, hf⟩ := hf
  obtain ⟨hb165, hf⟩ := hf
  refine p_newa X (atype := .int) (t := 102) rfl (by decide) (by decide) q578 hP hB hb162 hb163 hb164 hb165 dX9_init_197 (fun H hP hB => ?_)
  refine p_nmPB hP hB (fun σ166 hσ166 hP hB => ?_)
  have hf := hf σ166 hσ166
  obtain ⟨ht167, hf⟩ := hf
  refine p_pR X cf8_ (k := 34) (by decide) rfl hP hL ht167 (p_ow hP ht167 rfl) q1328 (fun _ h => h) (Or.inr ⟨rfl, hnm, rfl⟩) dX9_init_199 (fun H locs hP hL => ?_)
  refine p_nmPB hP hB (fun σ168 hσ168 hP hB => ?_)
  have hf := hf σ168 hσ168
  have ht167 : tg_ σ168 x0 = 9 := by rw [hσ168]; exact ht167
  refine p_aload_n hx hb dX9_init_202 rfl (lv_at hl 0 rfl) ?_
  refine lv_bipush (v := 31) hx hb dX9_init_203 (by decide) ?_
  obtain ⟨hb169, hf⟩ := hf
  obtain ⟨hb170, hf⟩ := hf
  obtain ⟨hb171, hf⟩ := hf
  obtain ⟨hb172, hf⟩ := hf
  refine p_newa X (atype := .int) (t := 102) rfl (by decide) (by decide) q578 hP hB hb169 hb170 hb171 hb172 dX9_init_205 (fun H hP hB => ?_)
  refine p_nmPB hP hB (fun σ173 hσ173 hP hB => ?_)
  have hf := hf σ173 hσ173
  obtain ⟨ht174, hf⟩ := hf
  refine p_pR X cf8_ (k := 36) (by decide) rfl hP hL ht174 (p_ow hP ht174 rfl) q1330 (fun _ h => h) (Or.inr ⟨rfl, hnm, rfl⟩) dX9_init_207 (fun H locs hP hL => ?_)
  refine p_nmPB hP hB (fun σ175 hσ175 hP hB => ?_)
  have hf := hf σ175 hσ175
  have ht174 : tg_ σ175 x0 = 9 := by rw [hσ175]; exact ht174
  refine p_aload_n hx hb dX9_init_210 rfl (lv_at hl 0 rfl) ?_
  refine lv_bipush (v := 31) hx hb dX9_init_211 (by decide) ?_
  obtain ⟨hb176, hf⟩ := hf
  obtain ⟨hb177, hf⟩ := hf
  obtain ⟨hb178, hf⟩ := hf
  obtain ⟨hb179, hf⟩ := hf
  refine p_newa X (atype := .boolean) (t := 101) rfl (by decide) (by decide) q579 hP hB hb176 hb177 hb178 hb179 dX9_init_213 (fun H hP hB => ?_)
  refine p_nmPB hP hB (fun σ180 hσ180 hP hB => ?_)
  have hf := hf σ180 hσ180
  obtain ⟨ht181, hf⟩ := hf
  refine p_pR X cf8_ (k := 37) (by decide) rfl hP hL ht181 (p_ow hP ht181 rfl) q1331 (fun _ h => h) (Or.inr ⟨rfl, hnm, rfl⟩) dX9_init_215 (fun H locs hP hL => ?_)
  refine p_nmPB hP hB (fun σ182 hσ182 hP hB => ?_)
  have hf := hf σ182 hσ182
  have ht181 : tg_ σ182 x0 = 9 := by rw [hσ182]; exact ht181
  refine p_aload_n hx hb dX9_init_218 rfl (lv_at hl 0 rfl) ?_
  refine lv_bipush (v := 31) hx hb dX9_init_219 (by decide) ?_
  obtain ⟨hb183, hf⟩ := hf
  obtain ⟨hb184, hf⟩ := hf
  obtain ⟨hb185, hf⟩ := hf
  obtain ⟨hb186, hf⟩ := hf
  refine p_newa X (atype := .int) (t := 102) rfl (by decide) (by decide) q578 hP hB hb183 hb184 hb185 hb186 dX9_init_221 (fun H hP hB => ?_)
  refine p_nmPB hP hB (fun σ187 hσ187 hP hB => ?_)
  have hf := hf σ187 hσ187
  obtain ⟨ht188, hf⟩ := hf
  refine p_pR X cf8_ (k := 38) (by decide) rfl hP hL ht188 (p_ow hP ht188 rfl) q1332 (fun _ h => h) (Or.inr ⟨rfl, hnm, rfl⟩) dX9_init_223 (fun H locs hP hL => ?_)
  refine p_nmPB hP hB (fun σ189 hσ189 hP hB => ?_)
  have hf := hf σ189 hσ189
  have ht188 : tg_ σ189 x0 = 9 := by rw [hσ189]; exact ht188
  refine p_aload_n hx hb dX9_init_226 rfl (lv_at hl 0 rfl) ?_
  refine lv_bipush (v := 31) hx hb dX9_init_227 (by decide) ?_
  obtain ⟨hb190, hf⟩ := hf
  obtain ⟨hb191, hf⟩ := hf
  obtain ⟨hb192, hf⟩ := hf
  obtain ⟨hb193, hf⟩ := hf
  refine p_newa X (atype := .int) (t := 102) rfl (by decide) (by decide) q578 hP hB hb190 hb191 hb192 hb193 dX9_init_229 (fun H hP hB => ?_)
  refine p_nmPB hP hB (fun σ194 hσ194 hP hB => ?_)
  have hf := hf σ194 hσ194
  obtain ⟨ht195, hf⟩ := hf
  refine p_pR X cf8_ (k := 39) (by decide) rfl hP hL ht195 (p_ow hP ht195 rfl) q1333 (fun _ h => h) (Or.inr ⟨rfl, hnm, rfl⟩) dX9_init_231 (fun H locs hP hL => ?_)
  refine p_nmPB hP hB (fun σ196 hσ196 hP hB => ?_)
  have hf := hf σ196 hσ196
  have ht195 : tg_ σ196 x0 = 9 := by rw [hσ196]; exact ht195
  refine p_aload_n hx hb dX9_init_234 rfl (lv_at hl 0 rfl) ?_
  refine lv_bipush (v := 31) hx hb dX9_init_235 (by decide) ?_
  obtain ⟨hb197, hf⟩ := hf
  obtain ⟨hb198, hf⟩ := hf
  obtain ⟨hb199, hf⟩ := hf
  obtain ⟨hb200, hf⟩ := hf
  refine p_newa X (atype := .long) (t := 103) rfl (by decide) (by decide) q1418 hP hB hb197 hb198 hb199 hb200 dX9_init_237 (fun H hP hB => ?_)
  refine p_nmPB hP hB (fun σ201 hσ201 hP hB => ?_)
  have hf := hf σ201 hσ201
  obtain ⟨ht202, hf⟩ := hf
  refine p_pR X cf8_ (k := 40) (by decide) rfl hP hL ht202 (p_ow hP ht202 rfl) q1334 (fun _ h => h) (Or.inr ⟨rfl, hnm, rfl⟩) dX9_init_239 (fun H locs hP hL => ?_)
  refine p_nmPB hP hB (fun σ203 hσ203 hP hB => ?_)
  have hf := hf σ203 hσ203
  have ht202 : tg_ σ203 x0 = 9 := by rw [hσ203]; exact ht202
  refine p_aload_n hx hb dX9_init_242 rfl (lv_at hl 0 rfl) ?_
  refine lv_iload_n hx hb dX9_init_243 rfl (lv_at hl 1 rfl) ?_
  refine lv_bipush (v := 40) hx hb dX9_init_244 (by decide) ?_
  refine lv_icmp_lt (tgt := 260) hx hb dX9_init_246 (by decide) (fun c204 => ?_) (fun c204 => ?_)
  · have hf := hf.1 c204
    exact sX9_init_L260 Y hf _ _ _ _ _ hP hL hB (lv_sub hl [0] rfl)
  · have hf := hf.2 c204
    refine lv_iload_n hx hb dX9_init_249 rfl (lv_at hl 1 rfl) ?_
    refine lv_sipush (v := 200) hx hb dX9_init_250 (by decide) ?_
    refine lv_icmp_gt (tgt := 260) hx hb dX9_init_253 (by decide) (fun c205 => ?_) (fun c205 => ?_)
    · have hf := hf.1 c205
      exact sX9_init_L260 Y hf _ _ _ _ _ hP hL hB (lv_sub hl [0] rfl)
    · have hf := hf.2 c205
      refine lv_iload_n hx hb dX9_init_256 rfl (lv_at hl 1 rfl) ?_
      refine lv_goto (tgt := 262) hx hb dX9_init_257 (by decide) ?_
      exact sX9_init_L262 Y hf _ _ _ _ _ hP hL hB (lv_sub hl [0] rfl)
set_option maxHeartbeats 4000000 in
theorem metX9_init (l : Launch) (G : GG_) (mc ms : Nat) (x0 : Nat) (x1 : Int32) (σ : Hp) (post : Hp → Prop) (hG : GOK_ G) (hf : wX9_init x0 x1 (bu_ σ mc ms) post) : Met l yX9_init (ws_ yX9_init cX9_init 2 none) { frames := 2, cells := mc, slots := ms, locals := 40 } (PC_ G [rv_ x0, .int x1] (bu_ σ mc ms)) (QV_ G post) mc ms (FR_ G) := by
  refine Met.ofW (cc := cX9_init) (maxL := 2) (ret := none) (by decide) rfl ?_
  intro p e s m args below meth c s₁ B hml hv
  obtain ⟨rfl, hP, hW⟩ := hv
  have hts := atoms_spec (ws := ws_ yX9_init cX9_init 2 none) B.pre
  have hts : ∀ w ∈ lw_all, w.before _ s = true := fun w h => hts w (List.mem_cons_of_mem _ h)
  rw [lg_entry_eq]
  have hl := en_entry [rv_ x0, .int x1] [1, 1] (n := 2) (ca_r (ca_i ca_n)) (by decide)
  exact sX9_init ⟨⟨⟨B.exec, B.bytes, hml, findClass_of_methodNamed B.named, hts⟩, hW, hG⟩, B.notSynchronized, B.returns, Nat.le_refl _, Nat.le_refl _, ⟨rfl, rfl⟩, (name_of_methodNamed B.named B.method).1⟩ hf _ _ _ _ _ hP (LO_nil G) (BU_in ⟨rfl, rfl⟩) hl
abbrev cX9_thrown : ByteArray := prog_11_method_2_code
def yX9_thrown : MethodName := ⟨RX9, "thrown", "()I"⟩
theorem dX9_thrown_0 : decode cX9_thrown 0 = .ok (.aload_n 0, 1) := by decide +kernel
theorem dX9_thrown_1 : decode cX9_thrown 1 = .ok (.getfield 109, 3) := by decide +kernel
theorem dX9_thrown_4 : decode cX9_thrown 4 = .ok (.ireturn, 1) := by decide +kernel
/-- WriteOnceDiscModel.thrown()I -/
def wX9_thrown (x0 : Nat) (σ : Hp) (post : Int32 → Prop) : Prop :=
(tg_ σ x0 = 9 ∧ post (fI_ σ 8 0 x0))
set_option maxHeartbeats 4000000 in
theorem sX9_thrown {G : GG_} {p : Program} {l : Launch} {e : Env} {R : Room} {s : State} {m : MethodId} {args : Array Value} {below : List Frame} {meth : Method} {c : Code} (Y : MX_ G p R s m args meth c cX9_thrown 1 RX9 (some Jvm.ClassFile.FieldType.int) 1 20 0 0 "thrown") {post : Int32 → Prop} {x0 : Nat} {σ : Hp} (hf : wX9_thrown x0 σ post) : WG_ G p l e R s m args below meth c (MQ below (QI_ G (fun r τ => τ = σ ∧ post r)) args s 0 0 (FR_ G)) BN_ 1 0 [(0, rv_ x0)] [] σ := by
  have ⟨X, hlk, hr, hRf, hRl, hRc, hnm⟩ := Y
  have ⟨⟨hx, hb, _, hown, hts⟩, _, _⟩ := X
  intro H locs cells slots ls hP hL hB hl
  obtain ⟨rfl, rfl⟩ := hB
  unfold wX9_thrown at hf
  refine p_aload_n hx hb dX9_thrown_0 rfl (lv_at hl 0 rfl) ?_
  obtain ⟨ht1, hf⟩ := hf
  refine p_gI X cf8_ (k := 0) (by decide) rfl hP ht1 q1295 (fun _ h => h) dX9_thrown_1 ?_
  exact p_iret X hlk hP hL (Nat.le_refl _) (Nat.le_refl _) hr dX9_thrown_4 ⟨rfl, hf⟩
set_option maxHeartbeats 4000000 in
theorem metX9_thrown (l : Launch) (G : GG_) (x0 : Nat) (σ : Hp) (post : Int32 → Prop) (hG : GOK_ G) (hf : wX9_thrown x0 σ post) : Met l yX9_thrown (ws_ yX9_thrown cX9_thrown 1 (some Jvm.ClassFile.FieldType.int)) { frames := 1, cells := 0, slots := 0, locals := 20 } (PC_ G [rv_ x0] σ) (QI_ G (fun r τ => τ = σ ∧ post r)) 0 0 (FR_ G) := by
  refine Met.ofW (cc := cX9_thrown) (maxL := 1) (ret := (some Jvm.ClassFile.FieldType.int)) (by decide) rfl ?_
  intro p e s m args below meth c s₁ B hml hv
  obtain ⟨rfl, hP, hW⟩ := hv
  have hts := atoms_spec (ws := ws_ yX9_thrown cX9_thrown 1 (some Jvm.ClassFile.FieldType.int)) B.pre
  have hts : ∀ w ∈ lw_all, w.before _ s = true := fun w h => hts w (List.mem_cons_of_mem _ h)
  rw [lg_entry_eq]
  have hl := en_entry [rv_ x0] [1] (n := 1) (ca_r ca_n) (by decide)
  exact sX9_thrown ⟨⟨⟨B.exec, B.bytes, hml, findClass_of_methodNamed B.named, hts⟩, hW, hG⟩, B.notSynchronized, B.returns, Nat.le_refl _, Nat.le_refl _, ⟨rfl, rfl⟩, (name_of_methodNamed B.named B.method).1⟩ hf _ _ _ _ _ hP (LO_nil G) ⟨rfl, rfl⟩ hl
abbrev cX9_in : ByteArray := prog_11_method_4_code
def yX9_in : MethodName := ⟨RX9, "in", "(III)Z"⟩
theorem dX9_in_0 : decode cX9_in 0 = .ok (.iload_n 0, 1) := by decide +kernel
theorem dX9_in_1 : decode cX9_in 1 = .ok (.iload_n 1, 1) := by decide +kernel
theorem dX9_in_2 : decode cX9_in 2 = .ok (.if_icmp .lt 12, 3) := by decide +kernel
theorem dX9_in_5 : decode cX9_in 5 = .ok (.iload_n 0, 1) := by decide +kernel
theorem dX9_in_6 : decode cX9_in 6 = .ok (.iload_n 2, 1) := by decide +kernel
theorem dX9_in_7 : decode cX9_in 7 = .ok (.if_icmp .gt 7, 3) := by decide +kernel
theorem dX9_in_10 : decode cX9_in 10 = .ok (.iconst 1, 1) := by decide +kernel
theorem dX9_in_11 : decode cX9_in 11 = .ok (.goto 4, 3) := by decide +kernel
theorem dX9_in_14 : decode cX9_in 14 = .ok (.iconst 0, 1) := by decide +kernel
theorem dX9_in_15 : decode cX9_in 15 = .ok (.ireturn, 1) := by decide +kernel
/-- WriteOnceDiscModel.in(III)Z -/
def wX9_in (x0 : Int32) (x1 : Int32) (x2 : Int32) (σ : Hp) (post : Int32 → Prop) : Prop :=
((x0 < x1 →
  post (0 : Int32)) ∧
 (¬ x0 < x1 →
  ((x2 < x0 →
   post (0 : Int32)) ∧
  (¬ x2 < x0 →
   post (1 : Int32)))))
set_option maxHeartbeats 4000000 in
theorem sX9_in {G : GG_} {p : Program} {l : Launch} {e : Env} {R : Room} {s : State} {m : MethodId} {args : Array Value} {below : List Frame} {meth : Method} {c : Code} (Y : MX_ G p R s m args meth c cX9_in 3 RX9 (some Jvm.ClassFile.FieldType.boolean) 1 20 0 0 "in") {post : Int32 → Prop} {x0 : Int32} {x1 : Int32} {x2 : Int32} {σ : Hp} (hf : wX9_in x0 x1 x2 σ post) : WG_ G p l e R s m args below meth c (MQ below (QI_ G (fun r τ => τ = σ ∧ post r)) args s 0 0 (FR_ G)) BN_ 3 0 [(0, .int x0), (1, .int x1), (2, .int x2)] [] σ := by
  have ⟨X, hlk, hr, hRf, hRl, hRc, hnm⟩ := Y
  have ⟨⟨hx, hb, _, hown, hts⟩, _, _⟩ := X
  intro H locs cells slots ls hP hL hB hl
  obtain ⟨rfl, rfl⟩ := hB
  unfold wX9_in at hf
  refine lv_iload_n hx hb dX9_in_0 rfl (lv_at hl 0 rfl) ?_
  refine lv_iload_n hx hb dX9_in_1 rfl (lv_at hl 1 rfl) ?_
  refine lv_icmp_lt (tgt := 14) hx hb dX9_in_2 (by decide) (fun c1 => ?_) (fun c1 => ?_)
  · have hf := hf.1 c1
    refine lv_iconst (v := 0) hx hb dX9_in_14 (by decide) ?_
    exact p_zret X hlk hP hL (Nat.le_refl _) (Nat.le_refl _) hr nr_0 dX9_in_15 ⟨rfl, hf⟩
  · have hf := hf.2 c1
    refine lv_iload_n hx hb dX9_in_5 rfl (lv_at hl 0 rfl) ?_
    refine lv_iload_n hx hb dX9_in_6 rfl (lv_at hl 2 rfl) ?_
    refine lv_icmp_gt (tgt := 14) hx hb dX9_in_7 (by decide) (fun c2 => ?_) (fun c2 => ?_)
    · have hf := hf.1 c2
      refine lv_iconst (v := 0) hx hb dX9_in_14 (by decide) ?_
      exact p_zret X hlk hP hL (Nat.le_refl _) (Nat.le_refl _) hr nr_0 dX9_in_15 ⟨rfl, hf⟩
    · have hf := hf.2 c2
      refine lv_iconst (v := 1) hx hb dX9_in_10 (by decide) ?_
      refine lv_goto (tgt := 15) hx hb dX9_in_11 (by decide) ?_
      exact p_zret X hlk hP hL (Nat.le_refl _) (Nat.le_refl _) hr nr_1 dX9_in_15 ⟨rfl, hf⟩
set_option maxHeartbeats 4000000 in
theorem metX9_in (l : Launch) (G : GG_) (x0 : Int32) (x1 : Int32) (x2 : Int32) (σ : Hp) (post : Int32 → Prop) (hG : GOK_ G) (hf : wX9_in x0 x1 x2 σ post) : Met l yX9_in (ws_ yX9_in cX9_in 3 (some Jvm.ClassFile.FieldType.boolean)) { frames := 1, cells := 0, slots := 0, locals := 20 } (PC_ G [.int x0, .int x1, .int x2] σ) (QI_ G (fun r τ => τ = σ ∧ post r)) 0 0 (FR_ G) := by
  refine Met.ofW (cc := cX9_in) (maxL := 3) (ret := (some Jvm.ClassFile.FieldType.boolean)) (by decide) rfl ?_
  intro p e s m args below meth c s₁ B hml hv
  obtain ⟨rfl, hP, hW⟩ := hv
  have hts := atoms_spec (ws := ws_ yX9_in cX9_in 3 (some Jvm.ClassFile.FieldType.boolean)) B.pre
  have hts : ∀ w ∈ lw_all, w.before _ s = true := fun w h => hts w (List.mem_cons_of_mem _ h)
  rw [lg_entry_eq]
  have hl := en_entry [.int x0, .int x1, .int x2] [1, 1, 1] (n := 3) (ca_i (ca_i (ca_i ca_n))) (by decide)
  exact sX9_in ⟨⟨⟨B.exec, B.bytes, hml, findClass_of_methodNamed B.named, hts⟩, hW, hG⟩, B.notSynchronized, B.returns, Nat.le_refl _, Nat.le_refl _, ⟨rfl, rfl⟩, (name_of_methodNamed B.named B.method).1⟩ hf _ _ _ _ _ hP (LO_nil G) ⟨rfl, rfl⟩ hl
abbrev cX9_defect : ByteArray := prog_11_method_9_code
def yX9_defect : MethodName := ⟨RX9, "defect", "(I)Z"⟩
theorem dX9_defect_0 : decode cX9_defect 0 = .ok (.aload_n 0, 1) := by decide +kernel
theorem dX9_defect_1 : decode cX9_defect 1 = .ok (.iconst 0, 1) := by decide +kernel
theorem dX9_defect_2 : decode cX9_defect 2 = .ok (.putfield 109, 3) := by decide +kernel
theorem dX9_defect_5 : decode cX9_defect 5 = .ok (.iload_n 1, 1) := by decide +kernel
theorem dX9_defect_6 : decode cX9_defect 6 = .ok (.iconst 0, 1) := by decide +kernel
theorem dX9_defect_7 : decode cX9_defect 7 = .ok (.aload_n 0, 1) := by decide +kernel
theorem dX9_defect_8 : decode cX9_defect 8 = .ok (.getfield 99, 3) := by decide +kernel
theorem dX9_defect_11 : decode cX9_defect 11 = .ok (.iconst 1, 1) := by decide +kernel
theorem dX9_defect_12 : decode cX9_defect 12 = .ok (.isub, 1) := by decide +kernel
theorem dX9_defect_13 : decode cX9_defect 13 = .ok (.invokestatic 118, 3) := by decide +kernel
theorem dX9_defect_16 : decode cX9_defect 16 = .ok (.ifCond .ne 5, 3) := by decide +kernel
theorem dX9_defect_19 : decode cX9_defect 19 = .ok (.iconst 0, 1) := by decide +kernel
theorem dX9_defect_20 : decode cX9_defect 20 = .ok (.ireturn, 1) := by decide +kernel
theorem dX9_defect_21 : decode cX9_defect 21 = .ok (.aload_n 0, 1) := by decide +kernel
theorem dX9_defect_22 : decode cX9_defect 22 = .ok (.getfield 14, 3) := by decide +kernel
theorem dX9_defect_25 : decode cX9_defect 25 = .ok (.aload_n 0, 1) := by decide +kernel
theorem dX9_defect_26 : decode cX9_defect 26 = .ok (.getfield 115, 3) := by decide +kernel
theorem dX9_defect_29 : decode cX9_defect 29 = .ok (.iload_n 1, 1) := by decide +kernel
theorem dX9_defect_30 : decode cX9_defect 30 = .ok (.iadd, 1) := by decide +kernel
theorem dX9_defect_31 : decode cX9_defect 31 = .ok (.baload, 1) := by decide +kernel
theorem dX9_defect_32 : decode cX9_defect 32 = .ok (.ifCond .ne 10, 3) := by decide +kernel
theorem dX9_defect_35 : decode cX9_defect 35 = .ok (.aload_n 0, 1) := by decide +kernel
theorem dX9_defect_36 : decode cX9_defect 36 = .ok (.getfield 17, 3) := by decide +kernel
theorem dX9_defect_39 : decode cX9_defect 39 = .ok (.iload_n 1, 1) := by decide +kernel
theorem dX9_defect_40 : decode cX9_defect 40 = .ok (.iconst 1, 1) := by decide +kernel
theorem dX9_defect_41 : decode cX9_defect 41 = .ok (.bastore, 1) := by decide +kernel
theorem dX9_defect_42 : decode cX9_defect 42 = .ok (.iconst 1, 1) := by decide +kernel
theorem dX9_defect_43 : decode cX9_defect 43 = .ok (.ireturn, 1) := by decide +kernel
/-- WriteOnceDiscModel.defect(I)Z -/
def wX9_defect (x0 : Nat) (x1 : Int32) (σ : Hp) (post : Int32 → Hp → Prop) : Prop :=
(tg_ σ x0 = 9 ∧ (∀ σ2, σ2 = sI_ σ 8 0 x0 (0 : Int32) → (wX9_in x1 (0 : Int32) ((fI_ σ2 8 1 x0) - (1 : Int32)) σ2 (fun r3 => ((¬ r3 = 0 →
  (tg_ σ2 (fR_ σ2 8 4 x0) = 100 ∧ (vp_in ((fI_ σ2 8 2 x0) + x1) (ln_ σ2 (fR_ σ2 8 4 x0)) ∧ ((¬ (aI_ σ2 (fR_ σ2 8 4 x0) (((fI_ σ2 8 2 x0) + x1)).toNatClampNeg) = 0 →
   post (1 : Int32) σ2) ∧
  ((aI_ σ2 (fR_ σ2 8 4 x0) (((fI_ σ2 8 2 x0) + x1)).toNatClampNeg) = 0 →
   (tg_ σ2 (fR_ σ2 8 5 x0) = 101 ∧ (vp_in x1 (ln_ σ2 (fR_ σ2 8 5 x0)) ∧ (∀ σ10, σ10 = wI_ σ2 (fR_ σ2 8 5 x0) (x1).toNatClampNeg (vp_nar .boolean (1 : Int32)) → post (1 : Int32) σ10)))))))) ∧
 (r3 = 0 →
  post (0 : Int32) σ2))))))
set_option maxHeartbeats 4000000 in
theorem sX9_defect {G : GG_} {p : Program} {l : Launch} {e : Env} {R : Room} {s : State} {m : MethodId} {args : Array Value} {below : List Frame} {meth : Method} {c : Code} (Y : MX_ G p R s m args meth c cX9_defect 2 RX9 (some Jvm.ClassFile.FieldType.boolean) 2 42 0 0 "defect") {post : Int32 → Hp → Prop} {x0 : Nat} {x1 : Int32} {σ : Hp} (hf : wX9_defect x0 x1 σ post) : WG_ G p l e R s m args below meth c (MQ below (QI_ G post) args s 0 0 (FR_ G)) BN_ 2 0 [(0, rv_ x0), (1, .int x1)] [] σ := by
  have ⟨X, hlk, hr, hRf, hRl, hRc, hnm⟩ := Y
  have ⟨⟨hx, hb, _, hown, hts⟩, _, _⟩ := X
  intro H locs cells slots ls hP hL hB hl
  obtain ⟨rfl, rfl⟩ := hB
  unfold wX9_defect at hf
  refine p_aload_n hx hb dX9_defect_0 rfl (lv_at hl 0 rfl) ?_
  refine lv_iconst (v := 0) hx hb dX9_defect_1 (by decide) ?_
  obtain ⟨ht1, hf⟩ := hf
  refine p_pI X cf8_ (k := 0) (by decide) rfl hP hL ht1 (p_ow hP ht1 rfl) q1295 (fun _ h => h) (Or.inl rfl) rfl rfl dX9_defect_2 (fun H locs hP hL => ?_)
  refine p_nmP hP (fun σ2 hσ2 hP => ?_)
  have hf := hf σ2 hσ2
  have ht1 : tg_ σ2 x0 = 9 := by rw [hσ2]; exact ht1
  refine lv_iload_n hx hb dX9_defect_5 rfl (lv_at hl 1 rfl) ?_
  refine lv_iconst (v := 0) hx hb dX9_defect_6 (by decide) ?_
  refine p_aload_n hx hb dX9_defect_7 rfl (lv_at hl 0 rfl) ?_
  refine p_gI X cf8_ (k := 1) (by decide) rfl hP ht1 q1296 (fun _ h => h) dX9_defect_8 ?_
  refine lv_iconst (v := 1) hx hb dX9_defect_11 (by decide) ?_
  refine lv_isub hx hb dX9_defect_12 ?_
  refine p_calli hL (p_runS X hP (metX9_in l G _ _ _ _ _ X.2.2 hf) (va_cwS 3 hts (lw_S q1427 q1428 q106 q1429) rfl rfl rfl (by decide +kernel) ⟨Nat.le_trans (Nat.le_of_ble_eq_true rfl) hRf, Nat.le_trans (Nat.le_of_ble_eq_true rfl) hRl⟩) rfl hl.1 rfl (by decide) dX9_defect_13 ⟨Nat.zero_le _, Nat.zero_le _⟩) (fun r3 σ₁ H locs hf hP hL => ?_)
  obtain ⟨e₁, hf⟩ := hf
  rw [e₁] at hP
  refine lv_if_ne (tgt := 21) hx hb dX9_defect_16 (by decide) (fun c4 => ?_) (fun c4 => ?_)
  · have hf := hf.1 c4
    refine p_aload_n hx hb dX9_defect_21 rfl (lv_at hl 0 rfl) ?_
    refine p_gR X cf8_ (k := 4) (by decide) rfl hP ht1 q1299 (fun _ h => h) dX9_defect_22 ?_
    refine p_aload_n hx hb dX9_defect_25 rfl (lv_at hl 0 rfl) ?_
    refine p_gI X cf8_ (k := 2) (by decide) rfl hP ht1 q1297 (fun _ h => h) dX9_defect_26 ?_
    refine lv_iload_n hx hb dX9_defect_29 rfl (lv_at hl 1 rfl) ?_
    refine lv_iadd hx hb dX9_defect_30 ?_
    obtain ⟨ht5, hf⟩ := hf
    obtain ⟨hi6, hf⟩ := hf
    refine p_bald X hP ht5 hi6 dX9_defect_31 ?_
    refine lv_if_ne (tgt := 42) hx hb dX9_defect_32 (by decide) (fun c7 => ?_) (fun c7 => ?_)
    · have hf := hf.1 c7
      refine lv_iconst (v := 1) hx hb dX9_defect_42 (by decide) ?_
      exact p_zret X hlk hP hL (Nat.le_refl _) (Nat.le_refl _) hr nr_1 dX9_defect_43 hf
    · have hf := hf.2 c7
      refine p_aload_n hx hb dX9_defect_35 rfl (lv_at hl 0 rfl) ?_
      refine p_gR X cf8_ (k := 5) (by decide) rfl hP ht1 q1300 (fun _ h => h) dX9_defect_36 ?_
      refine lv_iload_n hx hb dX9_defect_39 rfl (lv_at hl 1 rfl) ?_
      refine lv_iconst (v := 1) hx hb dX9_defect_40 (by decide) ?_
      obtain ⟨ht8, hf⟩ := hf
      obtain ⟨hi9, hf⟩ := hf
      refine p_zast X hP hL ht8 (p_ow hP ht8 rfl) hi9 dX9_defect_41 (fun H locs hP hL => ?_)
      refine p_nmP hP (fun σ10 hσ10 hP => ?_)
      have hf := hf σ10 hσ10
      have ht1 : tg_ σ10 x0 = 9 := by rw [hσ10]; exact ht1
      refine lv_iconst (v := 1) hx hb dX9_defect_42 (by decide) ?_
      exact p_zret X hlk hP hL (Nat.le_refl _) (Nat.le_refl _) hr nr_1 dX9_defect_43 hf
  · have hf := hf.2 c4
    refine lv_iconst (v := 0) hx hb dX9_defect_19 (by decide) ?_
    exact p_zret X hlk hP hL (Nat.le_refl _) (Nat.le_refl _) hr nr_0 dX9_defect_20 hf
set_option maxHeartbeats 4000000 in
theorem metX9_defect (l : Launch) (G : GG_) (x0 : Nat) (x1 : Int32) (σ : Hp) (post : Int32 → Hp → Prop) (hG : GOK_ G) (hf : wX9_defect x0 x1 σ post) : Met l yX9_defect (ws_ yX9_defect cX9_defect 2 (some Jvm.ClassFile.FieldType.boolean)) { frames := 2, cells := 0, slots := 0, locals := 42 } (PC_ G [rv_ x0, .int x1] σ) (QI_ G post) 0 0 (FR_ G) := by
  refine Met.ofW (cc := cX9_defect) (maxL := 2) (ret := (some Jvm.ClassFile.FieldType.boolean)) (by decide) rfl ?_
  intro p e s m args below meth c s₁ B hml hv
  obtain ⟨rfl, hP, hW⟩ := hv
  have hts := atoms_spec (ws := ws_ yX9_defect cX9_defect 2 (some Jvm.ClassFile.FieldType.boolean)) B.pre
  have hts : ∀ w ∈ lw_all, w.before _ s = true := fun w h => hts w (List.mem_cons_of_mem _ h)
  rw [lg_entry_eq]
  have hl := en_entry [rv_ x0, .int x1] [1, 1] (n := 2) (ca_r (ca_i ca_n)) (by decide)
  exact sX9_defect ⟨⟨⟨B.exec, B.bytes, hml, findClass_of_methodNamed B.named, hts⟩, hW, hG⟩, B.notSynchronized, B.returns, Nat.le_refl _, Nat.le_refl _, ⟨rfl, rfl⟩, (name_of_methodNamed B.named B.method).1⟩ hf _ _ _ _ _ hP (LO_nil G) ⟨rfl, rfl⟩ hl
abbrev cX9_power : ByteArray := prog_11_method_10_code
def yX9_power : MethodName := ⟨RX9, "power", "(I)V"⟩
theorem dX9_power_0 : decode cX9_power 0 = .ok (.aload_n 0, 1) := by decide +kernel
theorem dX9_power_1 : decode cX9_power 1 = .ok (.iconst 0, 1) := by decide +kernel
theorem dX9_power_2 : decode cX9_power 2 = .ok (.putfield 109, 3) := by decide +kernel
theorem dX9_power_5 : decode cX9_power 5 = .ok (.aload_n 0, 1) := by decide +kernel
theorem dX9_power_6 : decode cX9_power 6 = .ok (.getfield 125, 3) := by decide +kernel
theorem dX9_power_9 : decode cX9_power 9 = .ok (.ifCond .ne 16, 3) := by decide +kernel
theorem dX9_power_12 : decode cX9_power 12 = .ok (.aload_n 0, 1) := by decide +kernel
theorem dX9_power_13 : decode cX9_power 13 = .ok (.iload_n 1, 1) := by decide +kernel
theorem dX9_power_14 : decode cX9_power 14 = .ok (.ifCond .ge 7, 3) := by decide +kernel
theorem dX9_power_17 : decode cX9_power 17 = .ok (.iconst (-1), 1) := by decide +kernel
theorem dX9_power_18 : decode cX9_power 18 = .ok (.goto 4, 3) := by decide +kernel
theorem dX9_power_21 : decode cX9_power 21 = .ok (.iload_n 1, 1) := by decide +kernel
theorem dX9_power_22 : decode cX9_power 22 = .ok (.putfield 103, 3) := by decide +kernel
theorem dX9_power_25 : decode cX9_power 25 = .ok (.return_, 1) := by decide +kernel
/-- WriteOnceDiscModel.power(I)V -/
def wX9_power_L22 (post : Hp → Prop) (s0 : Int32) (s1 : Nat) (σ : Hp) : Prop :=
(tg_ σ s1 = 9 ∧ (∀ σ2, σ2 = sI_ σ 8 7 s1 s0 → post σ2))
def wX9_power (x0 : Nat) (x1 : Int32) (σ : Hp) (post : Hp → Prop) : Prop :=
(tg_ σ x0 = 9 ∧ (∀ σ4, σ4 = sI_ σ 8 0 x0 (0 : Int32) → ((¬ (fI_ σ4 8 6 x0) = 0 →
  post σ4) ∧
 ((fI_ σ4 8 6 x0) = 0 →
  ((0 ≤ x1 →
   wX9_power_L22 post x1 x0 σ4) ∧
  (¬ 0 ≤ x1 →
   wX9_power_L22 post (-1 : Int32) x0 σ4))))))
set_option maxHeartbeats 4000000 in
theorem sX9_power_L22 {G : GG_} {p : Program} {l : Launch} {e : Env} {R : Room} {s : State} {m : MethodId} {args : Array Value} {below : List Frame} {meth : Method} {c : Code} (Y : MX_ G p R s m args meth c cX9_power 2 RX9 none 1 20 0 0 "power") {post : Hp → Prop} {s0 : Int32} {s1 : Nat} {σ : Hp} (hf : wX9_power_L22 post s0 s1 σ) : WG_ G p l e R s m args below meth c (MQ below (QV_ G post) args s 0 0 (FR_ G)) BN_ 2 22 [] [.int s0, rv_ s1] σ := by
  have ⟨X, hlk, hr, hRf, hRl, hRc, hnm⟩ := Y
  have ⟨⟨hx, hb, _, hown, hts⟩, _, _⟩ := X
  intro H locs cells slots ls hP hL hB hl
  obtain ⟨rfl, rfl⟩ := hB
  unfold wX9_power_L22 at hf
  obtain ⟨ht1, hf⟩ := hf
  refine p_pI X cf8_ (k := 7) (by decide) rfl hP hL ht1 (p_ow hP ht1 rfl) q1302 (fun _ h => h) (Or.inl rfl) rfl rfl dX9_power_22 (fun H locs hP hL => ?_)
  refine p_nmP hP (fun σ2 hσ2 hP => ?_)
  have hf := hf σ2 hσ2
  have ht1 : tg_ σ2 s1 = 9 := by rw [hσ2]; exact ht1
  exact p_vret X hlk hP hL (Nat.le_refl _) (Nat.le_refl _) hr dX9_power_25 hf
set_option maxHeartbeats 4000000 in
theorem sX9_power {G : GG_} {p : Program} {l : Launch} {e : Env} {R : Room} {s : State} {m : MethodId} {args : Array Value} {below : List Frame} {meth : Method} {c : Code} (Y : MX_ G p R s m args meth c cX9_power 2 RX9 none 1 20 0 0 "power") {post : Hp → Prop} {x0 : Nat} {x1 : Int32} {σ : Hp} (hf : wX9_power x0 x1 σ post) : WG_ G p l e R s m args below meth c (MQ below (QV_ G post) args s 0 0 (FR_ G)) BN_ 2 0 [(0, rv_ x0), (1, .int x1)] [] σ := by
  have ⟨X, hlk, hr, hRf, hRl, hRc, hnm⟩ := Y
  have ⟨⟨hx, hb, _, hown, hts⟩, _, _⟩ := X
  intro H locs cells slots ls hP hL hB hl
  obtain ⟨rfl, rfl⟩ := hB
  unfold wX9_power at hf
  refine p_aload_n hx hb dX9_power_0 rfl (lv_at hl 0 rfl) ?_
  refine lv_iconst (v := 0) hx hb dX9_power_1 (by decide) ?_
  obtain ⟨ht3, hf⟩ := hf
  refine p_pI X cf8_ (k := 0) (by decide) rfl hP hL ht3 (p_ow hP ht3 rfl) q1295 (fun _ h => h) (Or.inl rfl) rfl rfl dX9_power_2 (fun H locs hP hL => ?_)
  refine p_nmP hP (fun σ4 hσ4 hP => ?_)
  have hf := hf σ4 hσ4
  have ht3 : tg_ σ4 x0 = 9 := by rw [hσ4]; exact ht3
  refine p_aload_n hx hb dX9_power_5 rfl (lv_at hl 0 rfl) ?_
  refine p_gI X cf8_ (k := 6) (by decide) rfl hP ht3 q1301 (fun _ h => h) dX9_power_6 ?_
  refine lv_if_ne (tgt := 25) hx hb dX9_power_9 (by decide) (fun c5 => ?_) (fun c5 => ?_)
  · have hf := hf.1 c5
    exact p_vret X hlk hP hL (Nat.le_refl _) (Nat.le_refl _) hr dX9_power_25 hf
  · have hf := hf.2 c5
    refine p_aload_n hx hb dX9_power_12 rfl (lv_at hl 0 rfl) ?_
    refine lv_iload_n hx hb dX9_power_13 rfl (lv_at hl 1 rfl) ?_
    refine lv_if_ge (tgt := 21) hx hb dX9_power_14 (by decide) (fun c6 => ?_) (fun c6 => ?_)
    · have hf := hf.1 c6
      refine lv_iload_n hx hb dX9_power_21 rfl (lv_at hl 1 rfl) ?_
      exact sX9_power_L22 Y hf _ _ _ _ _ hP hL ⟨rfl, rfl⟩ (lv_sub hl [] rfl)
    · have hf := hf.2 c6
      refine lv_iconst (v := (-1)) hx hb dX9_power_17 (by decide) ?_
      refine lv_goto (tgt := 22) hx hb dX9_power_18 (by decide) ?_
      exact sX9_power_L22 Y hf _ _ _ _ _ hP hL ⟨rfl, rfl⟩ (lv_sub hl [] rfl)
set_option maxHeartbeats 4000000 in
theorem metX9_power (l : Launch) (G : GG_) (x0 : Nat) (x1 : Int32) (σ : Hp) (post : Hp → Prop) (hG : GOK_ G) (hf : wX9_power x0 x1 σ post) : Met l yX9_power (ws_ yX9_power cX9_power 2 none) { frames := 1, cells := 0, slots := 0, locals := 20 } (PC_ G [rv_ x0, .int x1] σ) (QV_ G post) 0 0 (FR_ G) := by
  refine Met.ofW (cc := cX9_power) (maxL := 2) (ret := none) (by decide) rfl ?_
  intro p e s m args below meth c s₁ B hml hv
  obtain ⟨rfl, hP, hW⟩ := hv
  have hts := atoms_spec (ws := ws_ yX9_power cX9_power 2 none) B.pre
  have hts : ∀ w ∈ lw_all, w.before _ s = true := fun w h => hts w (List.mem_cons_of_mem _ h)
  rw [lg_entry_eq]
  have hl := en_entry [rv_ x0, .int x1] [1, 1] (n := 2) (ca_r (ca_i ca_n)) (by decide)
  exact sX9_power ⟨⟨⟨B.exec, B.bytes, hml, findClass_of_methodNamed B.named, hts⟩, hW, hG⟩, B.notSynchronized, B.returns, Nat.le_refl _, Nat.le_refl _, ⟨rfl, rfl⟩, (name_of_methodNamed B.named B.method).1⟩ hf _ _ _ _ _ hP (LO_nil G) ⟨rfl, rfl⟩ hl
abbrev cX9_isLetter : ByteArray := prog_11_method_12_code
def yX9_isLetter : MethodName := ⟨RX9, "isLetter", "(I)Z"⟩
theorem dX9_isLetter_0 : decode cX9_isLetter 0 = .ok (.iload_n 0, 1) := by decide +kernel
theorem dX9_isLetter_1 : decode cX9_isLetter 1 = .ok (.bipush 65, 2) := by decide +kernel
theorem dX9_isLetter_3 : decode cX9_isLetter 3 = .ok (.if_icmp .lt 9, 3) := by decide +kernel
theorem dX9_isLetter_6 : decode cX9_isLetter 6 = .ok (.iload_n 0, 1) := by decide +kernel
theorem dX9_isLetter_7 : decode cX9_isLetter 7 = .ok (.bipush 90, 2) := by decide +kernel
theorem dX9_isLetter_9 : decode cX9_isLetter 9 = .ok (.if_icmp .le 21, 3) := by decide +kernel
theorem dX9_isLetter_12 : decode cX9_isLetter 12 = .ok (.iload_n 0, 1) := by decide +kernel
theorem dX9_isLetter_13 : decode cX9_isLetter 13 = .ok (.bipush 48, 2) := by decide +kernel
theorem dX9_isLetter_15 : decode cX9_isLetter 15 = .ok (.if_icmp .lt 9, 3) := by decide +kernel
theorem dX9_isLetter_18 : decode cX9_isLetter 18 = .ok (.iload_n 0, 1) := by decide +kernel
theorem dX9_isLetter_19 : decode cX9_isLetter 19 = .ok (.bipush 57, 2) := by decide +kernel
theorem dX9_isLetter_21 : decode cX9_isLetter 21 = .ok (.if_icmp .le 9, 3) := by decide +kernel
theorem dX9_isLetter_24 : decode cX9_isLetter 24 = .ok (.iload_n 0, 1) := by decide +kernel
theorem dX9_isLetter_25 : decode cX9_isLetter 25 = .ok (.bipush 95, 2) := by decide +kernel
theorem dX9_isLetter_27 : decode cX9_isLetter 27 = .ok (.if_icmp .ne 7, 3) := by decide +kernel
theorem dX9_isLetter_30 : decode cX9_isLetter 30 = .ok (.iconst 1, 1) := by decide +kernel
theorem dX9_isLetter_31 : decode cX9_isLetter 31 = .ok (.goto 4, 3) := by decide +kernel
theorem dX9_isLetter_34 : decode cX9_isLetter 34 = .ok (.iconst 0, 1) := by decide +kernel
theorem dX9_isLetter_35 : decode cX9_isLetter 35 = .ok (.ireturn, 1) := by decide +kernel
/-- WriteOnceDiscModel.isLetter(I)Z -/
def wX9_isLetter_L30 (post : Int32 → Prop) (σ : Hp) : Prop :=
post (1 : Int32)
def wX9_isLetter_L24 (post : Int32 → Prop) (x0 : Int32) (σ : Hp) : Prop :=
((¬ x0 = (95 : Int32) →
  post (0 : Int32)) ∧
 (x0 = (95 : Int32) →
  wX9_isLetter_L30 post σ))
def wX9_isLetter_L12 (post : Int32 → Prop) (x0 : Int32) (σ : Hp) : Prop :=
((x0 < (48 : Int32) →
  wX9_isLetter_L24 post x0 σ) ∧
 (¬ x0 < (48 : Int32) →
  ((x0 ≤ (57 : Int32) →
   wX9_isLetter_L30 post σ) ∧
  (¬ x0 ≤ (57 : Int32) →
   wX9_isLetter_L24 post x0 σ))))
def wX9_isLetter (x0 : Int32) (σ : Hp) (post : Int32 → Prop) : Prop :=
((x0 < (65 : Int32) →
  wX9_isLetter_L12 post x0 σ) ∧
 (¬ x0 < (65 : Int32) →
  ((x0 ≤ (90 : Int32) →
   wX9_isLetter_L30 post σ) ∧
  (¬ x0 ≤ (90 : Int32) →
   wX9_isLetter_L12 post x0 σ))))
set_option maxHeartbeats 4000000 in
theorem sX9_isLetter_L30 {G : GG_} {p : Program} {l : Launch} {e : Env} {R : Room} {s : State} {m : MethodId} {args : Array Value} {below : List Frame} {meth : Method} {c : Code} (Y : MX_ G p R s m args meth c cX9_isLetter 1 RX9 (some Jvm.ClassFile.FieldType.boolean) 1 20 0 0 "isLetter") {post : Int32 → Prop} {σ : Hp} (hf : wX9_isLetter_L30 post σ) : WG_ G p l e R s m args below meth c (MQ below (QI_ G (fun r τ => τ = σ ∧ post r)) args s 0 0 (FR_ G)) BN_ 1 30 [] [] σ := by
  have ⟨X, hlk, hr, hRf, hRl, hRc, hnm⟩ := Y
  have ⟨⟨hx, hb, _, hown, hts⟩, _, _⟩ := X
  intro H locs cells slots ls hP hL hB hl
  obtain ⟨rfl, rfl⟩ := hB
  unfold wX9_isLetter_L30 at hf
  refine lv_iconst (v := 1) hx hb dX9_isLetter_30 (by decide) ?_
  refine lv_goto (tgt := 35) hx hb dX9_isLetter_31 (by decide) ?_
  exact p_zret X hlk hP hL (Nat.le_refl _) (Nat.le_refl _) hr nr_1 dX9_isLetter_35 ⟨rfl, hf⟩
set_option maxHeartbeats 4000000 in
theorem sX9_isLetter_L24 {G : GG_} {p : Program} {l : Launch} {e : Env} {R : Room} {s : State} {m : MethodId} {args : Array Value} {below : List Frame} {meth : Method} {c : Code} (Y : MX_ G p R s m args meth c cX9_isLetter 1 RX9 (some Jvm.ClassFile.FieldType.boolean) 1 20 0 0 "isLetter") {post : Int32 → Prop} {x0 : Int32} {σ : Hp} (hf : wX9_isLetter_L24 post x0 σ) : WG_ G p l e R s m args below meth c (MQ below (QI_ G (fun r τ => τ = σ ∧ post r)) args s 0 0 (FR_ G)) BN_ 1 24 [(0, .int x0)] [] σ := by
  have ⟨X, hlk, hr, hRf, hRl, hRc, hnm⟩ := Y
  have ⟨⟨hx, hb, _, hown, hts⟩, _, _⟩ := X
  intro H locs cells slots ls hP hL hB hl
  obtain ⟨rfl, rfl⟩ := hB
  unfold wX9_isLetter_L24 at hf
  refine lv_iload_n hx hb dX9_isLetter_24 rfl (lv_at hl 0 rfl) ?_
  refine lv_bipush (v := 95) hx hb dX9_isLetter_25 (by decide) ?_
  refine lv_icmp_ne (tgt := 34) hx hb dX9_isLetter_27 (by decide) (fun c1 => ?_) (fun c1 => ?_)
  · have hf := hf.1 c1
    refine lv_iconst (v := 0) hx hb dX9_isLetter_34 (by decide) ?_
    exact p_zret X hlk hP hL (Nat.le_refl _) (Nat.le_refl _) hr nr_0 dX9_isLetter_35 ⟨rfl, hf⟩
  · have hf := hf.2 c1
    exact sX9_isLetter_L30 Y hf _ _ _ _ _ hP hL ⟨rfl, rfl⟩ (lv_sub hl [] rfl)
set_option maxHeartbeats 4000000 in
theorem sX9_isLetter_L12 {G : GG_} {p : Program} {l : Launch} {e : Env} {R : Room} {s : State} {m : MethodId} {args : Array Value} {below : List Frame} {meth : Method} {c : Code} (Y : MX_ G p R s m args meth c cX9_isLetter 1 RX9 (some Jvm.ClassFile.FieldType.boolean) 1 20 0 0 "isLetter") {post : Int32 → Prop} {x0 : Int32} {σ : Hp} (hf : wX9_isLetter_L12 post x0 σ) : WG_ G p l e R s m args below meth c (MQ below (QI_ G (fun r τ => τ = σ ∧ post r)) args s 0 0 (FR_ G)) BN_ 1 12 [(0, .int x0)] [] σ := by
  have ⟨X, hlk, hr, hRf, hRl, hRc, hnm⟩ := Y
  have ⟨⟨hx, hb, _, hown, hts⟩, _, _⟩ := X
  intro H locs cells slots ls hP hL hB hl
  obtain ⟨rfl, rfl⟩ := hB
  unfold wX9_isLetter_L12 at hf
  refine lv_iload_n hx hb dX9_isLetter_12 rfl (lv_at hl 0 rfl) ?_
  refine lv_bipush (v := 48) hx hb dX9_isLetter_13 (by decide) ?_
  refine lv_icmp_lt (tgt := 24) hx hb dX9_isLetter_15 (by decide) (fun c2 => ?_) (fun c2 => ?_)
  · have hf := hf.1 c2
    exact sX9_isLetter_L24 Y hf _ _ _ _ _ hP hL ⟨rfl, rfl⟩ (lv_sub hl [0] rfl)
  · have hf := hf.2 c2
    refine lv_iload_n hx hb dX9_isLetter_18 rfl (lv_at hl 0 rfl) ?_
    refine lv_bipush (v := 57) hx hb dX9_isLetter_19 (by decide) ?_
    refine lv_icmp_le (tgt := 30) hx hb dX9_isLetter_21 (by decide) (fun c3 => ?_) (fun c3 => ?_)
    · have hf := hf.1 c3
      exact sX9_isLetter_L30 Y hf _ _ _ _ _ hP hL ⟨rfl, rfl⟩ (lv_sub hl [] rfl)
    · have hf := hf.2 c3
      exact sX9_isLetter_L24 Y hf _ _ _ _ _ hP hL ⟨rfl, rfl⟩ (lv_sub hl [0] rfl)
set_option maxHeartbeats 4000000 in
theorem sX9_isLetter {G : GG_} {p : Program} {l : Launch} {e : Env} {R : Room} {s : State} {m : MethodId} {args : Array Value} {below : List Frame} {meth : Method} {c : Code} (Y : MX_ G p R s m args meth c cX9_isLetter 1 RX9 (some Jvm.ClassFile.FieldType.boolean) 1 20 0 0 "isLetter") {post : Int32 → Prop} {x0 : Int32} {σ : Hp} (hf : wX9_isLetter x0 σ post) : WG_ G p l e R s m args below meth c (MQ below (QI_ G (fun r τ => τ = σ ∧ post r)) args s 0 0 (FR_ G)) BN_ 1 0 [(0, .int x0)] [] σ := by
  have ⟨X, hlk, hr, hRf, hRl, hRc, hnm⟩ := Y
  have ⟨⟨hx, hb, _, hown, hts⟩, _, _⟩ := X
  intro H locs cells slots ls hP hL hB hl
  obtain ⟨rfl, rfl⟩ := hB
  unfold wX9_isLetter at hf
  refine lv_iload_n hx hb dX9_isLetter_0 rfl (lv_at hl 0 rfl) ?_
  refine lv_bipush (v := 65) hx hb dX9_isLetter_1 (by decide) ?_
  refine lv_icmp_lt (tgt := 12) hx hb dX9_isLetter_3 (by decide) (fun c4 => ?_) (fun c4 => ?_)
  · have hf := hf.1 c4
    exact sX9_isLetter_L12 Y hf _ _ _ _ _ hP hL ⟨rfl, rfl⟩ (lv_sub hl [0] rfl)
  · have hf := hf.2 c4
    refine lv_iload_n hx hb dX9_isLetter_6 rfl (lv_at hl 0 rfl) ?_
    refine lv_bipush (v := 90) hx hb dX9_isLetter_7 (by decide) ?_
    refine lv_icmp_le (tgt := 30) hx hb dX9_isLetter_9 (by decide) (fun c5 => ?_) (fun c5 => ?_)
    · have hf := hf.1 c5
      exact sX9_isLetter_L30 Y hf _ _ _ _ _ hP hL ⟨rfl, rfl⟩ (lv_sub hl [] rfl)
    · have hf := hf.2 c5
      exact sX9_isLetter_L12 Y hf _ _ _ _ _ hP hL ⟨rfl, rfl⟩ (lv_sub hl [0] rfl)
set_option maxHeartbeats 4000000 in
theorem metX9_isLetter (l : Launch) (G : GG_) (x0 : Int32) (σ : Hp) (post : Int32 → Prop) (hG : GOK_ G) (hf : wX9_isLetter x0 σ post) : Met l yX9_isLetter (ws_ yX9_isLetter cX9_isLetter 1 (some Jvm.ClassFile.FieldType.boolean)) { frames := 1, cells := 0, slots := 0, locals := 20 } (PC_ G [.int x0] σ) (QI_ G (fun r τ => τ = σ ∧ post r)) 0 0 (FR_ G) := by
  refine Met.ofW (cc := cX9_isLetter) (maxL := 1) (ret := (some Jvm.ClassFile.FieldType.boolean)) (by decide) rfl ?_
  intro p e s m args below meth c s₁ B hml hv
  obtain ⟨rfl, hP, hW⟩ := hv
  have hts := atoms_spec (ws := ws_ yX9_isLetter cX9_isLetter 1 (some Jvm.ClassFile.FieldType.boolean)) B.pre
  have hts : ∀ w ∈ lw_all, w.before _ s = true := fun w h => hts w (List.mem_cons_of_mem _ h)
  rw [lg_entry_eq]
  have hl := en_entry [.int x0] [1] (n := 1) (ca_i ca_n) (by decide)
  exact sX9_isLetter ⟨⟨⟨B.exec, B.bytes, hml, findClass_of_methodNamed B.named, hts⟩, hW, hG⟩, B.notSynchronized, B.returns, Nat.le_refl _, Nat.le_refl _, ⟨rfl, rfl⟩, (name_of_methodNamed B.named B.method).1⟩ hf _ _ _ _ _ hP (LO_nil G) ⟨rfl, rfl⟩ hl
abbrev cX9_told : ByteArray := prog_11_method_13_code
def yX9_told : MethodName := ⟨RX9, "told", "(J)J"⟩
theorem dX9_told_0 : decode cX9_told 0 = .ok (.lconst 0, 1) := by decide +kernel
theorem dX9_told_1 : decode cX9_told 1 = .ok (.lstore_n 2, 1) := by decide +kernel
theorem dX9_told_2 : decode cX9_told 2 = .ok (.bipush 7, 2) := by decide +kernel
theorem dX9_told_4 : decode cX9_told 4 = .ok (.istore 4, 2) := by decide +kernel
theorem dX9_told_6 : decode cX9_told 6 = .ok (.iload 4, 2) := by decide +kernel
theorem dX9_told_8 : decode cX9_told 8 = .ok (.ifCond .lt 50, 3) := by decide +kernel
theorem dX9_told_11 : decode cX9_told 11 = .ok (.lload_n 0, 1) := by decide +kernel
theorem dX9_told_12 : decode cX9_told 12 = .ok (.bipush 8, 2) := by decide +kernel
theorem dX9_told_14 : decode cX9_told 14 = .ok (.iload 4, 2) := by decide +kernel
theorem dX9_told_16 : decode cX9_told 16 = .ok (.imul, 1) := by decide +kernel
theorem dX9_told_17 : decode cX9_told 17 = .ok (.lushr, 1) := by decide +kernel
theorem dX9_told_18 : decode cX9_told 18 = .ok (.ldc2_w 129, 3) := by decide +kernel
theorem dX9_told_21 : decode cX9_told 21 = .ok (.land, 1) := by decide +kernel
theorem dX9_told_22 : decode cX9_told 22 = .ok (.l2i, 1) := by decide +kernel
theorem dX9_told_23 : decode cX9_told 23 = .ok (.istore 5, 2) := by decide +kernel
theorem dX9_told_25 : decode cX9_told 25 = .ok (.iload 5, 2) := by decide +kernel
theorem dX9_told_27 : decode cX9_told 27 = .ok (.ifCond .ne 6, 3) := by decide +kernel
theorem dX9_told_30 : decode cX9_told 30 = .ok (.goto 22, 3) := by decide +kernel
theorem dX9_told_33 : decode cX9_told 33 = .ok (.iload 5, 2) := by decide +kernel
theorem dX9_told_35 : decode cX9_told 35 = .ok (.invokestatic 131, 3) := by decide +kernel
theorem dX9_told_38 : decode cX9_told 38 = .ok (.ifCond .ne 5, 3) := by decide +kernel
theorem dX9_told_41 : decode cX9_told 41 = .ok (.lconst 0, 1) := by decide +kernel
theorem dX9_told_42 : decode cX9_told 42 = .ok (.lreturn, 1) := by decide +kernel
theorem dX9_told_43 : decode cX9_told 43 = .ok (.lload_n 2, 1) := by decide +kernel
theorem dX9_told_44 : decode cX9_told 44 = .ok (.bipush 8, 2) := by decide +kernel
theorem dX9_told_46 : decode cX9_told 46 = .ok (.lshl, 1) := by decide +kernel
theorem dX9_told_47 : decode cX9_told 47 = .ok (.iload 5, 2) := by decide +kernel
theorem dX9_told_49 : decode cX9_told 49 = .ok (.i2l, 1) := by decide +kernel
theorem dX9_told_50 : decode cX9_told 50 = .ok (.lor, 1) := by decide +kernel
theorem dX9_told_51 : decode cX9_told 51 = .ok (.lstore_n 2, 1) := by decide +kernel
theorem dX9_told_52 : decode cX9_told 52 = .ok (.iinc 4 (-1), 3) := by decide +kernel
theorem dX9_told_55 : decode cX9_told 55 = .ok (.goto (-49), 3) := by decide +kernel
theorem dX9_told_58 : decode cX9_told 58 = .ok (.lload_n 2, 1) := by decide +kernel
theorem dX9_told_59 : decode cX9_told 59 = .ok (.lreturn, 1) := by decide +kernel
/-- WriteOnceDiscModel.told(J)J -/
def wX9_told_L52 (post : Int64 → Prop) (rc6 : Int64 → Int32 → Prop) (x0 : Int64) (x2 : Int64) (x4 : Int32) (σ : Hp) : Prop :=
(∀ y1 : Int32, y1 = x4 + (-1) → rc6 x2 y1)
def wX9_told_B6 (post : Int64 → Prop) (rc6 : Int64 → Int32 → Prop) (x0 : Int64) (x2 : Int64) (x4 : Int32) (σ : Hp) : Prop :=
((x4 < 0 →
  post x2) ∧
 (¬ x4 < 0 →
  (∀ y3 : Int32, y3 = ((((x0).toUInt64 >>> ((((8 : Int32) * x4)).toInt64.toUInt64 &&& Int64.toUInt64 63)).toInt64 &&& (255 : Int64))).toInt32 → ((¬ y3 = 0 →
   (wX9_isLetter y3 σ (fun r5 => ((¬ r5 = 0 →
    (∀ y7 : Int64, y7 = ((x2 <<< (((8 : Int32)).toInt64 &&& 63)) ||| (y3).toInt64) → wX9_told_L52 post rc6 x0 y7 x4 σ)) ∧
   (r5 = 0 →
    post (0 : Int64)))))) ∧
  (y3 = 0 →
   wX9_told_L52 post rc6 x0 x2 x4 σ)))))
def wX9_told_L6 (post : Int64 → Prop) (x0 : Int64) (x2 : Int64) (x4 : Int32) (σ : Hp) : Prop :=
 ∃ (I : Int64 → Int32 → Prop) (μ : Int64 → Int32 → Nat), I x2 x4 ∧ ∀ (x2 : Int64) (x4 : Int32), I x2 x4 → wX9_told_B6 post (fun x2' x4' => I x2' x4' ∧ μ x2' x4' < μ x2 x4) x0 x2 x4 σ
def wX9_told (x0 : Int64) (σ : Hp) (post : Int64 → Prop) : Prop :=
wX9_told_L6 post x0 (0 : Int64) (7 : Int32) σ
set_option maxHeartbeats 4000000 in
theorem sX9_told_L52 {G : GG_} {p : Program} {l : Launch} {e : Env} {R : Room} {s : State} {m : MethodId} {args : Array Value} {below : List Frame} {meth : Method} {c : Code} (Y : MX_ G p R s m args meth c cX9_told 6 RX9 (some Jvm.ClassFile.FieldType.long) 2 40 0 0 "told") {post : Int64 → Prop} {rc6 : Int64 → Int32 → Prop} {x0 : Int64} {x2 : Int64} {x4 : Int32} {σ : Hp} (hrc6 : ∀ (x2 : Int64) (x4 : Int32), rc6 x2 x4 → WG_ G p l e R s m args below meth c (MQ below (QL_ G (fun r τ => τ = σ ∧ post r)) args s 0 0 (FR_ G)) BN_ 6 6 [(0, .long x0), (2, .long x2), (4, .int x4)] [] σ) (hf : wX9_told_L52 post rc6 x0 x2 x4 σ) : WG_ G p l e R s m args below meth c (MQ below (QL_ G (fun r τ => τ = σ ∧ post r)) args s 0 0 (FR_ G)) BN_ 6 52 [(0, .long x0), (2, .long x2), (4, .int x4)] [] σ := by
  have ⟨X, hlk, hr, hRf, hRl, hRc, hnm⟩ := Y
  have ⟨⟨hx, hb, _, hown, hts⟩, _, _⟩ := X
  intro H locs cells slots ls hP hL hB hl
  obtain ⟨rfl, rfl⟩ := hB
  unfold wX9_told_L52 at hf
  have hl := lv_sub hl [2, 0, 1] rfl
  refine p_iincc (i := 4) (k := (-1)) hx hb (by decide) dX9_told_52 hl (by decide) ⟨⟨ne_ rfl, Or.inl (ne_ rfl)⟩, ⟨⟨ne_ rfl, Or.inl (ne_ rfl)⟩, trivial⟩⟩ (fun y1 hy1 ls hl => ?_)
  have hf := hf y1 hy1
  refine lv_goto (tgt := 6) hx hb dX9_told_55 (by decide) ?_
  exact hrc6 _ _ hf _ _ _ _ _ hP hL ⟨rfl, rfl⟩ (lv_sub hl [1, 2, 0] rfl)
set_option maxHeartbeats 4000000 in
theorem sX9_told_B6 {G : GG_} {p : Program} {l : Launch} {e : Env} {R : Room} {s : State} {m : MethodId} {args : Array Value} {below : List Frame} {meth : Method} {c : Code} (Y : MX_ G p R s m args meth c cX9_told 6 RX9 (some Jvm.ClassFile.FieldType.long) 2 40 0 0 "told") {post : Int64 → Prop} {rc6 : Int64 → Int32 → Prop} {x0 : Int64} {x2 : Int64} {x4 : Int32} {σ : Hp} (hrc6 : ∀ (x2 : Int64) (x4 : Int32), rc6 x2 x4 → WG_ G p l e R s m args below meth c (MQ below (QL_ G (fun r τ => τ = σ ∧ post r)) args s 0 0 (FR_ G)) BN_ 6 6 [(0, .long x0), (2, .long x2), (4, .int x4)] [] σ) (hf : wX9_told_B6 post rc6 x0 x2 x4 σ) : WG_ G p l e R s m args below meth c (MQ below (QL_ G (fun r τ => τ = σ ∧ post r)) args s 0 0 (FR_ G)) BN_ 6 6 [(0, .long x0), (2, .long x2), (4, .int x4)] [] σ := by
  have ⟨X, hlk, hr, hRf, hRl, hRc, hnm⟩ := Y
  have ⟨⟨hx, hb, _, hown, hts⟩, _, _⟩ := X
  intro H locs cells slots ls hP hL hB hl
  obtain ⟨rfl, rfl⟩ := hB
  unfold wX9_told_B6 at hf
  refine lv_iload hx hb dX9_told_6 (lv_at hl 2 rfl) ?_
  refine lv_if_lt (tgt := 58) hx hb dX9_told_8 (by decide) (fun c2 => ?_) (fun c2 => ?_)
  · have hf := hf.1 c2
    refine lv_lload_n hx hb dX9_told_58 rfl (lv_at hl 1 rfl) ?_
    exact p_lret X hlk hP hL (Nat.le_refl _) (Nat.le_refl _) hr dX9_told_59 ⟨rfl, hf⟩
  · have hf := hf.2 c2
    refine lv_lload_n hx hb dX9_told_11 rfl (lv_at hl 0 rfl) ?_
    refine lv_bipush (v := 8) hx hb dX9_told_12 (by decide) ?_
    refine lv_iload hx hb dX9_told_14 (lv_at hl 2 rfl) ?_
    refine lv_imul hx hb dX9_told_16 ?_
    refine lv_lushr hx hb dX9_told_17 rfl ?_
    refine lv_ldc2 hx hb hown (hts _ q1445) dX9_told_18 ?_
    refine lv_land hx hb dX9_told_21 ?_
    refine lv_l2i hx hb dX9_told_22 rfl ?_
    refine lv_topi (fun y3 hy3 => ?_)
    have hf := hf y3 hy3
    refine p_istore (i := 5) hx hb dX9_told_23 hl (by decide) ⟨⟨ne_ rfl, Or.inl (ne_ rfl)⟩, ⟨⟨ne_ rfl, Or.inl (ne_ rfl)⟩, ⟨⟨ne_ rfl, Or.inr rfl⟩, trivial⟩⟩⟩ (fun ls hl => ?_)
    refine lv_iload hx hb dX9_told_25 (lv_at hl 0 rfl) ?_
    refine lv_if_ne (tgt := 33) hx hb dX9_told_27 (by decide) (fun c4 => ?_) (fun c4 => ?_)
    · have hf := hf.1 c4
      refine lv_iload hx hb dX9_told_33 (lv_at hl 0 rfl) ?_
      refine p_calli hL (p_runS X hP (metX9_isLetter l G _ _ _ X.2.2 hf) (va_cwS 1 hts (lw_S q1446 q1447 q106 q1448) rfl rfl rfl (by decide +kernel) ⟨Nat.le_trans (Nat.le_of_ble_eq_true rfl) hRf, Nat.le_trans (Nat.le_of_ble_eq_true rfl) hRl⟩) rfl hl.1 rfl (by decide) dX9_told_35 ⟨Nat.zero_le _, Nat.zero_le _⟩) (fun r5 σ₁ H locs hf hP hL => ?_)
      obtain ⟨e₁, hf⟩ := hf
      rw [e₁] at hP
      refine lv_if_ne (tgt := 43) hx hb dX9_told_38 (by decide) (fun c6 => ?_) (fun c6 => ?_)
      · have hf := hf.1 c6
        refine lv_lload_n hx hb dX9_told_43 rfl (lv_at hl 2 rfl) ?_
        refine lv_bipush (v := 8) hx hb dX9_told_44 (by decide) ?_
        refine lv_lshl hx hb dX9_told_46 rfl ?_
        refine lv_iload hx hb dX9_told_47 (lv_at hl 0 rfl) ?_
        refine lv_i2l hx hb dX9_told_49 rfl ?_
        refine lv_lor hx hb dX9_told_50 ?_
        have hl := lv_sub hl [1, 3] rfl
        refine lv_topl (fun y7 hy7 => ?_)
        have hf := hf y7 hy7
        refine p_lstore_n (i := 2) hx hb dX9_told_51 rfl hl (by decide) ⟨⟨ne_ rfl, ne_ rfl, Or.inl (ne_ rfl)⟩, ⟨⟨ne_ rfl, ne_ rfl, Or.inl (ne_ rfl)⟩, trivial⟩⟩ (fun ls hl => ?_)
        exact sX9_told_L52 Y hrc6 hf _ _ _ _ _ hP hL ⟨rfl, rfl⟩ (lv_sub hl [1, 0, 2] rfl)
      · have hf := hf.2 c6
        refine lv_lconst (v := 0) hx hb dX9_told_41 (by decide) ?_
        exact p_lret X hlk hP hL (Nat.le_refl _) (Nat.le_refl _) hr dX9_told_42 ⟨rfl, hf⟩
    · have hf := hf.2 c4
      refine lv_goto (tgt := 52) hx hb dX9_told_30 (by decide) ?_
      exact sX9_told_L52 Y hrc6 hf _ _ _ _ _ hP hL ⟨rfl, rfl⟩ (lv_sub hl [1, 2, 3] rfl)
set_option maxHeartbeats 4000000 in
theorem sX9_told_L6 {G : GG_} {p : Program} {l : Launch} {e : Env} {R : Room} {s : State} {m : MethodId} {args : Array Value} {below : List Frame} {meth : Method} {c : Code} (Y : MX_ G p R s m args meth c cX9_told 6 RX9 (some Jvm.ClassFile.FieldType.long) 2 40 0 0 "told") {post : Int64 → Prop} {x0 : Int64} {x2 : Int64} {x4 : Int32} {σ : Hp} (hf : wX9_told_L6 post x0 x2 x4 σ) : WG_ G p l e R s m args below meth c (MQ below (QL_ G (fun r τ => τ = σ ∧ post r)) args s 0 0 (FR_ G)) BN_ 6 6 [(0, .long x0), (2, .long x2), (4, .int x4)] [] σ := by
  unfold wX9_told_L6 at hf
  obtain ⟨I, μ, h0, hI⟩ := hf
  have key : ∀ (n : Nat) (x2 : Int64) (x4 : Int32), I x2 x4 → μ x2 x4 < n → WG_ G p l e R s m args below meth c (MQ below (QL_ G (fun r τ => τ = σ ∧ post r)) args s 0 0 (FR_ G)) BN_ 6 6 [(0, .long x0), (2, .long x2), (4, .int x4)] [] σ := by
    intro n
    induction n with
    | zero => intro x2 x4 _ h; exact absurd h (Nat.not_lt_zero _)
    | succ n ih => intro x2 x4 hi hn; exact sX9_told_B6 Y (fun x2' x4' h => ih x2' x4' h.1 (Nat.lt_of_lt_of_le h.2 (Nat.le_of_lt_succ hn))) (hI x2 x4 hi)
  exact key _ _ _ h0 (Nat.lt_succ_self _)
set_option maxHeartbeats 4000000 in
theorem sX9_told {G : GG_} {p : Program} {l : Launch} {e : Env} {R : Room} {s : State} {m : MethodId} {args : Array Value} {below : List Frame} {meth : Method} {c : Code} (Y : MX_ G p R s m args meth c cX9_told 6 RX9 (some Jvm.ClassFile.FieldType.long) 2 40 0 0 "told") {post : Int64 → Prop} {x0 : Int64} {σ : Hp} (hf : wX9_told x0 σ post) : WG_ G p l e R s m args below meth c (MQ below (QL_ G (fun r τ => τ = σ ∧ post r)) args s 0 0 (FR_ G)) BN_ 6 0 [(0, .long x0)] [] σ := by
  have ⟨X, hlk, hr, hRf, hRl, hRc, hnm⟩ := Y
  have ⟨⟨hx, hb, _, hown, hts⟩, _, _⟩ := X
  intro H locs cells slots ls hP hL hB hl
  obtain ⟨rfl, rfl⟩ := hB
  unfold wX9_told at hf
  refine lv_lconst (v := 0) hx hb dX9_told_0 (by decide) ?_
  refine p_lstore_n (i := 2) hx hb dX9_told_1 rfl hl (by decide) ⟨⟨ne_ rfl, ne_ rfl, Or.inl (ne_ rfl)⟩, trivial⟩ (fun ls hl => ?_)
  refine lv_bipush (v := 7) hx hb dX9_told_2 (by decide) ?_
  refine p_istore (i := 4) hx hb dX9_told_4 hl (by decide) ⟨⟨ne_ rfl, Or.inl (ne_ rfl)⟩, ⟨⟨ne_ rfl, Or.inl (ne_ rfl)⟩, trivial⟩⟩ (fun ls hl => ?_)
  exact sX9_told_L6 Y hf _ _ _ _ _ hP hL ⟨rfl, rfl⟩ (lv_sub hl [2, 1, 0] rfl)
set_option maxHeartbeats 4000000 in
theorem metX9_told (l : Launch) (G : GG_) (x0 : Int64) (σ : Hp) (post : Int64 → Prop) (hG : GOK_ G) (hf : wX9_told x0 σ post) : Met l yX9_told (ws_ yX9_told cX9_told 6 (some Jvm.ClassFile.FieldType.long)) { frames := 2, cells := 0, slots := 0, locals := 40 } (PC_ G [.long x0] σ) (QL_ G (fun r τ => τ = σ ∧ post r)) 0 0 (FR_ G) := by
  refine Met.ofW (cc := cX9_told) (maxL := 6) (ret := (some Jvm.ClassFile.FieldType.long)) (by decide) rfl ?_
  intro p e s m args below meth c s₁ B hml hv
  obtain ⟨rfl, hP, hW⟩ := hv
  have hts := atoms_spec (ws := ws_ yX9_told cX9_told 6 (some Jvm.ClassFile.FieldType.long)) B.pre
  have hts : ∀ w ∈ lw_all, w.before _ s = true := fun w h => hts w (List.mem_cons_of_mem _ h)
  rw [lg_entry_eq]
  have hl := en_entry [.long x0] [2] (n := 6) (ca_l ca_n) (by decide)
  exact sX9_told ⟨⟨⟨B.exec, B.bytes, hml, findClass_of_methodNamed B.named, hts⟩, hW, hG⟩, B.notSynchronized, B.returns, Nat.le_refl _, Nat.le_refl _, ⟨rfl, rfl⟩, (name_of_methodNamed B.named B.method).1⟩ hf _ _ _ _ _ hP (LO_nil G) ⟨rfl, rfl⟩ hl
abbrev cX9_isNode : ByteArray := prog_11_method_11_code
def yX9_isNode : MethodName := ⟨RX9, "isNode", "(I)Z"⟩
theorem dX9_isNode_0 : decode cX9_isNode 0 = .ok (.iload_n 1, 1) := by decide +kernel
theorem dX9_isNode_1 : decode cX9_isNode 1 = .ok (.ifCond .lt 24, 3) := by decide +kernel
theorem dX9_isNode_4 : decode cX9_isNode 4 = .ok (.iload_n 1, 1) := by decide +kernel
theorem dX9_isNode_5 : decode cX9_isNode 5 = .ok (.aload_n 0, 1) := by decide +kernel
theorem dX9_isNode_6 : decode cX9_isNode 6 = .ok (.getfield 112, 3) := by decide +kernel
theorem dX9_isNode_9 : decode cX9_isNode 9 = .ok (.if_icmp .ge 16, 3) := by decide +kernel
theorem dX9_isNode_12 : decode cX9_isNode 12 = .ok (.aload_n 0, 1) := by decide +kernel
theorem dX9_isNode_13 : decode cX9_isNode 13 = .ok (.getfield 24, 3) := by decide +kernel
theorem dX9_isNode_16 : decode cX9_isNode 16 = .ok (.iload_n 1, 1) := by decide +kernel
theorem dX9_isNode_17 : decode cX9_isNode 17 = .ok (.baload, 1) := by decide +kernel
theorem dX9_isNode_18 : decode cX9_isNode 18 = .ok (.ifCond .eq 7, 3) := by decide +kernel
theorem dX9_isNode_21 : decode cX9_isNode 21 = .ok (.iconst 1, 1) := by decide +kernel
theorem dX9_isNode_22 : decode cX9_isNode 22 = .ok (.goto 4, 3) := by decide +kernel
theorem dX9_isNode_25 : decode cX9_isNode 25 = .ok (.iconst 0, 1) := by decide +kernel
theorem dX9_isNode_26 : decode cX9_isNode 26 = .ok (.ireturn, 1) := by decide +kernel
/-- WriteOnceDiscModel.isNode(I)Z -/
def wX9_isNode (x0 : Nat) (x1 : Int32) (σ : Hp) (post : Int32 → Prop) : Prop :=
((x1 < 0 →
  post (0 : Int32)) ∧
 (¬ x1 < 0 →
  (tg_ σ x0 = 9 ∧ (((fI_ σ 8 10 x0) ≤ x1 →
   post (0 : Int32)) ∧
  (¬ (fI_ σ 8 10 x0) ≤ x1 →
   (tg_ σ (fR_ σ 8 11 x0) = 101 ∧ (vp_in x1 (ln_ σ (fR_ σ 8 11 x0)) ∧ (((aI_ σ (fR_ σ 8 11 x0) (x1).toNatClampNeg) = 0 →
    post (0 : Int32)) ∧
   (¬ (aI_ σ (fR_ σ 8 11 x0) (x1).toNatClampNeg) = 0 →
    post (1 : Int32))))))))))
set_option maxHeartbeats 4000000 in
theorem sX9_isNode {G : GG_} {p : Program} {l : Launch} {e : Env} {R : Room} {s : State} {m : MethodId} {args : Array Value} {below : List Frame} {meth : Method} {c : Code} (Y : MX_ G p R s m args meth c cX9_isNode 2 RX9 (some Jvm.ClassFile.FieldType.boolean) 1 20 0 0 "isNode") {post : Int32 → Prop} {x0 : Nat} {x1 : Int32} {σ : Hp} (hf : wX9_isNode x0 x1 σ post) : WG_ G p l e R s m args below meth c (MQ below (QI_ G (fun r τ => τ = σ ∧ post r)) args s 0 0 (FR_ G)) BN_ 2 0 [(0, rv_ x0), (1, .int x1)] [] σ := by
  have ⟨X, hlk, hr, hRf, hRl, hRc, hnm⟩ := Y
  have ⟨⟨hx, hb, _, hown, hts⟩, _, _⟩ := X
  intro H locs cells slots ls hP hL hB hl
  obtain ⟨rfl, rfl⟩ := hB
  unfold wX9_isNode at hf
  refine lv_iload_n hx hb dX9_isNode_0 rfl (lv_at hl 1 rfl) ?_
  refine lv_if_lt (tgt := 25) hx hb dX9_isNode_1 (by decide) (fun c1 => ?_) (fun c1 => ?_)
  · have hf := hf.1 c1
    refine lv_iconst (v := 0) hx hb dX9_isNode_25 (by decide) ?_
    exact p_zret X hlk hP hL (Nat.le_refl _) (Nat.le_refl _) hr nr_0 dX9_isNode_26 ⟨rfl, hf⟩
  · have hf := hf.2 c1
    refine lv_iload_n hx hb dX9_isNode_4 rfl (lv_at hl 1 rfl) ?_
    refine p_aload_n hx hb dX9_isNode_5 rfl (lv_at hl 0 rfl) ?_
    obtain ⟨ht2, hf⟩ := hf
    refine p_gI X cf8_ (k := 10) (by decide) rfl hP ht2 q1305 (fun _ h => h) dX9_isNode_6 ?_
    refine lv_icmp_ge (tgt := 25) hx hb dX9_isNode_9 (by decide) (fun c3 => ?_) (fun c3 => ?_)
    · have hf := hf.1 c3
      refine lv_iconst (v := 0) hx hb dX9_isNode_25 (by decide) ?_
      exact p_zret X hlk hP hL (Nat.le_refl _) (Nat.le_refl _) hr nr_0 dX9_isNode_26 ⟨rfl, hf⟩
    · have hf := hf.2 c3
      refine p_aload_n hx hb dX9_isNode_12 rfl (lv_at hl 0 rfl) ?_
      refine p_gR X cf8_ (k := 11) (by decide) rfl hP ht2 q1306 (fun _ h => h) dX9_isNode_13 ?_
      refine lv_iload_n hx hb dX9_isNode_16 rfl (lv_at hl 1 rfl) ?_
      obtain ⟨ht4, hf⟩ := hf
      obtain ⟨hi5, hf⟩ := hf
      refine p_zald X hP ht4 hi5 dX9_isNode_17 ?_
      refine lv_if_eq (tgt := 25) hx hb dX9_isNode_18 (by decide) (fun c6 => ?_) (fun c6 => ?_)
      · have hf := hf.1 c6
        refine lv_iconst (v := 0) hx hb dX9_isNode_25 (by decide) ?_
        exact p_zret X hlk hP hL (Nat.le_refl _) (Nat.le_refl _) hr nr_0 dX9_isNode_26 ⟨rfl, hf⟩
      · have hf := hf.2 c6
        refine lv_iconst (v := 1) hx hb dX9_isNode_21 (by decide) ?_
        refine lv_goto (tgt := 26) hx hb dX9_isNode_22 (by decide) ?_
        exact p_zret X hlk hP hL (Nat.le_refl _) (Nat.le_refl _) hr nr_1 dX9_isNode_26 ⟨rfl, hf⟩
set_option maxHeartbeats 4000000 in
theorem metX9_isNode (l : Launch) (G : GG_) (x0 : Nat) (x1 : Int32) (σ : Hp) (post : Int32 → Prop) (hG : GOK_ G) (hf : wX9_isNode x0 x1 σ post) : Met l yX9_isNode (ws_ yX9_isNode cX9_isNode 2 (some Jvm.ClassFile.FieldType.boolean)) { frames := 1, cells := 0, slots := 0, locals := 20 } (PC_ G [rv_ x0, .int x1] σ) (QI_ G (fun r τ => τ = σ ∧ post r)) 0 0 (FR_ G) := by
  refine Met.ofW (cc := cX9_isNode) (maxL := 2) (ret := (some Jvm.ClassFile.FieldType.boolean)) (by decide) rfl ?_
  intro p e s m args below meth c s₁ B hml hv
  obtain ⟨rfl, hP, hW⟩ := hv
  have hts := atoms_spec (ws := ws_ yX9_isNode cX9_isNode 2 (some Jvm.ClassFile.FieldType.boolean)) B.pre
  have hts : ∀ w ∈ lw_all, w.before _ s = true := fun w h => hts w (List.mem_cons_of_mem _ h)
  rw [lg_entry_eq]
  have hl := en_entry [rv_ x0, .int x1] [1, 1] (n := 2) (ca_r (ca_i ca_n)) (by decide)
  exact sX9_isNode ⟨⟨⟨B.exec, B.bytes, hml, findClass_of_methodNamed B.named, hts⟩, hW, hG⟩, B.notSynchronized, B.returns, Nat.le_refl _, Nat.le_refl _, ⟨rfl, rfl⟩, (name_of_methodNamed B.named B.method).1⟩ hf _ _ _ _ _ hP (LO_nil G) ⟨rfl, rfl⟩ hl
abbrev cX9_depthOf : ByteArray := prog_11_method_15_code
def yX9_depthOf : MethodName := ⟨RX9, "depthOf", "(I)I"⟩
theorem dX9_depthOf_0 : decode cX9_depthOf 0 = .ok (.iconst 0, 1) := by decide +kernel
theorem dX9_depthOf_1 : decode cX9_depthOf 1 = .ok (.istore_n 2, 1) := by decide +kernel
theorem dX9_depthOf_2 : decode cX9_depthOf 2 = .ok (.iload_n 1, 1) := by decide +kernel
theorem dX9_depthOf_3 : decode cX9_depthOf 3 = .ok (.istore_n 3, 1) := by decide +kernel
theorem dX9_depthOf_4 : decode cX9_depthOf 4 = .ok (.iload_n 3, 1) := by decide +kernel
theorem dX9_depthOf_5 : decode cX9_depthOf 5 = .ok (.ifCond .le 16, 3) := by decide +kernel
theorem dX9_depthOf_8 : decode cX9_depthOf 8 = .ok (.iinc 2 1, 3) := by decide +kernel
theorem dX9_depthOf_11 : decode cX9_depthOf 11 = .ok (.aload_n 0, 1) := by decide +kernel
theorem dX9_depthOf_12 : decode cX9_depthOf 12 = .ok (.getfield 30, 3) := by decide +kernel
theorem dX9_depthOf_15 : decode cX9_depthOf 15 = .ok (.iload_n 3, 1) := by decide +kernel
theorem dX9_depthOf_16 : decode cX9_depthOf 16 = .ok (.iaload, 1) := by decide +kernel
theorem dX9_depthOf_17 : decode cX9_depthOf 17 = .ok (.istore_n 3, 1) := by decide +kernel
theorem dX9_depthOf_18 : decode cX9_depthOf 18 = .ok (.goto (-14), 3) := by decide +kernel
theorem dX9_depthOf_21 : decode cX9_depthOf 21 = .ok (.iload_n 2, 1) := by decide +kernel
theorem dX9_depthOf_22 : decode cX9_depthOf 22 = .ok (.ireturn, 1) := by decide +kernel
/-- WriteOnceDiscModel.depthOf(I)I -/
def wX9_depthOf_B4 (post : Int32 → Prop) (rc4 : Int32 → Int32 → Prop) (x0 : Nat) (x2 : Int32) (x3 : Int32) (σ : Hp) : Prop :=
((x3 ≤ 0 →
  post x2) ∧
 (¬ x3 ≤ 0 →
  (∀ y2 : Int32, y2 = x2 + 1 → (tg_ σ x0 = 9 ∧ (tg_ σ (fR_ σ 8 13 x0) = 102 ∧ (vp_in x3 (ln_ σ (fR_ σ 8 13 x0)) ∧ (∀ y6 : Int32, y6 = (aI_ σ (fR_ σ 8 13 x0) (x3).toNatClampNeg) → rc4 y2 y6)))))))
def wX9_depthOf_L4 (post : Int32 → Prop) (x0 : Nat) (x2 : Int32) (x3 : Int32) (σ : Hp) : Prop :=
 ∃ (I : Int32 → Int32 → Prop) (μ : Int32 → Int32 → Nat), I x2 x3 ∧ ∀ (x2 : Int32) (x3 : Int32), I x2 x3 → wX9_depthOf_B4 post (fun x2' x3' => I x2' x3' ∧ μ x2' x3' < μ x2 x3) x0 x2 x3 σ
def wX9_depthOf (x0 : Nat) (x1 : Int32) (σ : Hp) (post : Int32 → Prop) : Prop :=
wX9_depthOf_L4 post x0 (0 : Int32) x1 σ
set_option maxHeartbeats 4000000 in
theorem sX9_depthOf_B4 {G : GG_} {p : Program} {l : Launch} {e : Env} {R : Room} {s : State} {m : MethodId} {args : Array Value} {below : List Frame} {meth : Method} {c : Code} (Y : MX_ G p R s m args meth c cX9_depthOf 4 RX9 (some Jvm.ClassFile.FieldType.int) 1 20 0 0 "depthOf") {post : Int32 → Prop} {rc4 : Int32 → Int32 → Prop} {x0 : Nat} {x2 : Int32} {x3 : Int32} {σ : Hp} (hrc4 : ∀ (x2 : Int32) (x3 : Int32), rc4 x2 x3 → WG_ G p l e R s m args below meth c (MQ below (QI_ G (fun r τ => τ = σ ∧ post r)) args s 0 0 (FR_ G)) BN_ 4 4 [(0, rv_ x0), (2, .int x2), (3, .int x3)] [] σ) (hf : wX9_depthOf_B4 post rc4 x0 x2 x3 σ) : WG_ G p l e R s m args below meth c (MQ below (QI_ G (fun r τ => τ = σ ∧ post r)) args s 0 0 (FR_ G)) BN_ 4 4 [(0, rv_ x0), (2, .int x2), (3, .int x3)] [] σ := by
  have ⟨X, hlk, hr, hRf, hRl, hRc, hnm⟩ := Y
  have ⟨⟨hx, hb, _, hown, hts⟩, _, _⟩ := X
  intro H locs cells slots ls hP hL hB hl
  obtain ⟨rfl, rfl⟩ := hB
  unfold wX9_depthOf_B4 at hf
  refine lv_iload_n hx hb dX9_depthOf_4 rfl (lv_at hl 2 rfl) ?_
  refine lv_if_le (tgt := 21) hx hb dX9_depthOf_5 (by decide) (fun c1 => ?_) (fun c1 => ?_)
  · have hf := hf.1 c1
    refine lv_iload_n hx hb dX9_depthOf_21 rfl (lv_at hl 1 rfl) ?_
    exact p_iret X hlk hP hL (Nat.le_refl _) (Nat.le_refl _) hr dX9_depthOf_22 ⟨rfl, hf⟩
  · have hf := hf.2 c1
    have hl := lv_sub hl [1, 0, 2] rfl
    refine p_iincc (i := 2) (k := 1) hx hb (by decide) dX9_depthOf_8 hl (by decide) ⟨⟨ne_ rfl, Or.inl (ne_ rfl)⟩, ⟨⟨ne_ rfl, Or.inl (ne_ rfl)⟩, trivial⟩⟩ (fun y2 hy2 ls hl => ?_)
    have hf := hf y2 hy2
    refine p_aload_n hx hb dX9_depthOf_11 rfl (lv_at hl 1 rfl) ?_
    obtain ⟨ht3, hf⟩ := hf
    refine p_gR X cf8_ (k := 13) (by decide) rfl hP ht3 q1308 (fun _ h => h) dX9_depthOf_12 ?_
    refine lv_iload_n hx hb dX9_depthOf_15 rfl (lv_at hl 2 rfl) ?_
    obtain ⟨ht4, hf⟩ := hf
    obtain ⟨hi5, hf⟩ := hf
    refine p_iald X hP ht4 hi5 dX9_depthOf_16 ?_
    have hl := lv_sub hl [0, 1] rfl
    refine lv_topi (fun y6 hy6 => ?_)
    have hf := hf y6 hy6
    refine p_istore_n (i := 3) hx hb dX9_depthOf_17 rfl hl (by decide) ⟨⟨ne_ rfl, Or.inr rfl⟩, ⟨⟨ne_ rfl, Or.inl (ne_ rfl)⟩, trivial⟩⟩ (fun ls hl => ?_)
    refine lv_goto (tgt := 4) hx hb dX9_depthOf_18 (by decide) ?_
    exact hrc4 _ _ hf _ _ _ _ _ hP hL ⟨rfl, rfl⟩ (lv_sub hl [2, 1, 0] rfl)
set_option maxHeartbeats 4000000 in
theorem sX9_depthOf_L4 {G : GG_} {p : Program} {l : Launch} {e : Env} {R : Room} {s : State} {m : MethodId} {args : Array Value} {below : List Frame} {meth : Method} {c : Code} (Y : MX_ G p R s m args meth c cX9_depthOf 4 RX9 (some Jvm.ClassFile.FieldType.int) 1 20 0 0 "depthOf") {post : Int32 → Prop} {x0 : Nat} {x2 : Int32} {x3 : Int32} {σ : Hp} (hf : wX9_depthOf_L4 post x0 x2 x3 σ) : WG_ G p l e R s m args below meth c (MQ below (QI_ G (fun r τ => τ = σ ∧ post r)) args s 0 0 (FR_ G)) BN_ 4 4 [(0, rv_ x0), (2, .int x2), (3, .int x3)] [] σ := by
  unfold wX9_depthOf_L4 at hf
  obtain ⟨I, μ, h0, hI⟩ := hf
  have key : ∀ (n : Nat) (x2 : Int32) (x3 : Int32), I x2 x3 → μ x2 x3 < n → WG_ G p l e R s m args below meth c (MQ below (QI_ G (fun r τ => τ = σ ∧ post r)) args s 0 0 (FR_ G)) BN_ 4 4 [(0, rv_ x0), (2, .int x2), (3, .int x3)] [] σ := by
    intro n
    induction n with
    | zero => intro x2 x3 _ h; exact absurd h (Nat.not_lt_zero _)
    | succ n ih => intro x2 x3 hi hn; exact sX9_depthOf_B4 Y (fun x2' x3' h => ih x2' x3' h.1 (Nat.lt_of_lt_of_le h.2 (Nat.le_of_lt_succ hn))) (hI x2 x3 hi)
  exact key _ _ _ h0 (Nat.lt_succ_self _)
set_option maxHeartbeats 4000000 in
theorem sX9_depthOf {G : GG_} {p : Program} {l : Launch} {e : Env} {R : Room} {s : State} {m : MethodId} {args : Array Value} {below : List Frame} {meth : Method} {c : Code} (Y : MX_ G p R s m args meth c cX9_depthOf 4 RX9 (some Jvm.ClassFile.FieldType.int) 1 20 0 0 "depthOf") {post : Int32 → Prop} {x0 : Nat} {x1 : Int32} {σ : Hp} (hf : wX9_depthOf x0 x1 σ post) : WG_ G p l e R s m args below meth c (MQ below (QI_ G (fun r τ => τ = σ ∧ post r)) args s 0 0 (FR_ G)) BN_ 4 0 [(0, rv_ x0), (1, .int x1)] [] σ := by
  have ⟨X, hlk, hr, hRf, hRl, hRc, hnm⟩ := Y
  have ⟨⟨hx, hb, _, hown, hts⟩, _, _⟩ := X
  intro H locs cells slots ls hP hL hB hl
  obtain ⟨rfl, rfl⟩ := hB
  unfold wX9_depthOf at hf
  refine lv_iconst (v := 0) hx hb dX9_depthOf_0 (by decide) ?_
  refine p_istore_n (i := 2) hx hb dX9_depthOf_1 rfl hl (by decide) ⟨⟨ne_ rfl, Or.inl (ne_ rfl)⟩, ⟨⟨ne_ rfl, Or.inr rfl⟩, trivial⟩⟩ (fun ls hl => ?_)
  refine lv_iload_n hx hb dX9_depthOf_2 rfl (lv_at hl 2 rfl) ?_
  have hl := lv_sub hl [0, 1] rfl
  refine p_istore_n (i := 3) hx hb dX9_depthOf_3 rfl hl (by decide) ⟨⟨ne_ rfl, Or.inr rfl⟩, ⟨⟨ne_ rfl, Or.inl (ne_ rfl)⟩, trivial⟩⟩ (fun ls hl => ?_)
  exact sX9_depthOf_L4 Y hf _ _ _ _ _ hP hL ⟨rfl, rfl⟩ (lv_sub hl [2, 1, 0] rfl)
set_option maxHeartbeats 4000000 in
theorem metX9_depthOf (l : Launch) (G : GG_) (x0 : Nat) (x1 : Int32) (σ : Hp) (post : Int32 → Prop) (hG : GOK_ G) (hf : wX9_depthOf x0 x1 σ post) : Met l yX9_depthOf (ws_ yX9_depthOf cX9_depthOf 4 (some Jvm.ClassFile.FieldType.int)) { frames := 1, cells := 0, slots := 0, locals := 20 } (PC_ G [rv_ x0, .int x1] σ) (QI_ G (fun r τ => τ = σ ∧ post r)) 0 0 (FR_ G) := by
  refine Met.ofW (cc := cX9_depthOf) (maxL := 4) (ret := (some Jvm.ClassFile.FieldType.int)) (by decide) rfl ?_
  intro p e s m args below meth c s₁ B hml hv
  obtain ⟨rfl, hP, hW⟩ := hv
  have hts := atoms_spec (ws := ws_ yX9_depthOf cX9_depthOf 4 (some Jvm.ClassFile.FieldType.int)) B.pre
  have hts : ∀ w ∈ lw_all, w.before _ s = true := fun w h => hts w (List.mem_cons_of_mem _ h)
  rw [lg_entry_eq]
  have hl := en_entry [rv_ x0, .int x1] [1, 1] (n := 4) (ca_r (ca_i ca_n)) (by decide)
  exact sX9_depthOf ⟨⟨⟨B.exec, B.bytes, hml, findClass_of_methodNamed B.named, hts⟩, hW, hG⟩, B.notSynchronized, B.returns, Nat.le_refl _, Nat.le_refl _, ⟨rfl, rfl⟩, (name_of_methodNamed B.named B.method).1⟩ hf _ _ _ _ _ hP (LO_nil G) ⟨rfl, rfl⟩ hl
abbrev cX9_namedIn : ByteArray := prog_11_method_14_code
def yX9_namedIn : MethodName := ⟨RX9, "namedIn", "(IJ)I"⟩
theorem dX9_namedIn_0 : decode cX9_namedIn 0 = .ok (.iconst 1, 1) := by decide +kernel
theorem dX9_namedIn_1 : decode cX9_namedIn 1 = .ok (.istore 4, 2) := by decide +kernel
theorem dX9_namedIn_3 : decode cX9_namedIn 3 = .ok (.iload 4, 2) := by decide +kernel
theorem dX9_namedIn_5 : decode cX9_namedIn 5 = .ok (.aload_n 0, 1) := by decide +kernel
theorem dX9_namedIn_6 : decode cX9_namedIn 6 = .ok (.getfield 112, 3) := by decide +kernel
theorem dX9_namedIn_9 : decode cX9_namedIn 9 = .ok (.if_icmp .ge 45, 3) := by decide +kernel
theorem dX9_namedIn_12 : decode cX9_namedIn 12 = .ok (.aload_n 0, 1) := by decide +kernel
theorem dX9_namedIn_13 : decode cX9_namedIn 13 = .ok (.getfield 24, 3) := by decide +kernel
theorem dX9_namedIn_16 : decode cX9_namedIn 16 = .ok (.iload 4, 2) := by decide +kernel
theorem dX9_namedIn_18 : decode cX9_namedIn 18 = .ok (.baload, 1) := by decide +kernel
theorem dX9_namedIn_19 : decode cX9_namedIn 19 = .ok (.ifCond .eq 29, 3) := by decide +kernel
theorem dX9_namedIn_22 : decode cX9_namedIn 22 = .ok (.aload_n 0, 1) := by decide +kernel
theorem dX9_namedIn_23 : decode cX9_namedIn 23 = .ok (.getfield 30, 3) := by decide +kernel
theorem dX9_namedIn_26 : decode cX9_namedIn 26 = .ok (.iload 4, 2) := by decide +kernel
theorem dX9_namedIn_28 : decode cX9_namedIn 28 = .ok (.iaload, 1) := by decide +kernel
theorem dX9_namedIn_29 : decode cX9_namedIn 29 = .ok (.iload_n 1, 1) := by decide +kernel
theorem dX9_namedIn_30 : decode cX9_namedIn 30 = .ok (.if_icmp .ne 18, 3) := by decide +kernel
theorem dX9_namedIn_33 : decode cX9_namedIn 33 = .ok (.aload_n 0, 1) := by decide +kernel
theorem dX9_namedIn_34 : decode cX9_namedIn 34 = .ok (.getfield 34, 3) := by decide +kernel
theorem dX9_namedIn_37 : decode cX9_namedIn 37 = .ok (.iload 4, 2) := by decide +kernel
theorem dX9_namedIn_39 : decode cX9_namedIn 39 = .ok (.laload, 1) := by decide +kernel
theorem dX9_namedIn_40 : decode cX9_namedIn 40 = .ok (.lload_n 2, 1) := by decide +kernel
theorem dX9_namedIn_41 : decode cX9_namedIn 41 = .ok (.lcmp, 1) := by decide +kernel
theorem dX9_namedIn_42 : decode cX9_namedIn 42 = .ok (.ifCond .ne 6, 3) := by decide +kernel
theorem dX9_namedIn_45 : decode cX9_namedIn 45 = .ok (.iload 4, 2) := by decide +kernel
theorem dX9_namedIn_47 : decode cX9_namedIn 47 = .ok (.ireturn, 1) := by decide +kernel
theorem dX9_namedIn_48 : decode cX9_namedIn 48 = .ok (.iinc 4 1, 3) := by decide +kernel
theorem dX9_namedIn_51 : decode cX9_namedIn 51 = .ok (.goto (-48), 3) := by decide +kernel
theorem dX9_namedIn_54 : decode cX9_namedIn 54 = .ok (.iconst (-1), 1) := by decide +kernel
theorem dX9_namedIn_55 : decode cX9_namedIn 55 = .ok (.ireturn, 1) := by decide +kernel
/-- WriteOnceDiscModel.namedIn(IJ)I -/
def wX9_namedIn_L48 (post : Int32 → Prop) (rc3 : Int32 → Prop) (x0 : Nat) (x1 : Int32) (x2 : Int64) (x4 : Int32) (σ : Hp) : Prop :=
(∀ y1 : Int32, y1 = x4 + 1 → rc3 y1)
def wX9_namedIn_B3 (post : Int32 → Prop) (rc3 : Int32 → Prop) (x0 : Nat) (x1 : Int32) (x2 : Int64) (x4 : Int32) (σ : Hp) : Prop :=
(tg_ σ x0 = 9 ∧ (((fI_ σ 8 10 x0) ≤ x4 →
  post (-1 : Int32)) ∧
 (¬ (fI_ σ 8 10 x0) ≤ x4 →
  (tg_ σ (fR_ σ 8 11 x0) = 101 ∧ (vp_in x4 (ln_ σ (fR_ σ 8 11 x0)) ∧ (((aI_ σ (fR_ σ 8 11 x0) (x4).toNatClampNeg) = 0 →
   wX9_namedIn_L48 post rc3 x0 x1 x2 x4 σ) ∧
  (¬ (aI_ σ (fR_ σ 8 11 x0) (x4).toNatClampNeg) = 0 →
   (tg_ σ (fR_ σ 8 13 x0) = 102 ∧ (vp_in x4 (ln_ σ (fR_ σ 8 13 x0)) ∧ ((¬ (aI_ σ (fR_ σ 8 13 x0) (x4).toNatClampNeg) = x1 →
    wX9_namedIn_L48 post rc3 x0 x1 x2 x4 σ) ∧
   ((aI_ σ (fR_ σ 8 13 x0) (x4).toNatClampNeg) = x1 →
    (tg_ σ (fR_ σ 8 14 x0) = 103 ∧ (vp_in x4 (ln_ σ (fR_ σ 8 14 x0)) ∧ ((¬ (lg_cmp (aL_ σ (fR_ σ 8 14 x0) (x4).toNatClampNeg) x2) = 0 →
     wX9_namedIn_L48 post rc3 x0 x1 x2 x4 σ) ∧
    ((lg_cmp (aL_ σ (fR_ σ 8 14 x0) (x4).toNatClampNeg) x2) = 0 →
     post x4)))))))))))))))
def wX9_namedIn_L3 (post : Int32 → Prop) (x0 : Nat) (x1 : Int32) (x2 : Int64) (x4 : Int32) (σ : Hp) : Prop :=
 ∃ (I : Int32 → Prop) (μ : Int32 → Nat), I x4 ∧ ∀ (x4 : Int32), I x4 → wX9_namedIn_B3 post (fun x4' => I x4' ∧ μ x4' < μ x4) x0 x1 x2 x4 σ
def wX9_namedIn (x0 : Nat) (x1 : Int32) (x2 : Int64) (σ : Hp) (post : Int32 → Prop) : Prop :=
wX9_namedIn_L3 post x0 x1 x2 (1 : Int32) σ
set_option maxHeartbeats 4000000 in
theorem sX9_namedIn_L48 {G : GG_} {p : Program} {l : Launch} {e : Env} {R : Room} {s : State} {m : MethodId} {args : Array Value} {below : List Frame} {meth : Method} {c : Code} (Y : MX_ G p R s m args meth c cX9_namedIn 5 RX9 (some Jvm.ClassFile.FieldType.int) 1 20 0 0 "namedIn") {post : Int32 → Prop} {rc3 : Int32 → Prop} {x0 : Nat} {x1 : Int32} {x2 : Int64} {x4 : Int32} {σ : Hp} (hrc3 : ∀ (x4 : Int32), rc3 x4 → WG_ G p l e R s m args below meth c (MQ below (QI_ G (fun r τ => τ = σ ∧ post r)) args s 0 0 (FR_ G)) BN_ 5 3 [(0, rv_ x0), (1, .int x1), (2, .long x2), (4, .int x4)] [] σ) (hf : wX9_namedIn_L48 post rc3 x0 x1 x2 x4 σ) : WG_ G p l e R s m args below meth c (MQ below (QI_ G (fun r τ => τ = σ ∧ post r)) args s 0 0 (FR_ G)) BN_ 5 48 [(0, rv_ x0), (1, .int x1), (2, .long x2), (4, .int x4)] [] σ := by
  have ⟨X, hlk, hr, hRf, hRl, hRc, hnm⟩ := Y
  have ⟨⟨hx, hb, _, hown, hts⟩, _, _⟩ := X
  intro H locs cells slots ls hP hL hB hl
  obtain ⟨rfl, rfl⟩ := hB
  unfold wX9_namedIn_L48 at hf
  have hl := lv_sub hl [3, 0, 1, 2] rfl
  refine p_iincc (i := 4) (k := 1) hx hb (by decide) dX9_namedIn_48 hl (by decide) ⟨⟨ne_ rfl, Or.inl (ne_ rfl)⟩, ⟨⟨ne_ rfl, Or.inl (ne_ rfl)⟩, ⟨⟨ne_ rfl, Or.inl (ne_ rfl)⟩, trivial⟩⟩⟩ (fun y1 hy1 ls hl => ?_)
  have hf := hf y1 hy1
  refine lv_goto (tgt := 3) hx hb dX9_namedIn_51 (by decide) ?_
  exact hrc3 _ hf _ _ _ _ _ hP hL ⟨rfl, rfl⟩ (lv_sub hl [1, 2, 3, 0] rfl)
set_option maxHeartbeats 4000000 in
theorem sX9_namedIn_B3 {G : GG_} {p : Program} {l : Launch} {e : Env} {R : Room} {s : State} {m : MethodId} {args : Array Value} {below : List Frame} {meth : Method} {c : Code} (Y : MX_ G p R s m args meth c cX9_namedIn 5 RX9 (some Jvm.ClassFile.FieldType.int) 1 20 0 0 "namedIn") {post : Int32 → Prop} {rc3 : Int32 → Prop} {x0 : Nat} {x1 : Int32} {x2 : Int64} {x4 : Int32} {σ : Hp} (hrc3 : ∀ (x4 : Int32), rc3 x4 → WG_ G p l e R s m args below meth c (MQ below (QI_ G (fun r τ => τ = σ ∧ post r)) args s 0 0 (FR_ G)) BN_ 5 3 [(0, rv_ x0), (1, .int x1), (2, .long x2), (4, .int x4)] [] σ) (hf : wX9_namedIn_B3 post rc3 x0 x1 x2 x4 σ) : WG_ G p l e R s m args below meth c (MQ below (QI_ G (fun r τ => τ = σ ∧ post r)) args s 0 0 (FR_ G)) BN_ 5 3 [(0, rv_ x0), (1, .int x1), (2, .long x2), (4, .int x4)] [] σ := by
  have ⟨X, hlk, hr, hRf, hRl, hRc, hnm⟩ := Y
  have ⟨⟨hx, hb, _, hown, hts⟩, _, _⟩ := X
  intro H locs cells slots ls hP hL hB hl
  obtain ⟨rfl, rfl⟩ := hB
  unfold wX9_namedIn_B3 at hf
  refine lv_iload hx hb dX9_namedIn_3 (lv_at hl 3 rfl) ?_
  refine p_aload_n hx hb dX9_namedIn_5 rfl (lv_at hl 0 rfl) ?_
  obtain ⟨ht2, hf⟩ := hf
  refine p_gI X cf8_ (k := 10) (by decide) rfl hP ht2 q1305 (fun _ h => h) dX9_namedIn_6 ?_
  refine lv_icmp_ge (tgt := 54) hx hb dX9_namedIn_9 (by decide) (fun c3 => ?_) (fun c3 => ?_)
  · have hf := hf.1 c3
    refine lv_iconst (v := (-1)) hx hb dX9_namedIn_54 (by decide) ?_
    exact p_iret X hlk hP hL (Nat.le_refl _) (Nat.le_refl _) hr dX9_namedIn_55 ⟨rfl, hf⟩
  · have hf := hf.2 c3
    refine p_aload_n hx hb dX9_namedIn_12 rfl (lv_at hl 0 rfl) ?_
    refine p_gR X cf8_ (k := 11) (by decide) rfl hP ht2 q1306 (fun _ h => h) dX9_namedIn_13 ?_
    refine lv_iload hx hb dX9_namedIn_16 (lv_at hl 3 rfl) ?_
    obtain ⟨ht4, hf⟩ := hf
    obtain ⟨hi5, hf⟩ := hf
    refine p_zald X hP ht4 hi5 dX9_namedIn_18 ?_
    refine lv_if_eq (tgt := 48) hx hb dX9_namedIn_19 (by decide) (fun c6 => ?_) (fun c6 => ?_)
    · have hf := hf.1 c6
      exact sX9_namedIn_L48 Y hrc3 hf _ _ _ _ _ hP hL ⟨rfl, rfl⟩ (lv_sub hl [0, 1, 2, 3] rfl)
    · have hf := hf.2 c6
      refine p_aload_n hx hb dX9_namedIn_22 rfl (lv_at hl 0 rfl) ?_
      refine p_gR X cf8_ (k := 13) (by decide) rfl hP ht2 q1308 (fun _ h => h) dX9_namedIn_23 ?_
      refine lv_iload hx hb dX9_namedIn_26 (lv_at hl 3 rfl) ?_
      obtain ⟨ht7, hf⟩ := hf
      obtain ⟨hi8, hf⟩ := hf
      refine p_iald X hP ht7 hi8 dX9_namedIn_28 ?_
      refine lv_iload_n hx hb dX9_namedIn_29 rfl (lv_at hl 1 rfl) ?_
      refine lv_icmp_ne (tgt := 48) hx hb dX9_namedIn_30 (by decide) (fun c9 => ?_) (fun c9 => ?_)
      · have hf := hf.1 c9
        exact sX9_namedIn_L48 Y hrc3 hf _ _ _ _ _ hP hL ⟨rfl, rfl⟩ (lv_sub hl [0, 1, 2, 3] rfl)
      · have hf := hf.2 c9
        refine p_aload_n hx hb dX9_namedIn_33 rfl (lv_at hl 0 rfl) ?_
        refine p_gR X cf8_ (k := 14) (by decide) rfl hP ht2 q1309 (fun _ h => h) dX9_namedIn_34 ?_
        refine lv_iload hx hb dX9_namedIn_37 (lv_at hl 3 rfl) ?_
        obtain ⟨ht10, hf⟩ := hf
        obtain ⟨hi11, hf⟩ := hf
        refine p_lald X hP ht10 hi11 dX9_namedIn_39 ?_
        refine lv_lload_n hx hb dX9_namedIn_40 rfl (lv_at hl 2 rfl) ?_
        refine W.lcmp hx hb dX9_namedIn_41 ?_
        refine lv_if_ne (tgt := 48) hx hb dX9_namedIn_42 (by decide) (fun c12 => ?_) (fun c12 => ?_)
        · have hf := hf.1 c12
          exact sX9_namedIn_L48 Y hrc3 hf _ _ _ _ _ hP hL ⟨rfl, rfl⟩ (lv_sub hl [0, 1, 2, 3] rfl)
        · have hf := hf.2 c12
          refine lv_iload hx hb dX9_namedIn_45 (lv_at hl 3 rfl) ?_
          exact p_iret X hlk hP hL (Nat.le_refl _) (Nat.le_refl _) hr dX9_namedIn_47 ⟨rfl, hf⟩
set_option maxHeartbeats 4000000 in
theorem sX9_namedIn_L3 {G : GG_} {p : Program} {l : Launch} {e : Env} {R : Room} {s : State} {m : MethodId} {args : Array Value} {below : List Frame} {meth : Method} {c : Code} (Y : MX_ G p R s m args meth c cX9_namedIn 5 RX9 (some Jvm.ClassFile.FieldType.int) 1 20 0 0 "namedIn") {post : Int32 → Prop} {x0 : Nat} {x1 : Int32} {x2 : Int64} {x4 : Int32} {σ : Hp} (hf : wX9_namedIn_L3 post x0 x1 x2 x4 σ) : WG_ G p l e R s m args below meth c (MQ below (QI_ G (fun r τ => τ = σ ∧ post r)) args s 0 0 (FR_ G)) BN_ 5 3 [(0, rv_ x0), (1, .int x1), (2, .long x2), (4, .int x4)] [] σ := by
  unfold wX9_namedIn_L3 at hf
  obtain ⟨I, μ, h0, hI⟩ := hf
  have key : ∀ (n : Nat) (x4 : Int32), I x4 → μ x4 < n → WG_ G p l e R s m args below meth c (MQ below (QI_ G (fun r τ => τ = σ ∧ post r)) args s 0 0 (FR_ G)) BN_ 5 3 [(0, rv_ x0), (1, .int x1), (2, .long x2), (4, .int x4)] [] σ := by
    intro n
    induction n with
    | zero => intro x4 _ h; exact absurd h (Nat.not_lt_zero _)
    | succ n ih => intro x4 hi hn; exact sX9_namedIn_B3 Y (fun x4' h => ih x4' h.1 (Nat.lt_of_lt_of_le h.2 (Nat.le_of_lt_succ hn))) (hI x4 hi)
  exact key _ _ h0 (Nat.lt_succ_self _)
set_option maxHeartbeats 4000000 in
theorem sX9_namedIn {G : GG_} {p : Program} {l : Launch} {e : Env} {R : Room} {s : State} {m : MethodId} {args : Array Value} {below : List Frame} {meth : Method} {c : Code} (Y : MX_ G p R s m args meth c cX9_namedIn 5 RX9 (some Jvm.ClassFile.FieldType.int) 1 20 0 0 "namedIn") {post : Int32 → Prop} {x0 : Nat} {x1 : Int32} {x2 : Int64} {σ : Hp} (hf : wX9_namedIn x0 x1 x2 σ post) : WG_ G p l e R s m args below meth c (MQ below (QI_ G (fun r τ => τ = σ ∧ post r)) args s 0 0 (FR_ G)) BN_ 5 0 [(0, rv_ x0), (1, .int x1), (2, .long x2)] [] σ := by
  have ⟨X, hlk, hr, hRf, hRl, hRc, hnm⟩ := Y
  have ⟨⟨hx, hb, _, hown, hts⟩, _, _⟩ := X
  intro H locs cells slots ls hP hL hB hl
  obtain ⟨rfl, rfl⟩ := hB
  unfold wX9_namedIn at hf
  refine lv_iconst (v := 1) hx hb dX9_namedIn_0 (by decide) ?_
  refine p_istore (i := 4) hx hb dX9_namedIn_1 hl (by decide) ⟨⟨ne_ rfl, Or.inl (ne_ rfl)⟩, ⟨⟨ne_ rfl, Or.inl (ne_ rfl)⟩, ⟨⟨ne_ rfl, Or.inl (ne_ rfl)⟩, trivial⟩⟩⟩ (fun ls hl => ?_)
  exact sX9_namedIn_L3 Y hf _ _ _ _ _ hP hL ⟨rfl, rfl⟩ (lv_sub hl [1, 2, 3, 0] rfl)
set_option maxHeartbeats 4000000 in
theorem metX9_namedIn (l : Launch) (G : GG_) (x0 : Nat) (x1 : Int32) (x2 : Int64) (σ : Hp) (post : Int32 → Prop) (hG : GOK_ G) (hf : wX9_namedIn x0 x1 x2 σ post) : Met l yX9_namedIn (ws_ yX9_namedIn cX9_namedIn 5 (some Jvm.ClassFile.FieldType.int)) { frames := 1, cells := 0, slots := 0, locals := 20 } (PC_ G [rv_ x0, .int x1, .long x2] σ) (QI_ G (fun r τ => τ = σ ∧ post r)) 0 0 (FR_ G) := by
  refine Met.ofW (cc := cX9_namedIn) (maxL := 5) (ret := (some Jvm.ClassFile.FieldType.int)) (by decide) rfl ?_
  intro p e s m args below meth c s₁ B hml hv
  obtain ⟨rfl, hP, hW⟩ := hv
  have hts := atoms_spec (ws := ws_ yX9_namedIn cX9_namedIn 5 (some Jvm.ClassFile.FieldType.int)) B.pre
  have hts : ∀ w ∈ lw_all, w.before _ s = true := fun w h => hts w (List.mem_cons_of_mem _ h)
  rw [lg_entry_eq]
  have hl := en_entry [rv_ x0, .int x1, .long x2] [1, 1, 2] (n := 5) (ca_r (ca_i (ca_l ca_n))) (by decide)
  exact sX9_namedIn ⟨⟨⟨B.exec, B.bytes, hml, findClass_of_methodNamed B.named, hts⟩, hW, hG⟩, B.notSynchronized, B.returns, Nat.le_refl _, Nat.le_refl _, ⟨rfl, rfl⟩, (name_of_methodNamed B.named B.method).1⟩ hf _ _ _ _ _ hP (LO_nil G) ⟨rfl, rfl⟩ hl
abbrev cX9_alive : ByteArray := prog_11_method_16_code
def yX9_alive : MethodName := ⟨RX9, "alive", "()I"⟩
theorem dX9_alive_0 : decode cX9_alive 0 = .ok (.iconst 0, 1) := by decide +kernel
theorem dX9_alive_1 : decode cX9_alive 1 = .ok (.istore_n 1, 1) := by decide +kernel
theorem dX9_alive_2 : decode cX9_alive 2 = .ok (.iconst 0, 1) := by decide +kernel
theorem dX9_alive_3 : decode cX9_alive 3 = .ok (.istore_n 2, 1) := by decide +kernel
theorem dX9_alive_4 : decode cX9_alive 4 = .ok (.iload_n 2, 1) := by decide +kernel
theorem dX9_alive_5 : decode cX9_alive 5 = .ok (.aload_n 0, 1) := by decide +kernel
theorem dX9_alive_6 : decode cX9_alive 6 = .ok (.getfield 112, 3) := by decide +kernel
theorem dX9_alive_9 : decode cX9_alive 9 = .ok (.if_icmp .ge 26, 3) := by decide +kernel
theorem dX9_alive_12 : decode cX9_alive 12 = .ok (.iload_n 1, 1) := by decide +kernel
theorem dX9_alive_13 : decode cX9_alive 13 = .ok (.aload_n 0, 1) := by decide +kernel
theorem dX9_alive_14 : decode cX9_alive 14 = .ok (.getfield 24, 3) := by decide +kernel
theorem dX9_alive_17 : decode cX9_alive 17 = .ok (.iload_n 2, 1) := by decide +kernel
theorem dX9_alive_18 : decode cX9_alive 18 = .ok (.baload, 1) := by decide +kernel
theorem dX9_alive_19 : decode cX9_alive 19 = .ok (.ifCond .eq 7, 3) := by decide +kernel
theorem dX9_alive_22 : decode cX9_alive 22 = .ok (.iconst 1, 1) := by decide +kernel
theorem dX9_alive_23 : decode cX9_alive 23 = .ok (.goto 4, 3) := by decide +kernel
theorem dX9_alive_26 : decode cX9_alive 26 = .ok (.iconst 0, 1) := by decide +kernel
theorem dX9_alive_27 : decode cX9_alive 27 = .ok (.iadd, 1) := by decide +kernel
theorem dX9_alive_28 : decode cX9_alive 28 = .ok (.istore_n 1, 1) := by decide +kernel
theorem dX9_alive_29 : decode cX9_alive 29 = .ok (.iinc 2 1, 3) := by decide +kernel
theorem dX9_alive_32 : decode cX9_alive 32 = .ok (.goto (-28), 3) := by decide +kernel
theorem dX9_alive_35 : decode cX9_alive 35 = .ok (.iload_n 1, 1) := by decide +kernel
theorem dX9_alive_36 : decode cX9_alive 36 = .ok (.ireturn, 1) := by decide +kernel
/-- WriteOnceDiscModel.alive()I -/
def wX9_alive_L27 (post : Int32 → Prop) (rc4 : Int32 → Int32 → Prop) (x0 : Nat) (x2 : Int32) (s0 : Int32) (s1 : Int32) (σ : Hp) : Prop :=
(∀ y1 : Int32, y1 = (s1 + s0) → (∀ y2 : Int32, y2 = x2 + 1 → rc4 y1 y2))
def wX9_alive_B4 (post : Int32 → Prop) (rc4 : Int32 → Int32 → Prop) (x0 : Nat) (x1 : Int32) (x2 : Int32) (σ : Hp) : Prop :=
(tg_ σ x0 = 9 ∧ (((fI_ σ 8 10 x0) ≤ x2 →
  post x1) ∧
 (¬ (fI_ σ 8 10 x0) ≤ x2 →
  (tg_ σ (fR_ σ 8 11 x0) = 101 ∧ (vp_in x2 (ln_ σ (fR_ σ 8 11 x0)) ∧ (((aI_ σ (fR_ σ 8 11 x0) (x2).toNatClampNeg) = 0 →
   wX9_alive_L27 post rc4 x0 x2 (0 : Int32) x1 σ) ∧
  (¬ (aI_ σ (fR_ σ 8 11 x0) (x2).toNatClampNeg) = 0 →
   wX9_alive_L27 post rc4 x0 x2 (1 : Int32) x1 σ)))))))
def wX9_alive_L4 (post : Int32 → Prop) (x0 : Nat) (x1 : Int32) (x2 : Int32) (σ : Hp) : Prop :=
 ∃ (I : Int32 → Int32 → Prop) (μ : Int32 → Int32 → Nat), I x1 x2 ∧ ∀ (x1 : Int32) (x2 : Int32), I x1 x2 → wX9_alive_B4 post (fun x1' x2' => I x1' x2' ∧ μ x1' x2' < μ x1 x2) x0 x1 x2 σ
def wX9_alive (x0 : Nat) (σ : Hp) (post : Int32 → Prop) : Prop :=
wX9_alive_L4 post x0 (0 : Int32) (0 : Int32) σ
set_option maxHeartbeats 4000000 in
theorem sX9_alive_L27 {G : GG_} {p : Program} {l : Launch} {e : Env} {R : Room} {s : State} {m : MethodId} {args : Array Value} {below : List Frame} {meth : Method} {c : Code} (Y : MX_ G p R s m args meth c cX9_alive 3 RX9 (some Jvm.ClassFile.FieldType.int) 1 20 0 0 "alive") {post : Int32 → Prop} {rc4 : Int32 → Int32 → Prop} {x0 : Nat} {x2 : Int32} {s0 : Int32} {s1 : Int32} {σ : Hp} (hrc4 : ∀ (x1 : Int32) (x2 : Int32), rc4 x1 x2 → WG_ G p l e R s m args below meth c (MQ below (QI_ G (fun r τ => τ = σ ∧ post r)) args s 0 0 (FR_ G)) BN_ 3 4 [(0, rv_ x0), (1, .int x1), (2, .int x2)] [] σ) (hf : wX9_alive_L27 post rc4 x0 x2 s0 s1 σ) : WG_ G p l e R s m args below meth c (MQ below (QI_ G (fun r τ => τ = σ ∧ post r)) args s 0 0 (FR_ G)) BN_ 3 27 [(0, rv_ x0), (2, .int x2)] [.int s0, .int s1] σ := by
  have ⟨X, hlk, hr, hRf, hRl, hRc, hnm⟩ := Y
  have ⟨⟨hx, hb, _, hown, hts⟩, _, _⟩ := X
  intro H locs cells slots ls hP hL hB hl
  obtain ⟨rfl, rfl⟩ := hB
  unfold wX9_alive_L27 at hf
  refine lv_iadd hx hb dX9_alive_27 ?_
  refine lv_topi (fun y1 hy1 => ?_)
  have hf := hf y1 hy1
  refine p_istore_n (i := 1) hx hb dX9_alive_28 rfl hl (by decide) ⟨⟨ne_ rfl, Or.inr (rv_cat _)⟩, ⟨⟨ne_ rfl, Or.inl (ne_ rfl)⟩, trivial⟩⟩ (fun ls hl => ?_)
  have hl := lv_sub hl [2, 0, 1] rfl
  refine p_iincc (i := 2) (k := 1) hx hb (by decide) dX9_alive_29 hl (by decide) ⟨⟨ne_ rfl, Or.inr rfl⟩, ⟨⟨ne_ rfl, Or.inl (ne_ rfl)⟩, trivial⟩⟩ (fun y2 hy2 ls hl => ?_)
  have hf := hf y2 hy2
  refine lv_goto (tgt := 4) hx hb dX9_alive_32 (by decide) ?_
  exact hrc4 _ _ hf _ _ _ _ _ hP hL ⟨rfl, rfl⟩ (lv_sub hl [2, 1, 0] rfl)
set_option maxHeartbeats 4000000 in
theorem sX9_alive_B4 {G : GG_} {p : Program} {l : Launch} {e : Env} {R : Room} {s : State} {m : MethodId} {args : Array Value} {below : List Frame} {meth : Method} {c : Code} (Y : MX_ G p R s m args meth c cX9_alive 3 RX9 (some Jvm.ClassFile.FieldType.int) 1 20 0 0 "alive") {post : Int32 → Prop} {rc4 : Int32 → Int32 → Prop} {x0 : Nat} {x1 : Int32} {x2 : Int32} {σ : Hp} (hrc4 : ∀ (x1 : Int32) (x2 : Int32), rc4 x1 x2 → WG_ G p l e R s m args below meth c (MQ below (QI_ G (fun r τ => τ = σ ∧ post r)) args s 0 0 (FR_ G)) BN_ 3 4 [(0, rv_ x0), (1, .int x1), (2, .int x2)] [] σ) (hf : wX9_alive_B4 post rc4 x0 x1 x2 σ) : WG_ G p l e R s m args below meth c (MQ below (QI_ G (fun r τ => τ = σ ∧ post r)) args s 0 0 (FR_ G)) BN_ 3 4 [(0, rv_ x0), (1, .int x1), (2, .int x2)] [] σ := by
  have ⟨X, hlk, hr, hRf, hRl, hRc, hnm⟩ := Y
  have ⟨⟨hx, hb, _, hown, hts⟩, _, _⟩ := X
  intro H locs cells slots ls hP hL hB hl
  obtain ⟨rfl, rfl⟩ := hB
  unfold wX9_alive_B4 at hf
  refine lv_iload_n hx hb dX9_alive_4 rfl (lv_at hl 2 rfl) ?_
  refine p_aload_n hx hb dX9_alive_5 rfl (lv_at hl 0 rfl) ?_
  obtain ⟨ht3, hf⟩ := hf
  refine p_gI X cf8_ (k := 10) (by decide) rfl hP ht3 q1305 (fun _ h => h) dX9_alive_6 ?_
  refine lv_icmp_ge (tgt := 35) hx hb dX9_alive_9 (by decide) (fun c4 => ?_) (fun c4 => ?_)
  · have hf := hf.1 c4
    refine lv_iload_n hx hb dX9_alive_35 rfl (lv_at hl 1 rfl) ?_
    exact p_iret X hlk hP hL (Nat.le_refl _) (Nat.le_refl _) hr dX9_alive_36 ⟨rfl, hf⟩
  · have hf := hf.2 c4
    refine lv_iload_n hx hb dX9_alive_12 rfl (lv_at hl 1 rfl) ?_
    refine p_aload_n hx hb dX9_alive_13 rfl (lv_at hl 0 rfl) ?_
    refine p_gR X cf8_ (k := 11) (by decide) rfl hP ht3 q1306 (fun _ h => h) dX9_alive_14 ?_
    refine lv_iload_n hx hb dX9_alive_17 rfl (lv_at hl 2 rfl) ?_
    obtain ⟨ht5, hf⟩ := hf
    obtain ⟨hi6, hf⟩ := hf
    refine p_zald X hP ht5 hi6 dX9_alive_18 ?_
    refine lv_if_eq (tgt := 26) hx hb dX9_alive_19 (by decide) (fun c7 => ?_) (fun c7 => ?_)
    · have hf := hf.1 c7
      refine lv_iconst (v := 0) hx hb dX9_alive_26 (by decide) ?_
      exact sX9_alive_L27 Y hrc4 hf _ _ _ _ _ hP hL ⟨rfl, rfl⟩ (lv_sub hl [0, 2] rfl)
    · have hf := hf.2 c7
      refine lv_iconst (v := 1) hx hb dX9_alive_22 (by decide) ?_
      refine lv_goto (tgt := 27) hx hb dX9_alive_23 (by decide) ?_
      exact sX9_alive_L27 Y hrc4 hf _ _ _ _ _ hP hL ⟨rfl, rfl⟩ (lv_sub hl [0, 2] rfl)
set_option maxHeartbeats 4000000 in
theorem sX9_alive_L4 {G : GG_} {p : Program} {l : Launch} {e : Env} {R : Room} {s : State} {m : MethodId} {args : Array Value} {below : List Frame} {meth : Method} {c : Code} (Y : MX_ G p R s m args meth c cX9_alive 3 RX9 (some Jvm.ClassFile.FieldType.int) 1 20 0 0 "alive") {post : Int32 → Prop} {x0 : Nat} {x1 : Int32} {x2 : Int32} {σ : Hp} (hf : wX9_alive_L4 post x0 x1 x2 σ) : WG_ G p l e R s m args below meth c (MQ below (QI_ G (fun r τ => τ = σ ∧ post r)) args s 0 0 (FR_ G)) BN_ 3 4 [(0, rv_ x0), (1, .int x1), (2, .int x2)] [] σ := by
  unfold wX9_alive_L4 at hf
  obtain ⟨I, μ, h0, hI⟩ := hf
  have key : ∀ (n : Nat) (x1 : Int32) (x2 : Int32), I x1 x2 → μ x1 x2 < n → WG_ G p l e R s m args below meth c (MQ below (QI_ G (fun r τ => τ = σ ∧ post r)) args s 0 0 (FR_ G)) BN_ 3 4 [(0, rv_ x0), (1, .int x1), (2, .int x2)] [] σ := by
    intro n
    induction n with
    | zero => intro x1 x2 _ h; exact absurd h (Nat.not_lt_zero _)
    | succ n ih => intro x1 x2 hi hn; exact sX9_alive_B4 Y (fun x1' x2' h => ih x1' x2' h.1 (Nat.lt_of_lt_of_le h.2 (Nat.le_of_lt_succ hn))) (hI x1 x2 hi)
  exact key _ _ _ h0 (Nat.lt_succ_self _)
set_option maxHeartbeats 4000000 in
theorem sX9_alive {G : GG_} {p : Program} {l : Launch} {e : Env} {R : Room} {s : State} {m : MethodId} {args : Array Value} {below : List Frame} {meth : Method} {c : Code} (Y : MX_ G p R s m args meth c cX9_alive 3 RX9 (some Jvm.ClassFile.FieldType.int) 1 20 0 0 "alive") {post : Int32 → Prop} {x0 : Nat} {σ : Hp} (hf : wX9_alive x0 σ post) : WG_ G p l e R s m args below meth c (MQ below (QI_ G (fun r τ => τ = σ ∧ post r)) args s 0 0 (FR_ G)) BN_ 3 0 [(0, rv_ x0)] [] σ := by
  have ⟨X, hlk, hr, hRf, hRl, hRc, hnm⟩ := Y
  have ⟨⟨hx, hb, _, hown, hts⟩, _, _⟩ := X
  intro H locs cells slots ls hP hL hB hl
  obtain ⟨rfl, rfl⟩ := hB
  unfold wX9_alive at hf
  refine lv_iconst (v := 0) hx hb dX9_alive_0 (by decide) ?_
  refine p_istore_n (i := 1) hx hb dX9_alive_1 rfl hl (by decide) ⟨⟨ne_ rfl, Or.inr (rv_cat _)⟩, trivial⟩ (fun ls hl => ?_)
  refine lv_iconst (v := 0) hx hb dX9_alive_2 (by decide) ?_
  refine p_istore_n (i := 2) hx hb dX9_alive_3 rfl hl (by decide) ⟨⟨ne_ rfl, Or.inr rfl⟩, ⟨⟨ne_ rfl, Or.inl (ne_ rfl)⟩, trivial⟩⟩ (fun ls hl => ?_)
  exact sX9_alive_L4 Y hf _ _ _ _ _ hP hL ⟨rfl, rfl⟩ (lv_sub hl [2, 1, 0] rfl)
set_option maxHeartbeats 4000000 in
theorem metX9_alive (l : Launch) (G : GG_) (x0 : Nat) (σ : Hp) (post : Int32 → Prop) (hG : GOK_ G) (hf : wX9_alive x0 σ post) : Met l yX9_alive (ws_ yX9_alive cX9_alive 3 (some Jvm.ClassFile.FieldType.int)) { frames := 1, cells := 0, slots := 0, locals := 20 } (PC_ G [rv_ x0] σ) (QI_ G (fun r τ => τ = σ ∧ post r)) 0 0 (FR_ G) := by
  refine Met.ofW (cc := cX9_alive) (maxL := 3) (ret := (some Jvm.ClassFile.FieldType.int)) (by decide) rfl ?_
  intro p e s m args below meth c s₁ B hml hv
  obtain ⟨rfl, hP, hW⟩ := hv
  have hts := atoms_spec (ws := ws_ yX9_alive cX9_alive 3 (some Jvm.ClassFile.FieldType.int)) B.pre
  have hts : ∀ w ∈ lw_all, w.before _ s = true := fun w h => hts w (List.mem_cons_of_mem _ h)
  rw [lg_entry_eq]
  have hl := en_entry [rv_ x0] [1] (n := 3) (ca_r ca_n) (by decide)
  exact sX9_alive ⟨⟨⟨B.exec, B.bytes, hml, findClass_of_methodNamed B.named, hts⟩, hW, hG⟩, B.notSynchronized, B.returns, Nat.le_refl _, Nat.le_refl _, ⟨rfl, rfl⟩, (name_of_methodNamed B.named B.method).1⟩ hf _ _ _ _ _ hP (LO_nil G) ⟨rfl, rfl⟩ hl
