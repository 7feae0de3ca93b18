set_option maxRecDepth 100000
abbrev cX2_lasts : ByteArray := prog_7_method_2_code
def yX2_lasts : MethodName := ⟨RX2, "lasts", "()Z"⟩
theorem dX2_lasts_0 : decode cX2_lasts 0 = .ok (.aload_n 0, 1) := by decide +kernel
theorem dX2_lasts_1 : decode cX2_lasts 1 = .ok (.dup, 1) := by decide +kernel
theorem dX2_lasts_2 : decode cX2_lasts 2 = .ok (.getfield 15, 3) := by decide +kernel
theorem dX2_lasts_5 : decode cX2_lasts 5 = .ok (.iconst 1, 1) := by decide +kernel
theorem dX2_lasts_6 : decode cX2_lasts 6 = .ok (.iadd, 1) := by decide +kernel
theorem dX2_lasts_7 : decode cX2_lasts 7 = .ok (.putfield 15, 3) := by decide +kernel
theorem dX2_lasts_10 : decode cX2_lasts 10 = .ok (.aload_n 0, 1) := by decide +kernel
theorem dX2_lasts_11 : decode cX2_lasts 11 = .ok (.getfield 9, 3) := by decide +kernel
theorem dX2_lasts_14 : decode cX2_lasts 14 = .ok (.ifCond .ne 8, 3) := by decide +kernel
theorem dX2_lasts_17 : decode cX2_lasts 17 = .ok (.aload_n 0, 1) := by decide +kernel
theorem dX2_lasts_18 : decode cX2_lasts 18 = .ok (.iconst 1, 1) := by decide +kernel
theorem dX2_lasts_19 : decode cX2_lasts 19 = .ok (.putfield 18, 3) := by decide +kernel
theorem dX2_lasts_22 : decode cX2_lasts 22 = .ok (.aload_n 0, 1) := by decide +kernel
theorem dX2_lasts_23 : decode cX2_lasts 23 = .ok (.getfield 9, 3) := by decide +kernel
theorem dX2_lasts_26 : decode cX2_lasts 26 = .ok (.ifCond .le 13, 3) := by decide +kernel
theorem dX2_lasts_29 : decode cX2_lasts 29 = .ok (.aload_n 0, 1) := by decide +kernel
theorem dX2_lasts_30 : decode cX2_lasts 30 = .ok (.dup, 1) := by decide +kernel
theorem dX2_lasts_31 : decode cX2_lasts 31 = .ok (.getfield 9, 3) := by decide +kernel
theorem dX2_lasts_34 : decode cX2_lasts 34 = .ok (.iconst 1, 1) := by decide +kernel
theorem dX2_lasts_35 : decode cX2_lasts 35 = .ok (.isub, 1) := by decide +kernel
theorem dX2_lasts_36 : decode cX2_lasts 36 = .ok (.putfield 9, 3) := by decide +kernel
theorem dX2_lasts_39 : decode cX2_lasts 39 = .ok (.aload_n 0, 1) := by decide +kernel
theorem dX2_lasts_40 : decode cX2_lasts 40 = .ok (.getfield 18, 3) := by decide +kernel
theorem dX2_lasts_43 : decode cX2_lasts 43 = .ok (.ifCond .ne 7, 3) := by decide +kernel
theorem dX2_lasts_46 : decode cX2_lasts 46 = .ok (.iconst 1, 1) := by decide +kernel
theorem dX2_lasts_47 : decode cX2_lasts 47 = .ok (.goto 4, 3) := by decide +kernel
theorem dX2_lasts_50 : decode cX2_lasts 50 = .ok (.iconst 0, 1) := by decide +kernel
theorem dX2_lasts_51 : decode cX2_lasts 51 = .ok (.ireturn, 1) := by decide +kernel
/-- WriteOnceDisc$Power.lasts()Z -/
def wX2_lasts_L39 (post : Int32 → Hp → Prop) (x0 : Nat) (σ : Hp) : Prop :=
(tg_ σ x0 = 2 ∧ ((¬ (fI_ σ 1 2 x0) = 0 →
  post (0 : Int32) σ) ∧
 ((fI_ σ 1 2 x0) = 0 →
  post (1 : Int32) σ)))
def wX2_lasts_L22 (post : Int32 → Hp → Prop) (x0 : Nat) (σ : Hp) : Prop :=
(tg_ σ x0 = 2 ∧ (((fI_ σ 1 0 x0) ≤ 0 →
  wX2_lasts_L39 post x0 σ) ∧
 (¬ (fI_ σ 1 0 x0) ≤ 0 →
  (∀ σ5, σ5 = sI_ σ 1 0 x0 ((fI_ σ 1 0 x0) - (1 : Int32)) → wX2_lasts_L39 post x0 σ5))))
def wX2_lasts (x0 : Nat) (σ : Hp) (post : Int32 → Hp → Prop) : Prop :=
(tg_ σ x0 = 2 ∧ (∀ σ7, σ7 = sI_ σ 1 1 x0 ((fI_ σ 1 1 x0) + (1 : Int32)) → ((¬ (fI_ σ7 1 0 x0) = 0 →
  wX2_lasts_L22 post x0 σ7) ∧
 ((fI_ σ7 1 0 x0) = 0 →
  (∀ σ9, σ9 = sI_ σ7 1 2 x0 (1 : Int32) → wX2_lasts_L22 post x0 σ9)))))
set_option maxHeartbeats 4000000 in
theorem sX2_lasts_L39 {G : GG_} {p : Program} {l : Launch} {e : Env} {R : Room} {s : State} {m : MethodId} {args : Array Value} {below : List Frame} {meth : Method} {c : Code} (Y : MX_ G p R s m args meth c cX2_lasts 1 RX2 (some Jvm.ClassFile.FieldType.boolean) 1 20 0 0 "lasts") {post : Int32 → Hp → Prop} {x0 : Nat} {σ : Hp} (hf : wX2_lasts_L39 post x0 σ) : WG_ G p l e R s m args below meth c (MQ below (QI_ G post) args s 0 0 (FR_ G)) BN_ 1 39 [(0, rv_ x0)] [] σ := by
  have ⟨X, hlk, hr, hRf, hRl, hRc, hnm⟩ := Y
  have ⟨⟨hx, hb, _, hown, hts⟩, _, _⟩ := X
  intro H locs cells slots ls hP hL hB hl
  obtain ⟨rfl, rfl⟩ := hB
  unfold wX2_lasts_L39 at hf
  refine p_aload_n hx hb dX2_lasts_39 rfl (lv_at hl 0 rfl) ?_
  obtain ⟨ht1, hf⟩ := hf
  refine p_gI X cf1_ (k := 2) (by decide) rfl hP ht1 q131 (fun _ h => h) dX2_lasts_40 ?_
  refine lv_if_ne (tgt := 50) hx hb dX2_lasts_43 (by decide) (fun c2 => ?_) (fun c2 => ?_)
  · have hf := hf.1 c2
    refine lv_iconst (v := 0) hx hb dX2_lasts_50 (by decide) ?_
    exact p_zret X hlk hP hL (Nat.le_refl _) (Nat.le_refl _) hr nr_0 dX2_lasts_51 hf
  · have hf := hf.2 c2
    refine lv_iconst (v := 1) hx hb dX2_lasts_46 (by decide) ?_
    refine lv_goto (tgt := 51) hx hb dX2_lasts_47 (by decide) ?_
    exact p_zret X hlk hP hL (Nat.le_refl _) (Nat.le_refl _) hr nr_1 dX2_lasts_51 hf
set_option maxHeartbeats 4000000 in
theorem sX2_lasts_L22 {G : GG_} {p : Program} {l : Launch} {e : Env} {R : Room} {s : State} {m : MethodId} {args : Array Value} {below : List Frame} {meth : Method} {c : Code} (Y : MX_ G p R s m args meth c cX2_lasts 1 RX2 (some Jvm.ClassFile.FieldType.boolean) 1 20 0 0 "lasts") {post : Int32 → Hp → Prop} {x0 : Nat} {σ : Hp} (hf : wX2_lasts_L22 post x0 σ) : WG_ G p l e R s m args below meth c (MQ below (QI_ G post) args s 0 0 (FR_ G)) BN_ 1 22 [(0, rv_ x0)] [] σ := by
  have ⟨X, hlk, hr, hRf, hRl, hRc, hnm⟩ := Y
  have ⟨⟨hx, hb, _, hown, hts⟩, _, _⟩ := X
  intro H locs cells slots ls hP hL hB hl
  obtain ⟨rfl, rfl⟩ := hB
  unfold wX2_lasts_L22 at hf
  refine p_aload_n hx hb dX2_lasts_22 rfl (lv_at hl 0 rfl) ?_
  obtain ⟨ht3, hf⟩ := hf
  refine p_gI X cf1_ (k := 0) (by decide) rfl hP ht3 q127 (fun _ h => h) dX2_lasts_23 ?_
  refine lv_if_le (tgt := 39) hx hb dX2_lasts_26 (by decide) (fun c4 => ?_) (fun c4 => ?_)
  · have hf := hf.1 c4
    exact sX2_lasts_L39 Y hf _ _ _ _ _ hP hL ⟨rfl, rfl⟩ (lv_sub hl [0] rfl)
  · have hf := hf.2 c4
    refine p_aload_n hx hb dX2_lasts_29 rfl (lv_at hl 0 rfl) ?_
    refine lv_dup hx hb dX2_lasts_30 (rv_cat _) ?_
    refine p_gI X cf1_ (k := 0) (by decide) rfl hP ht3 q127 (fun _ h => h) dX2_lasts_31 ?_
    refine lv_iconst (v := 1) hx hb dX2_lasts_34 (by decide) ?_
    refine lv_isub hx hb dX2_lasts_35 ?_
    refine p_pI X cf1_ (k := 0) (by decide) rfl hP hL ht3 (p_ow hP ht3 rfl) q127 (fun _ h => h) (Or.inl rfl) rfl rfl dX2_lasts_36 (fun H locs hP hL => ?_)
    refine p_nmP hP (fun σ5 hσ5 hP => ?_)
    have hf := hf σ5 hσ5
    have ht3 : tg_ σ5 x0 = 2 := by rw [hσ5]; exact ht3
    exact sX2_lasts_L39 Y hf _ _ _ _ _ hP hL ⟨rfl, rfl⟩ (lv_sub hl [0] rfl)
set_option maxHeartbeats 4000000 in
theorem sX2_lasts {G : GG_} {p : Program} {l : Launch} {e : Env} {R : Room} {s : State} {m : MethodId} {args : Array Value} {below : List Frame} {meth : Method} {c : Code} (Y : MX_ G p R s m args meth c cX2_lasts 1 RX2 (some Jvm.ClassFile.FieldType.boolean) 1 20 0 0 "lasts") {post : Int32 → Hp → Prop} {x0 : Nat} {σ : Hp} (hf : wX2_lasts x0 σ post) : WG_ G p l e R s m args below meth c (MQ below (QI_ G post) args s 0 0 (FR_ G)) BN_ 1 0 [(0, rv_ x0)] [] σ := by
  have ⟨X, hlk, hr, hRf, hRl, hRc, hnm⟩ := Y
  have ⟨⟨hx, hb, _, hown, hts⟩, _, _⟩ := X
  intro H locs cells slots ls hP hL hB hl
  obtain ⟨rfl, rfl⟩ := hB
  unfold wX2_lasts at hf
  refine p_aload_n hx hb dX2_lasts_0 rfl (lv_at hl 0 rfl) ?_
  refine lv_dup hx hb dX2_lasts_1 (rv_cat _) ?_
  obtain ⟨ht6, hf⟩ := hf
  refine p_gI X cf1_ (k := 1) (by decide) rfl hP ht6 q129 (fun _ h => h) dX2_lasts_2 ?_
  refine lv_iconst (v := 1) hx hb dX2_lasts_5 (by decide) ?_
  refine lv_iadd hx hb dX2_lasts_6 ?_
  refine p_pI X cf1_ (k := 1) (by decide) rfl hP hL ht6 (p_ow hP ht6 rfl) q129 (fun _ h => h) (Or.inl rfl) rfl rfl dX2_lasts_7 (fun H locs hP hL => ?_)
  refine p_nmP hP (fun σ7 hσ7 hP => ?_)
  have hf := hf σ7 hσ7
  have ht6 : tg_ σ7 x0 = 2 := by rw [hσ7]; exact ht6
  refine p_aload_n hx hb dX2_lasts_10 rfl (lv_at hl 0 rfl) ?_
  refine p_gI X cf1_ (k := 0) (by decide) rfl hP ht6 q127 (fun _ h => h) dX2_lasts_11 ?_
  refine lv_if_ne (tgt := 22) hx hb dX2_lasts_14 (by decide) (fun c8 => ?_) (fun c8 => ?_)
  · have hf := hf.1 c8
    exact sX2_lasts_L22 Y hf _ _ _ _ _ hP hL ⟨rfl, rfl⟩ (lv_sub hl [0] rfl)
  · have hf := hf.2 c8
    refine p_aload_n hx hb dX2_lasts_17 rfl (lv_at hl 0 rfl) ?_
    refine lv_iconst (v := 1) hx hb dX2_lasts_18 (by decide) ?_
    refine p_pI X cf1_ (k := 2) (by decide) rfl hP hL ht6 (p_ow hP ht6 rfl) q131 (fun _ h => h) (Or.inl rfl) rfl (by decide) dX2_lasts_19 (fun H locs hP hL => ?_)
    refine p_nmP hP (fun σ9 hσ9 hP => ?_)
    have hf := hf σ9 hσ9
    have ht6 : tg_ σ9 x0 = 2 := by rw [hσ9]; exact ht6
    exact sX2_lasts_L22 Y hf _ _ _ _ _ hP hL ⟨rfl, rfl⟩ (lv_sub hl [0] rfl)
set_option maxHeartbeats 4000000 in
theorem metX2_lasts (l : Launch) (G : GG_) (x0 : Nat) (σ : Hp) (post : Int32 → Hp → Prop) (hG : GOK_ G) (hf : wX2_lasts x0 σ post) : Met l yX2_lasts (ws_ yX2_lasts cX2_lasts 1 (some Jvm.ClassFile.FieldType.boolean)) { frames := 1, cells := 0, slots := 0, locals := 20 } (PC_ G [rv_ x0] σ) (QI_ G post) 0 0 (FR_ G) := by
  refine Met.ofW (cc := cX2_lasts) (maxL := 1) (ret := (some Jvm.ClassFile.FieldType.boolean)) (by decide) rfl ?_
  intro p e s m args below meth c s₁ B hml hv
  obtain ⟨rfl, hP, hW⟩ := hv
  have hts := atoms_spec (ws := ws_ yX2_lasts cX2_lasts 1 (some Jvm.ClassFile.FieldType.boolean)) B.pre
  have hts : ∀ w ∈ lw_all, w.before _ s = true := fun w h => hts w (List.mem_cons_of_mem _ h)
  rw [lg_entry_eq]
  have hl := en_entry [rv_ x0] [1] (n := 1) (ca_r ca_n) (by decide)
  exact sX2_lasts ⟨⟨⟨B.exec, B.bytes, hml, findClass_of_methodNamed B.named, hts⟩, hW, hG⟩, B.notSynchronized, B.returns, Nat.le_refl _, Nat.le_refl _, ⟨rfl, rfl⟩, (name_of_methodNamed B.named B.method).1⟩ hf _ _ _ _ _ hP (LO_nil G) ⟨rfl, rfl⟩ hl
abbrev cX3_writes : ByteArray := prog_2_method_3_code
def yX3_writes : MethodName := ⟨RX3, "writes", "(I[BI)Z"⟩
theorem dX3_writes_0 : decode cX3_writes 0 = .ok (.aload_n 0, 1) := by decide +kernel
theorem dX3_writes_1 : decode cX3_writes 1 = .ok (.getfield 25, 3) := by decide +kernel
theorem dX3_writes_4 : decode cX3_writes 4 = .ok (.invokevirtual 32, 3) := by decide +kernel
theorem dX3_writes_7 : decode cX3_writes 7 = .ok (.ifCond .eq 15, 3) := by decide +kernel
theorem dX3_writes_10 : decode cX3_writes 10 = .ok (.aload_n 0, 1) := by decide +kernel
theorem dX3_writes_11 : decode cX3_writes 11 = .ok (.getfield 38, 3) := by decide +kernel
theorem dX3_writes_14 : decode cX3_writes 14 = .ok (.getfield 42, 3) := by decide +kernel
theorem dX3_writes_17 : decode cX3_writes 17 = .ok (.iload_n 1, 1) := by decide +kernel
theorem dX3_writes_18 : decode cX3_writes 18 = .ok (.baload, 1) := by decide +kernel
theorem dX3_writes_19 : decode cX3_writes 19 = .ok (.ifCond .eq 15, 3) := by decide +kernel
theorem dX3_writes_22 : decode cX3_writes 22 = .ok (.aload_n 0, 1) := by decide +kernel
theorem dX3_writes_23 : decode cX3_writes 23 = .ok (.getfield 38, 3) := by decide +kernel
theorem dX3_writes_26 : decode cX3_writes 26 = .ok (.getfield 48, 3) := by decide +kernel
theorem dX3_writes_29 : decode cX3_writes 29 = .ok (.iload_n 1, 1) := by decide +kernel
theorem dX3_writes_30 : decode cX3_writes 30 = .ok (.iconst 2, 1) := by decide +kernel
theorem dX3_writes_31 : decode cX3_writes 31 = .ok (.iastore, 1) := by decide +kernel
theorem dX3_writes_32 : decode cX3_writes 32 = .ok (.iconst 0, 1) := by decide +kernel
theorem dX3_writes_33 : decode cX3_writes 33 = .ok (.ireturn, 1) := by decide +kernel
theorem dX3_writes_34 : decode cX3_writes 34 = .ok (.aload_n 0, 1) := by decide +kernel
theorem dX3_writes_35 : decode cX3_writes 35 = .ok (.getfield 38, 3) := by decide +kernel
theorem dX3_writes_38 : decode cX3_writes 38 = .ok (.getfield 48, 3) := by decide +kernel
theorem dX3_writes_41 : decode cX3_writes 41 = .ok (.iload_n 1, 1) := by decide +kernel
theorem dX3_writes_42 : decode cX3_writes 42 = .ok (.iconst 1, 1) := by decide +kernel
theorem dX3_writes_43 : decode cX3_writes 43 = .ok (.iastore, 1) := by decide +kernel
theorem dX3_writes_44 : decode cX3_writes 44 = .ok (.iconst 0, 1) := by decide +kernel
theorem dX3_writes_45 : decode cX3_writes 45 = .ok (.istore 4, 2) := by decide +kernel
theorem dX3_writes_47 : decode cX3_writes 47 = .ok (.iload 4, 2) := by decide +kernel
theorem dX3_writes_49 : decode cX3_writes 49 = .ok (.sipush 2048, 3) := by decide +kernel
theorem dX3_writes_52 : decode cX3_writes 52 = .ok (.if_icmp .ge 31, 3) := by decide +kernel
theorem dX3_writes_55 : decode cX3_writes 55 = .ok (.aload_n 0, 1) := by decide +kernel
theorem dX3_writes_56 : decode cX3_writes 56 = .ok (.getfield 38, 3) := by decide +kernel
theorem dX3_writes_59 : decode cX3_writes 59 = .ok (.getfield 52, 3) := by decide +kernel
theorem dX3_writes_62 : decode cX3_writes 62 = .ok (.iload_n 1, 1) := by decide +kernel
theorem dX3_writes_63 : decode cX3_writes 63 = .ok (.sipush 2048, 3) := by decide +kernel
theorem dX3_writes_66 : decode cX3_writes 66 = .ok (.imul, 1) := by decide +kernel
theorem dX3_writes_67 : decode cX3_writes 67 = .ok (.iload 4, 2) := by decide +kernel
theorem dX3_writes_69 : decode cX3_writes 69 = .ok (.iadd, 1) := by decide +kernel
theorem dX3_writes_70 : decode cX3_writes 70 = .ok (.aload_n 2, 1) := by decide +kernel
theorem dX3_writes_71 : decode cX3_writes 71 = .ok (.iload_n 3, 1) := by decide +kernel
theorem dX3_writes_72 : decode cX3_writes 72 = .ok (.iload 4, 2) := by decide +kernel
theorem dX3_writes_74 : decode cX3_writes 74 = .ok (.iadd, 1) := by decide +kernel
theorem dX3_writes_75 : decode cX3_writes 75 = .ok (.baload, 1) := by decide +kernel
theorem dX3_writes_76 : decode cX3_writes 76 = .ok (.bastore, 1) := by decide +kernel
theorem dX3_writes_77 : decode cX3_writes 77 = .ok (.iinc 4 1, 3) := by decide +kernel
theorem dX3_writes_80 : decode cX3_writes 80 = .ok (.goto (-33), 3) := by decide +kernel
theorem dX3_writes_83 : decode cX3_writes 83 = .ok (.iconst 1, 1) := by decide +kernel
theorem dX3_writes_84 : decode cX3_writes 84 = .ok (.ireturn, 1) := by decide +kernel
/-- WriteOnceDisc$Burner.writes(I[BI)Z -/
def wX3_writes_B47 (post : Int32 → Hp → Prop) (rc47 : Int32 → Hp → Prop) (x0 : Nat) (x1 : Int32) (x2 : Nat) (x3 : Int32) (x4 : Int32) (σ : Hp) : Prop :=
(((2048 : Int32) ≤ x4 →
  post (1 : Int32) σ) ∧
 (¬ (2048 : Int32) ≤ x4 →
  (tg_ σ x0 = 3 ∧ (tg_ σ (fR_ σ 2 0 x0) = 7 ∧ (tg_ σ x2 = 100 ∧ (vp_in (x3 + x4) (ln_ σ x2) ∧ (tg_ σ (fR_ σ 6 1 (fR_ σ 2 0 x0)) = 100 ∧ (lo_ σ < (fR_ σ 6 1 (fR_ σ 2 0 x0)) ∧ (vp_in ((x1 * (2048 : Int32)) + x4) (ln_ σ (fR_ σ 6 1 (fR_ σ 2 0 x0))) ∧ (∀ σ9, σ9 = wI_ σ (fR_ σ 6 1 (fR_ σ 2 0 x0)) (((x1 * (2048 : Int32)) + x4)).toNatClampNeg (vp_nar .byte (aI_ σ x2 ((x3 + x4)).toNatClampNeg)) → (∀ y10 : Int32, y10 = x4 + 1 → rc47 y10 σ9)))))))))))
def wX3_writes_L47 (post : Int32 → Hp → Prop) (x0 : Nat) (x1 : Int32) (x2 : Nat) (x3 : Int32) (x4 : Int32) (σ : Hp) : Prop :=
 ∃ (I : Int32 → Hp → Prop) (μ : Int32 → Hp → Nat), I x4 σ ∧ ∀ (x4 : Int32) (σ : Hp), I x4 σ → wX3_writes_B47 post (fun x4' σ' => I x4' σ' ∧ μ x4' σ' < μ x4 σ) x0 x1 x2 x3 x4 σ
def wX3_writes_L22 (post : Int32 → Hp → Prop) (x0 : Nat) (x1 : Int32) (σ : Hp) : Prop :=
(tg_ σ x0 = 3 ∧ (tg_ σ (fR_ σ 2 0 x0) = 7 ∧ (tg_ σ (fR_ σ 6 2 (fR_ σ 2 0 x0)) = 102 ∧ (lo_ σ < (fR_ σ 6 2 (fR_ σ 2 0 x0)) ∧ (vp_in x1 (ln_ σ (fR_ σ 6 2 (fR_ σ 2 0 x0))) ∧ (∀ σ16, σ16 = wI_ σ (fR_ σ 6 2 (fR_ σ 2 0 x0)) (x1).toNatClampNeg (2 : Int32) → post (0 : Int32) σ16))))))
def wX3_writes (x0 : Nat) (x1 : Int32) (x2 : Nat) (x3 : Int32) (σ : Hp) (post : Int32 → Hp → Prop) : Prop :=
(tg_ σ x0 = 3 ∧ (tg_ σ (fR_ σ 2 2 x0) = 2 ∧ (wX2_lasts (fR_ σ 2 2 x0)  σ (fun r19 σ20 => ((r19 = 0 →
  wX3_writes_L22 post x0 x1 σ20) ∧
 (¬ r19 = 0 →
  (tg_ σ20 x0 = 3 ∧ (tg_ σ20 (fR_ σ20 2 0 x0) = 7 ∧ (tg_ σ20 (fR_ σ20 6 3 (fR_ σ20 2 0 x0)) = 101 ∧ (vp_in x1 (ln_ σ20 (fR_ σ20 6 3 (fR_ σ20 2 0 x0))) ∧ (((aI_ σ20 (fR_ σ20 6 3 (fR_ σ20 2 0 x0)) (x1).toNatClampNeg) = 0 →
   (tg_ σ20 (fR_ σ20 6 2 (fR_ σ20 2 0 x0)) = 102 ∧ (lo_ σ20 < (fR_ σ20 6 2 (fR_ σ20 2 0 x0)) ∧ (vp_in x1 (ln_ σ20 (fR_ σ20 6 2 (fR_ σ20 2 0 x0))) ∧ (∀ σ30, σ30 = wI_ σ20 (fR_ σ20 6 2 (fR_ σ20 2 0 x0)) (x1).toNatClampNeg (1 : Int32) → wX3_writes_L47 post x0 x1 x2 x3 (0 : Int32) σ30))))) ∧
  (¬ (aI_ σ20 (fR_ σ20 6 3 (fR_ σ20 2 0 x0)) (x1).toNatClampNeg) = 0 →
   wX3_writes_L22 post x0 x1 σ20))))))))))))
set_option maxHeartbeats 4000000 in
theorem sX3_writes_B47 {G : GG_} {p : Program} {l : Launch} {e : Env} {R : Room} {s : State} {m : MethodId} {args : Array Value} {below : List Frame} {meth : Method} {c : Code} (Y : MX_ G p R s m args meth c cX3_writes 5 RX3 (some Jvm.ClassFile.FieldType.boolean) 2 40 0 0 "writes") {post : Int32 → Hp → Prop} {rc47 : Int32 → Hp → Prop} {x0 : Nat} {x1 : Int32} {x2 : Nat} {x3 : Int32} {x4 : Int32} {σ : Hp} (hrc47 : ∀ (x4 : Int32) (σ : Hp), rc47 x4 σ → WG_ G p l e R s m args below meth c (MQ below (QI_ G post) args s 0 0 (FR_ G)) BN_ 5 47 [(0, rv_ x0), (1, .int x1), (2, rv_ x2), (3, .int x3), (4, .int x4)] [] σ) (hf : wX3_writes_B47 post rc47 x0 x1 x2 x3 x4 σ) : WG_ G p l e R s m args below meth c (MQ below (QI_ G post) args s 0 0 (FR_ G)) BN_ 5 47 [(0, rv_ x0), (1, .int x1), (2, rv_ x2), (3, .int x3), (4, .int x4)] [] σ := by
  have ⟨X, hlk, hr, hRf, hRl, hRc, hnm⟩ := Y
  have ⟨⟨hx, hb, _, hown, hts⟩, _, _⟩ := X
  intro H locs cells slots ls hP hL hB hl
  obtain ⟨rfl, rfl⟩ := hB
  unfold wX3_writes_B47 at hf
  refine lv_iload hx hb dX3_writes_47 (lv_at hl 4 rfl) ?_
  refine lv_sipush (v := 2048) hx hb dX3_writes_49 (by decide) ?_
  refine lv_icmp_ge (tgt := 83) hx hb dX3_writes_52 (by decide) (fun c1 => ?_) (fun c1 => ?_)
  · have hf := hf.1 c1
    refine lv_iconst (v := 1) hx hb dX3_writes_83 (by decide) ?_
    exact p_zret X hlk hP hL (Nat.le_refl _) (Nat.le_refl _) hr nr_1 dX3_writes_84 hf
  · have hf := hf.2 c1
    refine p_aload_n hx hb dX3_writes_55 rfl (lv_at hl 0 rfl) ?_
    obtain ⟨ht2, hf⟩ := hf
    refine p_gR X cf2_ (k := 0) (by decide) rfl hP ht2 q185 (fun _ h => h) dX3_writes_56 ?_
    obtain ⟨ht3, hf⟩ := hf
    refine p_gR X cf6_ (k := 1) (by decide) rfl hP ht3 q561 (fun _ h => h) dX3_writes_59 ?_
    refine lv_iload_n hx hb dX3_writes_62 rfl (lv_at hl 1 rfl) ?_
    refine lv_sipush (v := 2048) hx hb dX3_writes_63 (by decide) ?_
    refine lv_imul hx hb dX3_writes_66 ?_
    refine lv_iload hx hb dX3_writes_67 (lv_at hl 4 rfl) ?_
    refine lv_iadd hx hb dX3_writes_69 ?_
    refine p_aload_n hx hb dX3_writes_70 rfl (lv_at hl 2 rfl) ?_
    refine lv_iload_n hx hb dX3_writes_71 rfl (lv_at hl 3 rfl) ?_
    refine lv_iload hx hb dX3_writes_72 (lv_at hl 4 rfl) ?_
    refine lv_iadd hx hb dX3_writes_74 ?_
    obtain ⟨ht4, hf⟩ := hf
    obtain ⟨hi5, hf⟩ := hf
    refine p_bald X hP ht4 hi5 dX3_writes_75 ?_
    obtain ⟨ht6, hf⟩ := hf
    obtain ⟨hlo7, hf⟩ := hf
    obtain ⟨hi8, hf⟩ := hf
    refine p_bast X hP hL ht6 hlo7 hi8 dX3_writes_76 (fun H locs hP hL => ?_)
    refine p_nmP hP (fun σ9 hσ9 hP => ?_)
    have hf := hf σ9 hσ9
    have ht2 : tg_ σ9 x0 = 3 := by rw [hσ9]; exact ht2
    have ht4 : tg_ σ9 x2 = 100 := by rw [hσ9]; exact ht4
    have hl := lv_sub hl [4, 0, 1, 2, 3] rfl
    refine p_iincc (i := 4) (k := 1) hx hb (by decide) dX3_writes_77 hl (by decide) ⟨⟨ne_ rfl, Or.inl (ne_ rfl)⟩, ⟨⟨ne_ rfl, Or.inl (ne_ rfl)⟩, ⟨⟨ne_ rfl, Or.inl (ne_ rfl)⟩, ⟨⟨ne_ rfl, Or.inr rfl⟩, trivial⟩⟩⟩⟩ (fun y10 hy10 ls hl => ?_)
    have hf := hf y10 hy10
    refine lv_goto (tgt := 47) hx hb dX3_writes_80 (by decide) ?_
    exact hrc47 _ _ hf _ _ _ _ _ hP hL ⟨rfl, rfl⟩ (lv_sub hl [1, 2, 3, 4, 0] rfl)
set_option maxHeartbeats 4000000 in
theorem sX3_writes_L47 {G : GG_} {p : Program} {l : Launch} {e : Env} {R : Room} {s : State} {m : MethodId} {args : Array Value} {below : List Frame} {meth : Method} {c : Code} (Y : MX_ G p R s m args meth c cX3_writes 5 RX3 (some Jvm.ClassFile.FieldType.boolean) 2 40 0 0 "writes") {post : Int32 → Hp → Prop} {x0 : Nat} {x1 : Int32} {x2 : Nat} {x3 : Int32} {x4 : Int32} {σ : Hp} (hf : wX3_writes_L47 post x0 x1 x2 x3 x4 σ) : WG_ G p l e R s m args below meth c (MQ below (QI_ G post) args s 0 0 (FR_ G)) BN_ 5 47 [(0, rv_ x0), (1, .int x1), (2, rv_ x2), (3, .int x3), (4, .int x4)] [] σ := by
  unfold wX3_writes_L47 at hf
  obtain ⟨I, μ, h0, hI⟩ := hf
  have key : ∀ (n : Nat) (x4 : Int32) (σ : Hp), I x4 σ → μ x4 σ < n → WG_ G p l e R s m args below meth c (MQ below (QI_ G post) args s 0 0 (FR_ G)) BN_ 5 47 [(0, rv_ x0), (1, .int x1), (2, rv_ x2), (3, .int x3), (4, .int x4)] [] σ := by
    intro n
    induction n with
    | zero => intro x4 σ _ h; exact absurd h (Nat.not_lt_zero _)
    | succ n ih => intro x4 σ hi hn; exact sX3_writes_B47 Y (fun x4' σ' h => ih x4' σ' h.1 (Nat.lt_of_lt_of_le h.2 (Nat.le_of_lt_succ hn))) (hI x4 σ hi)
  exact key _ _ _ h0 (Nat.lt_succ_self _)
set_option maxHeartbeats 4000000 in
theorem sX3_writes_L22 {G : GG_} {p : Program} {l : Launch} {e : Env} {R : Room} {s : State} {m : MethodId} {args : Array Value} {below : List Frame} {meth : Method} {c : Code} (Y : MX_ G p R s m args meth c cX3_writes 5 RX3 (some Jvm.ClassFile.FieldType.boolean) 2 40 0 0 "writes") {post : Int32 → Hp → Prop} {x0 : Nat} {x1 : Int32} {σ : Hp} (hf : wX3_writes_L22 post x0 x1 σ) : WG_ G p l e R s m args below meth c (MQ below (QI_ G post) args s 0 0 (FR_ G)) BN_ 5 22 [(0, rv_ x0), (1, .int x1)] [] σ := by
  have ⟨X, hlk, hr, hRf, hRl, hRc, hnm⟩ := Y
  have ⟨⟨hx, hb, _, hown, hts⟩, _, _⟩ := X
  intro H locs cells slots ls hP hL hB hl
  obtain ⟨rfl, rfl⟩ := hB
  unfold wX3_writes_L22 at hf
  refine p_aload_n hx hb dX3_writes_22 rfl (lv_at hl 0 rfl) ?_
  obtain ⟨ht11, hf⟩ := hf
  refine p_gR X cf2_ (k := 0) (by decide) rfl hP ht11 q185 (fun _ h => h) dX3_writes_23 ?_
  obtain ⟨ht12, hf⟩ := hf
  refine p_gR X cf6_ (k := 2) (by decide) rfl hP ht12 q564 (fun _ h => h) dX3_writes_26 ?_
  refine lv_iload_n hx hb dX3_writes_29 rfl (lv_at hl 1 rfl) ?_
  refine lv_iconst (v := 2) hx hb dX3_writes_30 (by decide) ?_
  obtain ⟨ht13, hf⟩ := hf
  obtain ⟨hlo14, hf⟩ := hf
  obtain ⟨hi15, hf⟩ := hf
  refine p_iast X hP hL ht13 hlo14 hi15 dX3_writes_31 (fun H locs hP hL => ?_)
  refine p_nmP hP (fun σ16 hσ16 hP => ?_)
  have hf := hf σ16 hσ16
  have ht11 : tg_ σ16 x0 = 3 := by rw [hσ16]; exact ht11
  refine lv_iconst (v := 0) hx hb dX3_writes_32 (by decide) ?_
  exact p_zret X hlk hP hL (Nat.le_refl _) (Nat.le_refl _) hr nr_0 dX3_writes_33 hf
set_option maxHeartbeats 4000000 in
theorem sX3_writes {G : GG_} {p : Program} {l : Launch} {e : Env} {R : Room} {s : State} {m : MethodId} {args : Array Value} {below : List Frame} {meth : Method} {c : Code} (Y : MX_ G p R s m args meth c cX3_writes 5 RX3 (some Jvm.ClassFile.FieldType.boolean) 2 40 0 0 "writes") {post : Int32 → Hp → Prop} {x0 : Nat} {x1 : Int32} {x2 : Nat} {x3 : Int32} {σ : Hp} (hf : wX3_writes x0 x1 x2 x3 σ post) : WG_ G p l e R s m args below meth c (MQ below (QI_ G post) args s 0 0 (FR_ G)) BN_ 5 0 [(0, rv_ x0), (1, .int x1), (2, rv_ x2), (3, .int x3)] [] σ := by
  have ⟨X, hlk, hr, hRf, hRl, hRc, hnm⟩ := Y
  have ⟨⟨hx, hb, _, hown, hts⟩, _, _⟩ := X
  intro H locs cells slots ls hP hL hB hl
  obtain ⟨rfl, rfl⟩ := hB
  unfold wX3_writes at hf
  refine p_aload_n hx hb dX3_writes_0 rfl (lv_at hl 0 rfl) ?_
  obtain ⟨ht17, hf⟩ := hf
  refine p_gR X cf2_ (k := 2) (by decide) rfl hP ht17 q187 (fun _ h => h) dX3_writes_1 ?_
  obtain ⟨ht18, hf⟩ := hf
  refine p_calli hL (p_runV X cf1_ hP ht18 (metX2_lasts l G _ _ _ X.2.2 hf) (cwV 0 hts (lw_V q841 q842 q843 q86 q844) rfl rfl rfl (by decide +kernel) ⟨Nat.le_trans (Nat.le_of_ble_eq_true rfl) hRf, Nat.le_trans (Nat.le_of_ble_eq_true rfl) hRl⟩) rfl hl.1 rfl (by decide) dX3_writes_4 ⟨Nat.zero_le _, Nat.zero_le _⟩) (fun r19 σ20 H locs hf hP hL => ?_)
  refine lv_if_eq (tgt := 22) hx hb dX3_writes_7 (by decide) (fun c21 => ?_) (fun c21 => ?_)
  · have hf := hf.1 c21
    exact sX3_writes_L22 Y hf _ _ _ _ _ hP hL ⟨rfl, rfl⟩ (lv_sub hl [0, 1] rfl)
  · have hf := hf.2 c21
    refine p_aload_n hx hb dX3_writes_10 rfl (lv_at hl 0 rfl) ?_
    obtain ⟨ht22, hf⟩ := hf
    refine p_gR X cf2_ (k := 0) (by decide) rfl hP ht22 q185 (fun _ h => h) dX3_writes_11 ?_
    obtain ⟨ht23, hf⟩ := hf
    refine p_gR X cf6_ (k := 3) (by decide) rfl hP ht23 q567 (fun _ h => h) dX3_writes_14 ?_
    refine lv_iload_n hx hb dX3_writes_17 rfl (lv_at hl 1 rfl) ?_
    obtain ⟨ht24, hf⟩ := hf
    obtain ⟨hi25, hf⟩ := hf
    refine p_zald X hP ht24 hi25 dX3_writes_18 ?_
    refine lv_if_eq (tgt := 34) hx hb dX3_writes_19 (by decide) (fun c26 => ?_) (fun c26 => ?_)
    · have hf := hf.1 c26
      refine p_aload_n hx hb dX3_writes_34 rfl (lv_at hl 0 rfl) ?_
      refine p_gR X cf2_ (k := 0) (by decide) rfl hP ht22 q185 (fun _ h => h) dX3_writes_35 ?_
      refine p_gR X cf6_ (k := 2) (by decide) rfl hP ht23 q564 (fun _ h => h) dX3_writes_38 ?_
      refine lv_iload_n hx hb dX3_writes_41 rfl (lv_at hl 1 rfl) ?_
      refine lv_iconst (v := 1) hx hb dX3_writes_42 (by decide) ?_
      obtain ⟨ht27, hf⟩ := hf
      obtain ⟨hlo28, hf⟩ := hf
      obtain ⟨hi29, hf⟩ := hf
      refine p_iast X hP hL ht27 hlo28 hi29 dX3_writes_43 (fun H locs hP hL => ?_)
      refine p_nmP hP (fun σ30 hσ30 hP => ?_)
      have hf := hf σ30 hσ30
      have ht22 : tg_ σ30 x0 = 3 := by rw [hσ30]; exact ht22
      refine lv_iconst (v := 0) hx hb dX3_writes_44 (by decide) ?_
      refine p_istore (i := 4) hx hb dX3_writes_45 hl (by decide) ⟨⟨ne_ rfl, Or.inl (ne_ rfl)⟩, ⟨⟨ne_ rfl, Or.inl (ne_ rfl)⟩, ⟨⟨ne_ rfl, Or.inl (ne_ rfl)⟩, ⟨⟨ne_ rfl, Or.inr rfl⟩, trivial⟩⟩⟩⟩ (fun ls hl => ?_)
      exact sX3_writes_L47 Y hf _ _ _ _ _ hP hL ⟨rfl, rfl⟩ (lv_sub hl [1, 2, 3, 4, 0] rfl)
    · have hf := hf.2 c26
      exact sX3_writes_L22 Y hf _ _ _ _ _ hP hL ⟨rfl, rfl⟩ (lv_sub hl [0, 1] rfl)
set_option maxHeartbeats 4000000 in
theorem metX3_writes (l : Launch) (G : GG_) (x0 : Nat) (x1 : Int32) (x2 : Nat) (x3 : Int32) (σ : Hp) (post : Int32 → Hp → Prop) (hG : GOK_ G) (hf : wX3_writes x0 x1 x2 x3 σ post) : Met l yX3_writes (ws_ yX3_writes cX3_writes 5 (some Jvm.ClassFile.FieldType.boolean)) { frames := 2, cells := 0, slots := 0, locals := 40 } (PC_ G [rv_ x0, .int x1, rv_ x2, .int x3] σ) (QI_ G post) 0 0 (FR_ G) := by
  refine Met.ofW (cc := cX3_writes) (maxL := 5) (ret := (some Jvm.ClassFile.FieldType.boolean)) (by decide) rfl ?_
  intro p e s m args below meth c s₁ B hml hv
  obtain ⟨rfl, hP, hW⟩ := hv
  have hts := atoms_spec (ws := ws_ yX3_writes cX3_writes 5 (some Jvm.ClassFile.FieldType.boolean)) B.pre
  have hts : ∀ w ∈ lw_all, w.before _ s = true := fun w h => hts w (List.mem_cons_of_mem _ h)
  rw [lg_entry_eq]
  have hl := en_entry [rv_ x0, .int x1, rv_ x2, .int x3] [1, 1, 1, 1] (n := 5) (ca_r (ca_i (ca_r (ca_i ca_n)))) (by decide)
  exact sX3_writes ⟨⟨⟨B.exec, B.bytes, hml, findClass_of_methodNamed B.named, hts⟩, hW, hG⟩, B.notSynchronized, B.returns, Nat.le_refl _, Nat.le_refl _, ⟨rfl, rfl⟩, (name_of_methodNamed B.named B.method).1⟩ hf _ _ _ _ _ hP (LO_nil G) ⟨rfl, rfl⟩ hl
abbrev cX3_extent : ByteArray := prog_2_method_5_code
def yX3_extent : MethodName := ⟨RX3, "extent", "(LWriteOnceDisc$Node;)I"⟩
theorem dX3_extent_0 : decode cX3_extent 0 = .ok (.aload_n 0, 1) := by decide +kernel
theorem dX3_extent_1 : decode cX3_extent 1 = .ok (.getfield 38, 3) := by decide +kernel
theorem dX3_extent_4 : decode cX3_extent 4 = .ok (.invokevirtual 80, 3) := by decide +kernel
theorem dX3_extent_7 : decode cX3_extent 7 = .ok (.istore_n 2, 1) := by decide +kernel
theorem dX3_extent_8 : decode cX3_extent 8 = .ok (.iload_n 2, 1) := by decide +kernel
theorem dX3_extent_9 : decode cX3_extent 9 = .ok (.aload_n 1, 1) := by decide +kernel
theorem dX3_extent_10 : decode cX3_extent 10 = .ok (.invokevirtual 84, 3) := by decide +kernel
theorem dX3_extent_13 : decode cX3_extent 13 = .ok (.iadd, 1) := by decide +kernel
theorem dX3_extent_14 : decode cX3_extent 14 = .ok (.aload_n 0, 1) := by decide +kernel
theorem dX3_extent_15 : decode cX3_extent 15 = .ok (.getfield 38, 3) := by decide +kernel
theorem dX3_extent_18 : decode cX3_extent 18 = .ok (.getfield 87, 3) := by decide +kernel
theorem dX3_extent_21 : decode cX3_extent 21 = .ok (.if_icmp .le 6, 3) := by decide +kernel
theorem dX3_extent_24 : decode cX3_extent 24 = .ok (.bipush (-3), 2) := by decide +kernel
theorem dX3_extent_26 : decode cX3_extent 26 = .ok (.ireturn, 1) := by decide +kernel
theorem dX3_extent_27 : decode cX3_extent 27 = .ok (.iconst 0, 1) := by decide +kernel
theorem dX3_extent_28 : decode cX3_extent 28 = .ok (.istore_n 3, 1) := by decide +kernel
theorem dX3_extent_29 : decode cX3_extent 29 = .ok (.iload_n 3, 1) := by decide +kernel
theorem dX3_extent_30 : decode cX3_extent 30 = .ok (.aload_n 1, 1) := by decide +kernel
theorem dX3_extent_31 : decode cX3_extent 31 = .ok (.invokevirtual 84, 3) := by decide +kernel
theorem dX3_extent_34 : decode cX3_extent 34 = .ok (.if_icmp .ge 26, 3) := by decide +kernel
theorem dX3_extent_37 : decode cX3_extent 37 = .ok (.aload_n 0, 1) := by decide +kernel
theorem dX3_extent_38 : decode cX3_extent 38 = .ok (.iload_n 2, 1) := by decide +kernel
theorem dX3_extent_39 : decode cX3_extent 39 = .ok (.iload_n 3, 1) := by decide +kernel
theorem dX3_extent_40 : decode cX3_extent 40 = .ok (.iadd, 1) := by decide +kernel
theorem dX3_extent_41 : decode cX3_extent 41 = .ok (.aload_n 0, 1) := by decide +kernel
theorem dX3_extent_42 : decode cX3_extent 42 = .ok (.aload_n 1, 1) := by decide +kernel
theorem dX3_extent_43 : decode cX3_extent 43 = .ok (.iload_n 3, 1) := by decide +kernel
theorem dX3_extent_44 : decode cX3_extent 44 = .ok (.invokevirtual 90, 3) := by decide +kernel
theorem dX3_extent_47 : decode cX3_extent 47 = .ok (.iconst 0, 1) := by decide +kernel
theorem dX3_extent_48 : decode cX3_extent 48 = .ok (.invokevirtual 94, 3) := by decide +kernel
theorem dX3_extent_51 : decode cX3_extent 51 = .ok (.ifCond .eq 9, 3) := by decide +kernel
theorem dX3_extent_54 : decode cX3_extent 54 = .ok (.iinc 3 1, 3) := by decide +kernel
theorem dX3_extent_57 : decode cX3_extent 57 = .ok (.goto (-28), 3) := by decide +kernel
theorem dX3_extent_60 : decode cX3_extent 60 = .ok (.aload_n 0, 1) := by decide +kernel
theorem dX3_extent_61 : decode cX3_extent 61 = .ok (.getfield 25, 3) := by decide +kernel
theorem dX3_extent_64 : decode cX3_extent 64 = .ok (.getfield 98, 3) := by decide +kernel
theorem dX3_extent_67 : decode cX3_extent 67 = .ok (.ifCond .eq 6, 3) := by decide +kernel
theorem dX3_extent_70 : decode cX3_extent 70 = .ok (.bipush (-4), 2) := by decide +kernel
theorem dX3_extent_72 : decode cX3_extent 72 = .ok (.ireturn, 1) := by decide +kernel
theorem dX3_extent_73 : decode cX3_extent 73 = .ok (.iload_n 3, 1) := by decide +kernel
theorem dX3_extent_74 : decode cX3_extent 74 = .ok (.aload_n 1, 1) := by decide +kernel
theorem dX3_extent_75 : decode cX3_extent 75 = .ok (.invokevirtual 84, 3) := by decide +kernel
theorem dX3_extent_78 : decode cX3_extent 78 = .ok (.if_icmp .ge 6, 3) := by decide +kernel
theorem dX3_extent_81 : decode cX3_extent 81 = .ok (.goto (-81), 3) := by decide +kernel
theorem dX3_extent_84 : decode cX3_extent 84 = .ok (.aload_n 1, 1) := by decide +kernel
theorem dX3_extent_85 : decode cX3_extent 85 = .ok (.iload_n 2, 1) := by decide +kernel
theorem dX3_extent_86 : decode cX3_extent 86 = .ok (.putfield 74, 3) := by decide +kernel
theorem dX3_extent_89 : decode cX3_extent 89 = .ok (.aload_n 1, 1) := by decide +kernel
theorem dX3_extent_90 : decode cX3_extent 90 = .ok (.iconst 1, 1) := by decide +kernel
theorem dX3_extent_91 : decode cX3_extent 91 = .ok (.putfield 67, 3) := by decide +kernel
theorem dX3_extent_94 : decode cX3_extent 94 = .ok (.iconst 0, 1) := by decide +kernel
theorem dX3_extent_95 : decode cX3_extent 95 = .ok (.ireturn, 1) := by decide +kernel
/-- WriteOnceDisc$Burner.extent(LWriteOnceDisc$Node;)I -/
def wX3_extent_L60 (post : Int32 → Hp → Prop) (rc0 : Hp → Prop) (x0 : Nat) (x1 : Nat) (x2 : Int32) (x3 : Int32) (σ : Hp) : Prop :=
(tg_ σ x0 = 3 ∧ (tg_ σ (fR_ σ 2 2 x0) = 2 ∧ (((fI_ σ 1 2 (fR_ σ 2 2 x0)) = 0 →
  (tg_ σ x1 = 6 ∧ (wX6_need x1  σ (fun r5 => ((r5 ≤ x3 →
   (∀ σ7, σ7 = sI_ σ 5 5 x1 x2 → (∀ σ8, σ8 = sI_ σ7 5 8 x1 (1 : Int32) → post (0 : Int32) σ8))) ∧
  (¬ r5 ≤ x3 →
   rc0 σ)))))) ∧
 (¬ (fI_ σ 1 2 (fR_ σ 2 2 x0)) = 0 →
  post (-4 : Int32) σ))))
def wX3_extent_B29 (post : Int32 → Hp → Prop) (rc0 : Hp → Prop) (rc29 : Int32 → Hp → Prop) (x0 : Nat) (x1 : Nat) (x2 : Int32) (x3 : Int32) (σ : Hp) : Prop :=
(tg_ σ x1 = 6 ∧ (wX6_need x1  σ (fun r10 => ((r10 ≤ x3 →
  wX3_extent_L60 post rc0 x0 x1 x2 x3 σ) ∧
 (¬ r10 ≤ x3 →
  (tg_ σ x0 = 3 ∧ (wX3_contentOf x0 x1 x3 σ (fun r13 σ14 => (tg_ σ14 x0 = 3 ∧ (wX3_writes x0 (x2 + x3) r13 (0 : Int32) σ14 (fun r16 σ17 => ((r16 = 0 →
   wX3_extent_L60 post rc0 x0 x1 x2 x3 σ17) ∧
  (¬ r16 = 0 →
   (∀ y19 : Int32, y19 = x3 + 1 → rc29 y19 σ17))))))))))))))
def wX3_extent_L29 (post : Int32 → Hp → Prop) (rc0 : Hp → Prop) (x0 : Nat) (x1 : Nat) (x2 : Int32) (x3 : Int32) (σ : Hp) : Prop :=
 ∃ (I : Int32 → Hp → Prop) (μ : Int32 → Hp → Nat), I x3 σ ∧ ∀ (x3 : Int32) (σ : Hp), I x3 σ → wX3_extent_B29 post rc0 (fun x3' σ' => I x3' σ' ∧ μ x3' σ' < μ x3 σ) x0 x1 x2 x3 σ
def wX3_extent_B0 (post : Int32 → Hp → Prop) (rc0 : Hp → Prop) (x0 : Nat) (x1 : Nat) (σ : Hp) : Prop :=
(tg_ σ x0 = 3 ∧ (tg_ σ (fR_ σ 2 0 x0) = 7 ∧ (wX7_front (fR_ σ 2 0 x0)  σ (fun r22 => (tg_ σ x1 = 6 ∧ (wX6_need x1  σ (fun r24 => (((r22 + r24) ≤ (fI_ σ 6 0 (fR_ σ 2 0 x0)) →
  wX3_extent_L29 post rc0 x0 x1 r22 (0 : Int32) σ) ∧
 (¬ (r22 + r24) ≤ (fI_ σ 6 0 (fR_ σ 2 0 x0)) →
  post (-3 : Int32) σ)))))))))
def wX3_extent_L0 (post : Int32 → Hp → Prop) (x0 : Nat) (x1 : Nat) (σ : Hp) : Prop :=
 ∃ (I : Hp → Prop) (μ : Hp → Nat), I σ ∧ ∀  (σ : Hp), I σ → wX3_extent_B0 post (fun σ' => I σ' ∧ μ σ' < μ σ) x0 x1 σ
def wX3_extent (x0 : Nat) (x1 : Nat) (σ : Hp) (post : Int32 → Hp → Prop) : Prop :=
 wX3_extent_L0 post x0 x1 σ
set_option maxHeartbeats 4000000 in
theorem sX3_extent_L60 {G : GG_} {p : Program} {l : Launch} {e : Env} {R : Room} {s : State} {m : MethodId} {args : Array Value} {below : List Frame} {meth : Method} {c : Code} (Y : MX_ G p R s m args meth c cX3_extent 4 RX3 (some Jvm.ClassFile.FieldType.int) 4 86 0 0 "extent") {post : Int32 → Hp → Prop} {rc0 : Hp → Prop} {x0 : Nat} {x1 : Nat} {x2 : Int32} {x3 : Int32} {σ : Hp} (hrc0 : ∀  (σ : Hp), rc0 σ → WG_ G p l e R s m args below meth c (MQ below (QI_ G post) args s 0 0 (FR_ G)) BN_ 4 0 [(0, rv_ x0), (1, rv_ x1)] [] σ) (hf : wX3_extent_L60 post rc0 x0 x1 x2 x3 σ) : WG_ G p l e R s m args below meth c (MQ below (QI_ G post) args s 0 0 (FR_ G)) BN_ 4 60 [(0, rv_ x0), (1, rv_ x1), (2, .int x2), (3, .int x3)] [] σ := by
  have ⟨X, hlk, hr, hRf, hRl, hRc, hnm⟩ := Y
  have ⟨⟨hx, hb, _, hown, hts⟩, _, _⟩ := X
  intro H locs cells slots ls hP hL hB hl
  obtain ⟨rfl, rfl⟩ := hB
  unfold wX3_extent_L60 at hf
  refine p_aload_n hx hb dX3_extent_60 rfl (lv_at hl 0 rfl) ?_
  obtain ⟨ht1, hf⟩ := hf
  refine p_gR X cf2_ (k := 2) (by decide) rfl hP ht1 q187 (fun _ h => h) dX3_extent_61 ?_
  obtain ⟨ht2, hf⟩ := hf
  refine p_gI X cf1_ (k := 2) (by decide) rfl hP ht2 q132 (fun _ h => h) dX3_extent_64 ?_
  refine lv_if_eq (tgt := 73) hx hb dX3_extent_67 (by decide) (fun c3 => ?_) (fun c3 => ?_)
  · have hf := hf.1 c3
    refine lv_iload_n hx hb dX3_extent_73 rfl (lv_at hl 3 rfl) ?_
    refine p_aload_n hx hb dX3_extent_74 rfl (lv_at hl 1 rfl) ?_
    obtain ⟨ht4, hf⟩ := hf
    refine p_calli hL (p_runV X cf5_ hP ht4 (metX6_need l G _ _ _ X.2.2 hf) (cwV 0 hts (lw_V q821 q822 q823 q93 q824) rfl rfl rfl (by decide +kernel) ⟨Nat.le_trans (Nat.le_of_ble_eq_true rfl) hRf, Nat.le_trans (Nat.le_of_ble_eq_true rfl) hRl⟩) rfl hl.1 rfl (by rw [(ca_i ca_n)]; decide) dX3_extent_75 ⟨Nat.zero_le _, Nat.zero_le _⟩) (fun r5 σ₁ H locs hf hP hL => ?_)
    obtain ⟨e₁, hf⟩ := hf
    rw [e₁] at hP
    refine lv_icmp_ge (tgt := 84) hx hb dX3_extent_78 (by decide) (fun c6 => ?_) (fun c6 => ?_)
    · have hf := hf.1 c6
      refine p_aload_n hx hb dX3_extent_84 rfl (lv_at hl 1 rfl) ?_
      refine lv_iload_n hx hb dX3_extent_85 rfl (lv_at hl 2 rfl) ?_
      refine p_pI X cf5_ (k := 5) (by decide) rfl hP hL ht4 (p_ow hP ht4 rfl) q452 (fun _ h => h) (Or.inl rfl) rfl rfl dX3_extent_86 (fun H locs hP hL => ?_)
      refine p_nmP hP (fun σ7 hσ7 hP => ?_)
      have hf := hf σ7 hσ7
      have ht1 : tg_ σ7 x0 = 3 := by rw [hσ7]; exact ht1
      have ht4 : tg_ σ7 x1 = 6 := by rw [hσ7]; exact ht4
      refine p_aload_n hx hb dX3_extent_89 rfl (lv_at hl 1 rfl) ?_
      refine lv_iconst (v := 1) hx hb dX3_extent_90 (by decide) ?_
      refine p_pI X cf5_ (k := 8) (by decide) rfl hP hL ht4 (p_ow hP ht4 rfl) q461 (fun _ h => h) (Or.inl rfl) rfl (by decide) dX3_extent_91 (fun H locs hP hL => ?_)
      refine p_nmP hP (fun σ8 hσ8 hP => ?_)
      have hf := hf σ8 hσ8
      have ht1 : tg_ σ8 x0 = 3 := by rw [hσ8]; exact ht1
      have ht4 : tg_ σ8 x1 = 6 := by rw [hσ8]; exact ht4
      refine lv_iconst (v := 0) hx hb dX3_extent_94 (by decide) ?_
      exact p_iret X hlk hP hL (Nat.le_refl _) (Nat.le_refl _) hr dX3_extent_95 hf
    · have hf := hf.2 c6
      refine lv_goto (tgt := 0) hx hb dX3_extent_81 (by decide) ?_
      exact hrc0 _ hf _ _ _ _ _ hP hL ⟨rfl, rfl⟩ (lv_sub hl [0, 1] rfl)
  · have hf := hf.2 c3
    refine lv_bipush (v := (-4)) hx hb dX3_extent_70 (by decide) ?_
    exact p_iret X hlk hP hL (Nat.le_refl _) (Nat.le_refl _) hr dX3_extent_72 hf
set_option maxHeartbeats 4000000 in
theorem sX3_extent_B29 {G : GG_} {p : Program} {l : Launch} {e : Env} {R : Room} {s : State} {m : MethodId} {args : Array Value} {below : List Frame} {meth : Method} {c : Code} (Y : MX_ G p R s m args meth c cX3_extent 4 RX3 (some Jvm.ClassFile.FieldType.int) 4 86 0 0 "extent") {post : Int32 → Hp → Prop} {rc0 : Hp → Prop} {rc29 : Int32 → Hp → Prop} {x0 : Nat} {x1 : Nat} {x2 : Int32} {x3 : Int32} {σ : Hp} (hrc0 : ∀  (σ : Hp), rc0 σ → WG_ G p l e R s m args below meth c (MQ below (QI_ G post) args s 0 0 (FR_ G)) BN_ 4 0 [(0, rv_ x0), (1, rv_ x1)] [] σ) (hrc29 : ∀ (x3 : Int32) (σ : Hp), rc29 x3 σ → WG_ G p l e R s m args below meth c (MQ below (QI_ G post) args s 0 0 (FR_ G)) BN_ 4 29 [(0, rv_ x0), (1, rv_ x1), (2, .int x2), (3, .int x3)] [] σ) (hf : wX3_extent_B29 post rc0 rc29 x0 x1 x2 x3 σ) : WG_ G p l e R s m args below meth c (MQ below (QI_ G post) args s 0 0 (FR_ G)) BN_ 4 29 [(0, rv_ x0), (1, rv_ x1), (2, .int x2), (3, .int x3)] [] σ := by
  have ⟨X, hlk, hr, hRf, hRl, hRc, hnm⟩ := Y
  have ⟨⟨hx, hb, _, hown, hts⟩, _, _⟩ := X
  intro H locs cells slots ls hP hL hB hl
  obtain ⟨rfl, rfl⟩ := hB
  unfold wX3_extent_B29 at hf
  refine lv_iload_n hx hb dX3_extent_29 rfl (lv_at hl 3 rfl) ?_
  refine p_aload_n hx hb dX3_extent_30 rfl (lv_at hl 1 rfl) ?_
  obtain ⟨ht9, hf⟩ := hf
  refine p_calli hL (p_runV X cf5_ hP ht9 (metX6_need l G _ _ _ X.2.2 hf) (cwV 0 hts (lw_V q821 q822 q823 q93 q824) rfl rfl rfl (by decide +kernel) ⟨Nat.le_trans (Nat.le_of_ble_eq_true rfl) hRf, Nat.le_trans (Nat.le_of_ble_eq_true rfl) hRl⟩) rfl hl.1 rfl (by rw [(ca_i ca_n)]; decide) dX3_extent_31 ⟨Nat.zero_le _, Nat.zero_le _⟩) (fun r10 σ₁ H locs hf hP hL => ?_)
  obtain ⟨e₁, hf⟩ := hf
  rw [e₁] at hP
  refine lv_icmp_ge (tgt := 60) hx hb dX3_extent_34 (by decide) (fun c11 => ?_) (fun c11 => ?_)
  · have hf := hf.1 c11
    exact sX3_extent_L60 Y hrc0 hf _ _ _ _ _ hP hL ⟨rfl, rfl⟩ (lv_sub hl [0, 1, 2, 3] rfl)
  · have hf := hf.2 c11
    refine p_aload_n hx hb dX3_extent_37 rfl (lv_at hl 0 rfl) ?_
    refine lv_iload_n hx hb dX3_extent_38 rfl (lv_at hl 2 rfl) ?_
    refine lv_iload_n hx hb dX3_extent_39 rfl (lv_at hl 3 rfl) ?_
    refine lv_iadd hx hb dX3_extent_40 ?_
    refine p_aload_n hx hb dX3_extent_41 rfl (lv_at hl 0 rfl) ?_
    refine p_aload_n hx hb dX3_extent_42 rfl (lv_at hl 1 rfl) ?_
    refine lv_iload_n hx hb dX3_extent_43 rfl (lv_at hl 3 rfl) ?_
    obtain ⟨ht12, hf⟩ := hf
    refine p_callr hL (p_runV X cf2_ hP ht12 (metX3_contentOf l G _ _ _ _ _ X.2.2 hf) (cwV 2 hts (lw_V q825 q827 qs7 q87 q828) rfl rfl rfl (by decide +kernel) ⟨Nat.le_trans (Nat.le_of_ble_eq_true rfl) hRf, Nat.le_trans (Nat.le_of_ble_eq_true rfl) hRl⟩) rfl hl.1 rfl (by rw [(ca_i (ca_r ca_n))]; decide) dX3_extent_44 ⟨Nat.zero_le _, Nat.zero_le _⟩) (fun r13 σ14 H locs hf hP hL => ?_)
    refine lv_iconst (v := 0) hx hb dX3_extent_47 (by decide) ?_
    obtain ⟨ht15, hf⟩ := hf
    refine p_calli hL (p_runV X cf2_ hP ht15 (metX3_writes l G _ _ _ _ _ _ X.2.2 hf) (cwV 3 hts (lw_V q837 q839 qs9 q87 q840) rfl rfl rfl (by decide +kernel) ⟨Nat.le_trans (Nat.le_of_ble_eq_true rfl) hRf, Nat.le_trans (Nat.le_of_ble_eq_true rfl) hRl⟩) rfl hl.1 rfl (by decide) dX3_extent_48 ⟨Nat.zero_le _, Nat.zero_le _⟩) (fun r16 σ17 H locs hf hP hL => ?_)
    refine lv_if_eq (tgt := 60) hx hb dX3_extent_51 (by decide) (fun c18 => ?_) (fun c18 => ?_)
    · have hf := hf.1 c18
      exact sX3_extent_L60 Y hrc0 hf _ _ _ _ _ hP hL ⟨rfl, rfl⟩ (lv_sub hl [0, 1, 2, 3] rfl)
    · have hf := hf.2 c18
      have hl := lv_sub hl [3, 0, 1, 2] rfl
      refine p_iincc (i := 3) (k := 1) hx hb (by decide) dX3_extent_54 hl (by decide) ⟨⟨ne_ rfl, Or.inl (ne_ rfl)⟩, ⟨⟨ne_ rfl, Or.inl (ne_ rfl)⟩, ⟨⟨ne_ rfl, Or.inr rfl⟩, trivial⟩⟩⟩ (fun y19 hy19 ls hl => ?_)
      have hf := hf y19 hy19
      refine lv_goto (tgt := 29) hx hb dX3_extent_57 (by decide) ?_
      exact hrc29 _ _ hf _ _ _ _ _ hP hL ⟨rfl, rfl⟩ (lv_sub hl [1, 2, 3, 0] rfl)
set_option maxHeartbeats 4000000 in
theorem sX3_extent_L29 {G : GG_} {p : Program} {l : Launch} {e : Env} {R : Room} {s : State} {m : MethodId} {args : Array Value} {below : List Frame} {meth : Method} {c : Code} (Y : MX_ G p R s m args meth c cX3_extent 4 RX3 (some Jvm.ClassFile.FieldType.int) 4 86 0 0 "extent") {post : Int32 → Hp → Prop} {rc0 : Hp → Prop} {x0 : Nat} {x1 : Nat} {x2 : Int32} {x3 : Int32} {σ : Hp} (hrc0 : ∀  (σ : Hp), rc0 σ → WG_ G p l e R s m args below meth c (MQ below (QI_ G post) args s 0 0 (FR_ G)) BN_ 4 0 [(0, rv_ x0), (1, rv_ x1)] [] σ) (hf : wX3_extent_L29 post rc0 x0 x1 x2 x3 σ) : WG_ G p l e R s m args below meth c (MQ below (QI_ G post) args s 0 0 (FR_ G)) BN_ 4 29 [(0, rv_ x0), (1, rv_ x1), (2, .int x2), (3, .int x3)] [] σ := by
  unfold wX3_extent_L29 at hf
  obtain ⟨I, μ, h0, hI⟩ := hf
  have key : ∀ (n : Nat) (x3 : Int32) (σ : Hp), I x3 σ → μ x3 σ < n → WG_ G p l e R s m args below meth c (MQ below (QI_ G post) args s 0 0 (FR_ G)) BN_ 4 29 [(0, rv_ x0), (1, rv_ x1), (2, .int x2), (3, .int x3)] [] σ := by
    intro n
    induction n with
    | zero => intro x3 σ _ h; exact absurd h (Nat.not_lt_zero _)
    | succ n ih => intro x3 σ hi hn; exact sX3_extent_B29 Y hrc0 (fun x3' σ' h => ih x3' σ' h.1 (Nat.lt_of_lt_of_le h.2 (Nat.le_of_lt_succ hn))) (hI x3 σ hi)
  exact key _ _ _ h0 (Nat.lt_succ_self _)
set_option maxHeartbeats 4000000 in
theorem sX3_extent_B0 {G : GG_} {p : Program} {l : Launch} {e : Env} {R : Room} {s : State} {m : MethodId} {args : Array Value} {below : List Frame} {meth : Method} {c : Code} (Y : MX_ G p R s m args meth c cX3_extent 4 RX3 (some Jvm.ClassFile.FieldType.int) 4 86 0 0 "extent") {post : Int32 → Hp → Prop} {rc0 : Hp → Prop} {x0 : Nat} {x1 : Nat} {σ : Hp} (hrc0 : ∀  (σ : Hp), rc0 σ → WG_ G p l e R s m args below meth c (MQ below (QI_ G post) args s 0 0 (FR_ G)) BN_ 4 0 [(0, rv_ x0), (1, rv_ x1)] [] σ) (hf : wX3_extent_B0 post rc0 x0 x1 σ) : WG_ G p l e R s m args below meth c (MQ below (QI_ G post) args s 0 0 (FR_ G)) BN_ 4 0 [(0, rv_ x0), (1, rv_ x1)] [] σ := by
  have ⟨X, hlk, hr, hRf, hRl, hRc, hnm⟩ := Y
  have ⟨⟨hx, hb, _, hown, hts⟩, _, _⟩ := X
  intro H locs cells slots ls hP hL hB hl
  obtain ⟨rfl, rfl⟩ := hB
  unfold wX3_extent_B0 at hf
  refine p_aload_n hx hb dX3_extent_0 rfl (lv_at hl 0 rfl) ?_
  obtain ⟨ht20, hf⟩ := hf
  refine p_gR X cf2_ (k := 0) (by decide) rfl hP ht20 q185 (fun _ h => h) dX3_extent_1 ?_
  obtain ⟨ht21, hf⟩ := hf
  refine p_calli hL (p_runV X cf6_ hP ht21 (metX7_front l G _ _ _ X.2.2 hf) (cwV 0 hts (lw_V q817 q818 q819 q104 q820) rfl rfl rfl (by decide +kernel) ⟨Nat.le_trans (Nat.le_of_ble_eq_true rfl) hRf, Nat.le_trans (Nat.le_of_ble_eq_true rfl) hRl⟩) rfl hl.1 rfl (by decide) dX3_extent_4 ⟨Nat.zero_le _, Nat.zero_le _⟩) (fun r22 σ₁ H locs hf hP hL => ?_)
  obtain ⟨e₁, hf⟩ := hf
  rw [e₁] at hP
  refine p_istore_n (i := 2) hx hb dX3_extent_7 rfl hl (by decide) ⟨⟨ne_ rfl, Or.inl (ne_ rfl)⟩, ⟨⟨ne_ rfl, Or.inr (rv_cat _)⟩, trivial⟩⟩ (fun ls hl => ?_)
  refine lv_iload_n hx hb dX3_extent_8 rfl (lv_at hl 0 rfl) ?_
  refine p_aload_n hx hb dX3_extent_9 rfl (lv_at hl 2 rfl) ?_
  obtain ⟨ht23, hf⟩ := hf
  refine p_calli hL (p_runV X cf5_ hP ht23 (metX6_need l G _ _ _ X.2.2 hf) (cwV 0 hts (lw_V q821 q822 q823 q93 q824) rfl rfl rfl (by decide +kernel) ⟨Nat.le_trans (Nat.le_of_ble_eq_true rfl) hRf, Nat.le_trans (Nat.le_of_ble_eq_true rfl) hRl⟩) rfl hl.1 rfl (by rw [(ca_i ca_n)]; decide) dX3_extent_10 ⟨Nat.zero_le _, Nat.zero_le _⟩) (fun r24 σ₁ H locs hf hP hL => ?_)
  obtain ⟨e₁, hf⟩ := hf
  rw [e₁] at hP
  refine lv_iadd hx hb dX3_extent_13 ?_
  refine p_aload_n hx hb dX3_extent_14 rfl (lv_at hl 1 rfl) ?_
  refine p_gR X cf2_ (k := 0) (by decide) rfl hP ht20 q185 (fun _ h => h) dX3_extent_15 ?_
  refine p_gI X cf6_ (k := 0) (by decide) rfl hP ht21 q558 (fun _ h => h) dX3_extent_18 ?_
  refine lv_icmp_le (tgt := 27) hx hb dX3_extent_21 (by decide) (fun c25 => ?_) (fun c25 => ?_)
  · have hf := hf.1 c25
    refine lv_iconst (v := 0) hx hb dX3_extent_27 (by decide) ?_
    refine p_istore_n (i := 3) hx hb dX3_extent_28 rfl hl (by decide) ⟨⟨ne_ rfl, Or.inr rfl⟩, ⟨⟨ne_ rfl, Or.inl (ne_ rfl)⟩, ⟨⟨ne_ rfl, Or.inl (ne_ rfl)⟩, trivial⟩⟩⟩ (fun ls hl => ?_)
    exact sX3_extent_L29 Y hrc0 hf _ _ _ _ _ hP hL ⟨rfl, rfl⟩ (lv_sub hl [2, 3, 1, 0] rfl)
  · have hf := hf.2 c25
    refine lv_bipush (v := (-3)) hx hb dX3_extent_24 (by decide) ?_
    exact p_iret X hlk hP hL (Nat.le_refl _) (Nat.le_refl _) hr dX3_extent_26 hf
set_option maxHeartbeats 4000000 in
theorem sX3_extent_L0 {G : GG_} {p : Program} {l : Launch} {e : Env} {R : Room} {s : State} {m : MethodId} {args : Array Value} {below : List Frame} {meth : Method} {c : Code} (Y : MX_ G p R s m args meth c cX3_extent 4 RX3 (some Jvm.ClassFile.FieldType.int) 4 86 0 0 "extent") {post : Int32 → Hp → Prop} {x0 : Nat} {x1 : Nat} {σ : Hp} (hf : wX3_extent_L0 post x0 x1 σ) : WG_ G p l e R s m args below meth c (MQ below (QI_ G post) args s 0 0 (FR_ G)) BN_ 4 0 [(0, rv_ x0), (1, rv_ x1)] [] σ := by
  unfold wX3_extent_L0 at hf
  obtain ⟨I, μ, h0, hI⟩ := hf
  have key : ∀ (n : Nat)  (σ : Hp), I σ → μ σ < n → WG_ G p l e R s m args below meth c (MQ below (QI_ G post) args s 0 0 (FR_ G)) BN_ 4 0 [(0, rv_ x0), (1, rv_ x1)] [] σ := by
    intro n
    induction n with
    | zero => intro σ _ h; exact absurd h (Nat.not_lt_zero _)
    | succ n ih => intro σ hi hn; exact sX3_extent_B0 Y (fun σ' h => ih σ' h.1 (Nat.lt_of_lt_of_le h.2 (Nat.le_of_lt_succ hn))) (hI σ hi)
  exact key _ _ h0 (Nat.lt_succ_self _)
set_option maxHeartbeats 4000000 in
theorem sX3_extent {G : GG_} {p : Program} {l : Launch} {e : Env} {R : Room} {s : State} {m : MethodId} {args : Array Value} {below : List Frame} {meth : Method} {c : Code} (Y : MX_ G p R s m args meth c cX3_extent 4 RX3 (some Jvm.ClassFile.FieldType.int) 4 86 0 0 "extent") {post : Int32 → Hp → Prop} {x0 : Nat} {x1 : Nat} {σ : Hp} (hf : wX3_extent x0 x1 σ post) : WG_ G p l e R s m args below meth c (MQ below (QI_ G post) args s 0 0 (FR_ G)) BN_ 4 0 [(0, rv_ x0), (1, rv_ x1)] [] σ := by
  intro H locs cells slots ls hP hL hB hl
  exact sX3_extent_L0 Y hf _ _ _ _ _ hP hL hB (lv_sub hl [0, 1] rfl)
set_option maxHeartbeats 4000000 in
theorem metX3_extent (l : Launch) (G : GG_) (x0 : Nat) (x1 : Nat) (σ : Hp) (post : Int32 → Hp → Prop) (hG : GOK_ G) (hf : wX3_extent x0 x1 σ post) : Met l yX3_extent (ws_ yX3_extent cX3_extent 4 (some Jvm.ClassFile.FieldType.int)) { frames := 4, cells := 0, slots := 0, locals := 86 } (PC_ G [rv_ x0, rv_ x1] σ) (QI_ G post) 0 0 (FR_ G) := by
  refine Met.ofW (cc := cX3_extent) (maxL := 4) (ret := (some Jvm.ClassFile.FieldType.int)) (by decide) rfl ?_
  intro p e s m args below meth c s₁ B hml hv
  obtain ⟨rfl, hP, hW⟩ := hv
  have hts := atoms_spec (ws := ws_ yX3_extent cX3_extent 4 (some Jvm.ClassFile.FieldType.int)) B.pre
  have hts : ∀ w ∈ lw_all, w.before _ s = true := fun w h => hts w (List.mem_cons_of_mem _ h)
  rw [lg_entry_eq]
  have hl := en_entry [rv_ x0, rv_ x1] [1, 1] (n := 4) (ca_r (ca_r ca_n)) (by decide)
  exact sX3_extent ⟨⟨⟨B.exec, B.bytes, hml, findClass_of_methodNamed B.named, hts⟩, hW, hG⟩, B.notSynchronized, B.returns, Nat.le_refl _, Nat.le_refl _, ⟨rfl, rfl⟩, (name_of_methodNamed B.named B.method).1⟩ hf _ _ _ _ _ hP (LO_nil G) ⟨rfl, rfl⟩ hl
abbrev cX1_isBefore : ByteArray := prog_1_method_3_code
def yX1_isBefore : MethodName := ⟨RX1, "isBefore", "(Ljava/lang/String;Ljava/lang/String;)Z"⟩
theorem dX1_isBefore_0 : decode cX1_isBefore 0 = .ok (.iconst 0, 1) := by decide +kernel
theorem dX1_isBefore_1 : decode cX1_isBefore 1 = .ok (.istore_n 2, 1) := by decide +kernel
theorem dX1_isBefore_2 : decode cX1_isBefore 2 = .ok (.iload_n 2, 1) := by decide +kernel
theorem dX1_isBefore_3 : decode cX1_isBefore 3 = .ok (.aload_n 0, 1) := by decide +kernel
theorem dX1_isBefore_4 : decode cX1_isBefore 4 = .ok (.invokevirtual 23, 3) := by decide +kernel
theorem dX1_isBefore_7 : decode cX1_isBefore 7 = .ok (.if_icmp .ge 49, 3) := by decide +kernel
theorem dX1_isBefore_10 : decode cX1_isBefore 10 = .ok (.iload_n 2, 1) := by decide +kernel
theorem dX1_isBefore_11 : decode cX1_isBefore 11 = .ok (.aload_n 1, 1) := by decide +kernel
theorem dX1_isBefore_12 : decode cX1_isBefore 12 = .ok (.invokevirtual 23, 3) := by decide +kernel
theorem dX1_isBefore_15 : decode cX1_isBefore 15 = .ok (.if_icmp .ge 41, 3) := by decide +kernel
theorem dX1_isBefore_18 : decode cX1_isBefore 18 = .ok (.aload_n 0, 1) := by decide +kernel
theorem dX1_isBefore_19 : decode cX1_isBefore 19 = .ok (.iload_n 2, 1) := by decide +kernel
theorem dX1_isBefore_20 : decode cX1_isBefore 20 = .ok (.invokevirtual 29, 3) := by decide +kernel
theorem dX1_isBefore_23 : decode cX1_isBefore 23 = .ok (.aload_n 1, 1) := by decide +kernel
theorem dX1_isBefore_24 : decode cX1_isBefore 24 = .ok (.iload_n 2, 1) := by decide +kernel
theorem dX1_isBefore_25 : decode cX1_isBefore 25 = .ok (.invokevirtual 29, 3) := by decide +kernel
theorem dX1_isBefore_28 : decode cX1_isBefore 28 = .ok (.if_icmp .eq 22, 3) := by decide +kernel
theorem dX1_isBefore_31 : decode cX1_isBefore 31 = .ok (.aload_n 0, 1) := by decide +kernel
theorem dX1_isBefore_32 : decode cX1_isBefore 32 = .ok (.iload_n 2, 1) := by decide +kernel
theorem dX1_isBefore_33 : decode cX1_isBefore 33 = .ok (.invokevirtual 29, 3) := by decide +kernel
theorem dX1_isBefore_36 : decode cX1_isBefore 36 = .ok (.aload_n 1, 1) := by decide +kernel
theorem dX1_isBefore_37 : decode cX1_isBefore 37 = .ok (.iload_n 2, 1) := by decide +kernel
theorem dX1_isBefore_38 : decode cX1_isBefore 38 = .ok (.invokevirtual 29, 3) := by decide +kernel
theorem dX1_isBefore_41 : decode cX1_isBefore 41 = .ok (.if_icmp .ge 7, 3) := by decide +kernel
theorem dX1_isBefore_44 : decode cX1_isBefore 44 = .ok (.iconst 1, 1) := by decide +kernel
theorem dX1_isBefore_45 : decode cX1_isBefore 45 = .ok (.goto 4, 3) := by decide +kernel
theorem dX1_isBefore_48 : decode cX1_isBefore 48 = .ok (.iconst 0, 1) := by decide +kernel
theorem dX1_isBefore_49 : decode cX1_isBefore 49 = .ok (.ireturn, 1) := by decide +kernel
theorem dX1_isBefore_50 : decode cX1_isBefore 50 = .ok (.iinc 2 1, 3) := by decide +kernel
theorem dX1_isBefore_53 : decode cX1_isBefore 53 = .ok (.goto (-51), 3) := by decide +kernel
theorem dX1_isBefore_56 : decode cX1_isBefore 56 = .ok (.aload_n 0, 1) := by decide +kernel
theorem dX1_isBefore_57 : decode cX1_isBefore 57 = .ok (.invokevirtual 23, 3) := by decide +kernel
theorem dX1_isBefore_60 : decode cX1_isBefore 60 = .ok (.aload_n 1, 1) := by decide +kernel
theorem dX1_isBefore_61 : decode cX1_isBefore 61 = .ok (.invokevirtual 23, 3) := by decide +kernel
theorem dX1_isBefore_64 : decode cX1_isBefore 64 = .ok (.if_icmp .ge 7, 3) := by decide +kernel
theorem dX1_isBefore_67 : decode cX1_isBefore 67 = .ok (.iconst 1, 1) := by decide +kernel
theorem dX1_isBefore_68 : decode cX1_isBefore 68 = .ok (.goto 4, 3) := by decide +kernel
theorem dX1_isBefore_71 : decode cX1_isBefore 71 = .ok (.iconst 0, 1) := by decide +kernel
theorem dX1_isBefore_72 : decode cX1_isBefore 72 = .ok (.ireturn, 1) := by decide +kernel
/-- WriteOnceDisc.isBefore(Ljava/lang/String;Ljava/lang/String;)Z -/
def wX1_isBefore_L56 (post : Int32 → Prop) (x0 : Nat) (x1 : Nat) (σ : Hp) : Prop :=
(tg_ σ x0 = 13 ∧ (wJ5_length x0  σ (fun r2 => (tg_ σ x1 = 13 ∧ (wJ5_length x1  σ (fun r4 => ((r4 ≤ r2 →
  post (0 : Int32)) ∧
 (¬ r4 ≤ r2 →
  post (1 : Int32)))))))))
def wX1_isBefore_B2 (post : Int32 → Prop) (rc2 : Int32 → Prop) (x0 : Nat) (x1 : Nat) (x2 : Int32) (σ : Hp) : Prop :=
(tg_ σ x0 = 13 ∧ (wJ5_length x0  σ (fun r7 => ((r7 ≤ x2 →
  wX1_isBefore_L56 post x0 x1 σ) ∧
 (¬ r7 ≤ x2 →
  (tg_ σ x1 = 13 ∧ (wJ5_length x1  σ (fun r10 => ((r10 ≤ x2 →
   wX1_isBefore_L56 post x0 x1 σ) ∧
  (¬ r10 ≤ x2 →
   (wJ5_charAt x0 x2 σ (fun r12 => (wJ5_charAt x1 x2 σ (fun r13 => ((r12 = r13 →
    (∀ y15 : Int32, y15 = x2 + 1 → rc2 y15)) ∧
   (¬ r12 = r13 →
    (wJ5_charAt x0 x2 σ (fun r16 => (wJ5_charAt x1 x2 σ (fun r17 => ((r17 ≤ r16 →
     post (0 : Int32)) ∧
    (¬ r17 ≤ r16 →
     post (1 : Int32)))))))))))))))))))))))
def wX1_isBefore_L2 (post : Int32 → Prop) (x0 : Nat) (x1 : Nat) (x2 : Int32) (σ : Hp) : Prop :=
 ∃ (I : Int32 → Prop) (μ : Int32 → Nat), I x2 ∧ ∀ (x2 : Int32), I x2 → wX1_isBefore_B2 post (fun x2' => I x2' ∧ μ x2' < μ x2) x0 x1 x2 σ
def wX1_isBefore (x0 : Nat) (x1 : Nat) (σ : Hp) (post : Int32 → Prop) : Prop :=
wX1_isBefore_L2 post x0 x1 (0 : Int32) σ
set_option maxHeartbeats 4000000 in
theorem sX1_isBefore_L56 {G : GG_} {p : Program} {l : Launch} {e : Env} {R : Room} {s : State} {m : MethodId} {args : Array Value} {below : List Frame} {meth : Method} {c : Code} (Y : MX_ G p R s m args meth c cX1_isBefore 3 RX1 (some Jvm.ClassFile.FieldType.boolean) 5 105 0 0 "isBefore") {post : Int32 → Prop} {x0 : Nat} {x1 : Nat} {σ : Hp} (hf : wX1_isBefore_L56 post x0 x1 σ) : WG_ G p l e R s m args below meth c (MQ below (QI_ G (fun r τ => τ = σ ∧ post r)) args s 0 0 (FR_ G)) BN_ 3 56 [(0, rv_ x0), (1, rv_ x1)] [] σ := by
  have ⟨X, hlk, hr, hRf, hRl, hRc, hnm⟩ := Y
  have ⟨⟨hx, hb, _, hown, hts⟩, _, _⟩ := X
  intro H locs cells slots ls hP hL hB hl
  obtain ⟨rfl, rfl⟩ := hB
  unfold wX1_isBefore_L56 at hf
  refine p_aload_n hx hb dX1_isBefore_56 rfl (lv_at hl 0 rfl) ?_
  obtain ⟨ht1, hf⟩ := hf
  refine p_calli hL (p_runV X cf12_ hP ht1 (metJ5_length l G _ _ _ X.2.2 hf) (cwV 0 hts (lw_V q735 q332 q333 q96 q334) rfl rfl rfl (by decide +kernel) ⟨Nat.le_trans (Nat.le_of_ble_eq_true rfl) hRf, Nat.le_trans (Nat.le_of_ble_eq_true rfl) hRl⟩) rfl hl.1 rfl (by decide) dX1_isBefore_57 ⟨Nat.zero_le _, Nat.zero_le _⟩) (fun r2 σ₁ H locs hf hP hL => ?_)
  obtain ⟨e₁, hf⟩ := hf
  rw [e₁] at hP
  refine p_aload_n hx hb dX1_isBefore_60 rfl (lv_at hl 1 rfl) ?_
  obtain ⟨ht3, hf⟩ := hf
  refine p_calli hL (p_runV X cf12_ hP ht3 (metJ5_length l G _ _ _ X.2.2 hf) (cwV 0 hts (lw_V q735 q332 q333 q96 q334) rfl rfl rfl (by decide +kernel) ⟨Nat.le_trans (Nat.le_of_ble_eq_true rfl) hRf, Nat.le_trans (Nat.le_of_ble_eq_true rfl) hRl⟩) rfl hl.1 rfl (by rw [(ca_i ca_n)]; decide) dX1_isBefore_61 ⟨Nat.zero_le _, Nat.zero_le _⟩) (fun r4 σ₁ H locs hf hP hL => ?_)
  obtain ⟨e₁, hf⟩ := hf
  rw [e₁] at hP
  refine lv_icmp_ge (tgt := 71) hx hb dX1_isBefore_64 (by decide) (fun c5 => ?_) (fun c5 => ?_)
  · have hf := hf.1 c5
    refine lv_iconst (v := 0) hx hb dX1_isBefore_71 (by decide) ?_
    exact p_zret X hlk hP hL (Nat.le_refl _) (Nat.le_refl _) hr nr_0 dX1_isBefore_72 ⟨rfl, hf⟩
  · have hf := hf.2 c5
    refine lv_iconst (v := 1) hx hb dX1_isBefore_67 (by decide) ?_
    refine lv_goto (tgt := 72) hx hb dX1_isBefore_68 (by decide) ?_
    exact p_zret X hlk hP hL (Nat.le_refl _) (Nat.le_refl _) hr nr_1 dX1_isBefore_72 ⟨rfl, hf⟩
set_option maxHeartbeats 4000000 in
theorem sX1_isBefore_B2 {G : GG_} {p : Program} {l : Launch} {e : Env} {R : Room} {s : State} {m : MethodId} {args : Array Value} {below : List Frame} {meth : Method} {c : Code} (Y : MX_ G p R s m args meth c cX1_isBefore 3 RX1 (some Jvm.ClassFile.FieldType.boolean) 5 105 0 0 "isBefore") {post : Int32 → Prop} {rc2 : Int32 → Prop} {x0 : Nat} {x1 : Nat} {x2 : Int32} {σ : Hp} (hrc2 : ∀ (x2 : Int32), rc2 x2 → WG_ G p l e R s m args below meth c (MQ below (QI_ G (fun r τ => τ = σ ∧ post r)) args s 0 0 (FR_ G)) BN_ 3 2 [(0, rv_ x0), (1, rv_ x1), (2, .int x2)] [] σ) (hf : wX1_isBefore_B2 post rc2 x0 x1 x2 σ) : WG_ G p l e R s m args below meth c (MQ below (QI_ G (fun r τ => τ = σ ∧ post r)) args s 0 0 (FR_ G)) BN_ 3 2 [(0, rv_ x0), (1, rv_ x1), (2, .int x2)] [] σ := by
  have ⟨X, hlk, hr, hRf, hRl, hRc, hnm⟩ := Y
  have ⟨⟨hx, hb, _, hown, hts⟩, _, _⟩ := X
  intro H locs cells slots ls hP hL hB hl
  obtain ⟨rfl, rfl⟩ := hB
  unfold wX1_isBefore_B2 at hf
  refine lv_iload_n hx hb dX1_isBefore_2 rfl (lv_at hl 2 rfl) ?_
  refine p_aload_n hx hb dX1_isBefore_3 rfl (lv_at hl 0 rfl) ?_
  obtain ⟨ht6, hf⟩ := hf
  refine p_calli hL (p_runV X cf12_ hP ht6 (metJ5_length l G _ _ _ X.2.2 hf) (cwV 0 hts (lw_V q735 q332 q333 q96 q334) rfl rfl rfl (by decide +kernel) ⟨Nat.le_trans (Nat.le_of_ble_eq_true rfl) hRf, Nat.le_trans (Nat.le_of_ble_eq_true rfl) hRl⟩) rfl hl.1 rfl (by rw [(ca_i ca_n)]; decide) dX1_isBefore_4 ⟨Nat.zero_le _, Nat.zero_le _⟩) (fun r7 σ₁ H locs hf hP hL => ?_)
  obtain ⟨e₁, hf⟩ := hf
  rw [e₁] at hP
  refine lv_icmp_ge (tgt := 56) hx hb dX1_isBefore_7 (by decide) (fun c8 => ?_) (fun c8 => ?_)
  · have hf := hf.1 c8
    exact sX1_isBefore_L56 Y hf _ _ _ _ _ hP hL ⟨rfl, rfl⟩ (lv_sub hl [0, 1] rfl)
  · have hf := hf.2 c8
    refine lv_iload_n hx hb dX1_isBefore_10 rfl (lv_at hl 2 rfl) ?_
    refine p_aload_n hx hb dX1_isBefore_11 rfl (lv_at hl 1 rfl) ?_
    obtain ⟨ht9, hf⟩ := hf
    refine p_calli hL (p_runV X cf12_ hP ht9 (metJ5_length l G _ _ _ X.2.2 hf) (cwV 0 hts (lw_V q735 q332 q333 q96 q334) rfl rfl rfl (by decide +kernel) ⟨Nat.le_trans (Nat.le_of_ble_eq_true rfl) hRf, Nat.le_trans (Nat.le_of_ble_eq_true rfl) hRl⟩) rfl hl.1 rfl (by rw [(ca_i ca_n)]; decide) dX1_isBefore_12 ⟨Nat.zero_le _, Nat.zero_le _⟩) (fun r10 σ₁ H locs hf hP hL => ?_)
    obtain ⟨e₁, hf⟩ := hf
    rw [e₁] at hP
    refine lv_icmp_ge (tgt := 56) hx hb dX1_isBefore_15 (by decide) (fun c11 => ?_) (fun c11 => ?_)
    · have hf := hf.1 c11
      exact sX1_isBefore_L56 Y hf _ _ _ _ _ hP hL ⟨rfl, rfl⟩ (lv_sub hl [0, 1] rfl)
    · have hf := hf.2 c11
      refine p_aload_n hx hb dX1_isBefore_18 rfl (lv_at hl 0 rfl) ?_
      refine lv_iload_n hx hb dX1_isBefore_19 rfl (lv_at hl 2 rfl) ?_
      refine p_calli hL (p_runV X cf12_ hP ht6 (metJ5_charAt l G _ _ _ _ X.2.2 hf) (cwV 1 hts (lw_V q862 q863 q864 q96 q865) rfl rfl rfl (by decide +kernel) ⟨Nat.le_trans (Nat.le_of_ble_eq_true rfl) hRf, Nat.le_trans (Nat.le_of_ble_eq_true rfl) hRl⟩) rfl hl.1 rfl (by decide) dX1_isBefore_20 ⟨Nat.zero_le _, Nat.zero_le _⟩) (fun r12 σ₁ H locs hf hP hL => ?_)
      obtain ⟨e₁, hf⟩ := hf
      rw [e₁] at hP
      refine p_aload_n hx hb dX1_isBefore_23 rfl (lv_at hl 1 rfl) ?_
      refine lv_iload_n hx hb dX1_isBefore_24 rfl (lv_at hl 2 rfl) ?_
      refine p_calli hL (p_runV X cf12_ hP ht9 (metJ5_charAt l G _ _ _ _ X.2.2 hf) (cwV 1 hts (lw_V q862 q863 q864 q96 q865) rfl rfl rfl (by decide +kernel) ⟨Nat.le_trans (Nat.le_of_ble_eq_true rfl) hRf, Nat.le_trans (Nat.le_of_ble_eq_true rfl) hRl⟩) rfl hl.1 rfl (by rw [(ca_i ca_n)]; decide) dX1_isBefore_25 ⟨Nat.zero_le _, Nat.zero_le _⟩) (fun r13 σ₁ H locs hf hP hL => ?_)
      obtain ⟨e₁, hf⟩ := hf
      rw [e₁] at hP
      refine lv_icmp_eq (tgt := 50) hx hb dX1_isBefore_28 (by decide) (fun c14 => ?_) (fun c14 => ?_)
      · have hf := hf.1 c14
        have hl := lv_sub hl [2, 0, 1] rfl
        refine p_iincc (i := 2) (k := 1) hx hb (by decide) dX1_isBefore_50 hl (by decide) ⟨⟨ne_ rfl, Or.inl (ne_ rfl)⟩, ⟨⟨ne_ rfl, Or.inr (rv_cat _)⟩, trivial⟩⟩ (fun y15 hy15 ls hl => ?_)
        have hf := hf y15 hy15
        refine lv_goto (tgt := 2) hx hb dX1_isBefore_53 (by decide) ?_
        exact hrc2 _ hf _ _ _ _ _ hP hL ⟨rfl, rfl⟩ (lv_sub hl [1, 2, 0] rfl)
      · have hf := hf.2 c14
        refine p_aload_n hx hb dX1_isBefore_31 rfl (lv_at hl 0 rfl) ?_
        refine lv_iload_n hx hb dX1_isBefore_32 rfl (lv_at hl 2 rfl) ?_
        refine p_calli hL (p_runV X cf12_ hP ht6 (metJ5_charAt l G _ _ _ _ X.2.2 hf) (cwV 1 hts (lw_V q862 q863 q864 q96 q865) rfl rfl rfl (by decide +kernel) ⟨Nat.le_trans (Nat.le_of_ble_eq_true rfl) hRf, Nat.le_trans (Nat.le_of_ble_eq_true rfl) hRl⟩) rfl hl.1 rfl (by decide) dX1_isBefore_33 ⟨Nat.zero_le _, Nat.zero_le _⟩) (fun r16 σ₁ H locs hf hP hL => ?_)
        obtain ⟨e₁, hf⟩ := hf
        rw [e₁] at hP
        refine p_aload_n hx hb dX1_isBefore_36 rfl (lv_at hl 1 rfl) ?_
        refine lv_iload_n hx hb dX1_isBefore_37 rfl (lv_at hl 2 rfl) ?_
        refine p_calli hL (p_runV X cf12_ hP ht9 (metJ5_charAt l G _ _ _ _ X.2.2 hf) (cwV 1 hts (lw_V q862 q863 q864 q96 q865) rfl rfl rfl (by decide +kernel) ⟨Nat.le_trans (Nat.le_of_ble_eq_true rfl) hRf, Nat.le_trans (Nat.le_of_ble_eq_true rfl) hRl⟩) rfl hl.1 rfl (by rw [(ca_i ca_n)]; decide) dX1_isBefore_38 ⟨Nat.zero_le _, Nat.zero_le _⟩) (fun r17 σ₁ H locs hf hP hL => ?_)
        obtain ⟨e₁, hf⟩ := hf
        rw [e₁] at hP
        refine lv_icmp_ge (tgt := 48) hx hb dX1_isBefore_41 (by decide) (fun c18 => ?_) (fun c18 => ?_)
        · have hf := hf.1 c18
          refine lv_iconst (v := 0) hx hb dX1_isBefore_48 (by decide) ?_
          exact p_zret X hlk hP hL (Nat.le_refl _) (Nat.le_refl _) hr nr_0 dX1_isBefore_49 ⟨rfl, hf⟩
        · have hf := hf.2 c18
          refine lv_iconst (v := 1) hx hb dX1_isBefore_44 (by decide) ?_
          refine lv_goto (tgt := 49) hx hb dX1_isBefore_45 (by decide) ?_
          exact p_zret X hlk hP hL (Nat.le_refl _) (Nat.le_refl _) hr nr_1 dX1_isBefore_49 ⟨rfl, hf⟩
set_option maxHeartbeats 4000000 in
theorem sX1_isBefore_L2 {G : GG_} {p : Program} {l : Launch} {e : Env} {R : Room} {s : State} {m : MethodId} {args : Array Value} {below : List Frame} {meth : Method} {c : Code} (Y : MX_ G p R s m args meth c cX1_isBefore 3 RX1 (some Jvm.ClassFile.FieldType.boolean) 5 105 0 0 "isBefore") {post : Int32 → Prop} {x0 : Nat} {x1 : Nat} {x2 : Int32} {σ : Hp} (hf : wX1_isBefore_L2 post x0 x1 x2 σ) : WG_ G p l e R s m args below meth c (MQ below (QI_ G (fun r τ => τ = σ ∧ post r)) args s 0 0 (FR_ G)) BN_ 3 2 [(0, rv_ x0), (1, rv_ x1), (2, .int x2)] [] σ := by
  unfold wX1_isBefore_L2 at hf
  obtain ⟨I, μ, h0, hI⟩ := hf
  have key : ∀ (n : Nat) (x2 : Int32), I x2 → μ x2 < n → WG_ G p l e R s m args below meth c (MQ below (QI_ G (fun r τ => τ = σ ∧ post r)) args s 0 0 (FR_ G)) BN_ 3 2 [(0, rv_ x0), (1, rv_ x1), (2, .int x2)] [] σ := by
    intro n
    induction n with
    | zero => intro x2 _ h; exact absurd h (Nat.not_lt_zero _)
    | succ n ih => intro x2 hi hn; exact sX1_isBefore_B2 Y (fun x2' h => ih x2' h.1 (Nat.lt_of_lt_of_le h.2 (Nat.le_of_lt_succ hn))) (hI x2 hi)
  exact key _ _ h0 (Nat.lt_succ_self _)
set_option maxHeartbeats 4000000 in
theorem sX1_isBefore {G : GG_} {p : Program} {l : Launch} {e : Env} {R : Room} {s : State} {m : MethodId} {args : Array Value} {below : List Frame} {meth : Method} {c : Code} (Y : MX_ G p R s m args meth c cX1_isBefore 3 RX1 (some Jvm.ClassFile.FieldType.boolean) 5 105 0 0 "isBefore") {post : Int32 → Prop} {x0 : Nat} {x1 : Nat} {σ : Hp} (hf : wX1_isBefore x0 x1 σ post) : WG_ G p l e R s m args below meth c (MQ below (QI_ G (fun r τ => τ = σ ∧ post r)) args s 0 0 (FR_ G)) BN_ 3 0 [(0, rv_ x0), (1, rv_ x1)] [] σ := by
  have ⟨X, hlk, hr, hRf, hRl, hRc, hnm⟩ := Y
  have ⟨⟨hx, hb, _, hown, hts⟩, _, _⟩ := X
  intro H locs cells slots ls hP hL hB hl
  obtain ⟨rfl, rfl⟩ := hB
  unfold wX1_isBefore at hf
  refine lv_iconst (v := 0) hx hb dX1_isBefore_0 (by decide) ?_
  refine p_istore_n (i := 2) hx hb dX1_isBefore_1 rfl hl (by decide) ⟨⟨ne_ rfl, Or.inl (ne_ rfl)⟩, ⟨⟨ne_ rfl, Or.inr (rv_cat _)⟩, trivial⟩⟩ (fun ls hl => ?_)
  exact sX1_isBefore_L2 Y hf _ _ _ _ _ hP hL ⟨rfl, rfl⟩ (lv_sub hl [1, 2, 0] rfl)
set_option maxHeartbeats 4000000 in
theorem metX1_isBefore (l : Launch) (G : GG_) (x0 : Nat) (x1 : Nat) (σ : Hp) (post : Int32 → Prop) (hG : GOK_ G) (hf : wX1_isBefore x0 x1 σ post) : Met l yX1_isBefore (ws_ yX1_isBefore cX1_isBefore 3 (some Jvm.ClassFile.FieldType.boolean)) { frames := 5, cells := 0, slots := 0, locals := 105 } (PC_ G [rv_ x0, rv_ x1] σ) (QI_ G (fun r τ => τ = σ ∧ post r)) 0 0 (FR_ G) := by
  refine Met.ofW (cc := cX1_isBefore) (maxL := 3) (ret := (some Jvm.ClassFile.FieldType.boolean)) (by decide) rfl ?_
  intro p e s m args below meth c s₁ B hml hv
  obtain ⟨rfl, hP, hW⟩ := hv
  have hts := atoms_spec (ws := ws_ yX1_isBefore cX1_isBefore 3 (some Jvm.ClassFile.FieldType.boolean)) B.pre
  have hts : ∀ w ∈ lw_all, w.before _ s = true := fun w h => hts w (List.mem_cons_of_mem _ h)
  rw [lg_entry_eq]
  have hl := en_entry [rv_ x0, rv_ x1] [1, 1] (n := 3) (ca_r (ca_r ca_n)) (by decide)
  exact sX1_isBefore ⟨⟨⟨B.exec, B.bytes, hml, findClass_of_methodNamed B.named, hts⟩, hW, hG⟩, B.notSynchronized, B.returns, Nat.le_refl _, Nat.le_refl _, ⟨rfl, rfl⟩, (name_of_methodNamed B.named B.method).1⟩ hf _ _ _ _ _ hP (LO_nil G) ⟨rfl, rfl⟩ hl
abbrev cX5_order : ByteArray := prog_9_method_9_code
def yX5_order : MethodName := ⟨RX5, "order", "(I)Ljava/util/ArrayList;"⟩
theorem dX5_order_0 : decode cX5_order 0 = .ok (.new 9, 3) := by decide +kernel
theorem dX5_order_3 : decode cX5_order 3 = .ok (.dup, 1) := by decide +kernel
theorem dX5_order_4 : decode cX5_order 4 = .ok (.invokespecial 11, 3) := by decide +kernel
theorem dX5_order_7 : decode cX5_order 7 = .ok (.astore_n 2, 1) := by decide +kernel
theorem dX5_order_8 : decode cX5_order 8 = .ok (.iconst 0, 1) := by decide +kernel
theorem dX5_order_9 : decode cX5_order 9 = .ok (.istore_n 3, 1) := by decide +kernel
theorem dX5_order_10 : decode cX5_order 10 = .ok (.iload_n 3, 1) := by decide +kernel
theorem dX5_order_11 : decode cX5_order 11 = .ok (.aload_n 0, 1) := by decide +kernel
theorem dX5_order_12 : decode cX5_order 12 = .ok (.getfield 12, 3) := by decide +kernel
theorem dX5_order_15 : decode cX5_order 15 = .ok (.invokevirtual 39, 3) := by decide +kernel
theorem dX5_order_18 : decode cX5_order 18 = .ok (.if_icmp .ge 110, 3) := by decide +kernel
theorem dX5_order_21 : decode cX5_order 21 = .ok (.aload_n 0, 1) := by decide +kernel
theorem dX5_order_22 : decode cX5_order 22 = .ok (.getfield 12, 3) := by decide +kernel
theorem dX5_order_25 : decode cX5_order 25 = .ok (.iload_n 3, 1) := by decide +kernel
theorem dX5_order_26 : decode cX5_order 26 = .ok (.invokevirtual 43, 3) := by decide +kernel
theorem dX5_order_29 : decode cX5_order 29 = .ok (.checkcast 18, 3) := by decide +kernel
theorem dX5_order_32 : decode cX5_order 32 = .ok (.astore 4, 2) := by decide +kernel
theorem dX5_order_34 : decode cX5_order 34 = .ok (.aload 4, 2) := by decide +kernel
theorem dX5_order_36 : decode cX5_order 36 = .ok (.getfield 51, 3) := by decide +kernel
theorem dX5_order_39 : decode cX5_order 39 = .ok (.iload_n 1, 1) := by decide +kernel
theorem dX5_order_40 : decode cX5_order 40 = .ok (.if_icmp .eq 6, 3) := by decide +kernel
theorem dX5_order_43 : decode cX5_order 43 = .ok (.goto 79, 3) := by decide +kernel
theorem dX5_order_46 : decode cX5_order 46 = .ok (.aload_n 2, 1) := by decide +kernel
theorem dX5_order_47 : decode cX5_order 47 = .ok (.invokevirtual 39, 3) := by decide +kernel
theorem dX5_order_50 : decode cX5_order 50 = .ok (.istore 5, 2) := by decide +kernel
theorem dX5_order_52 : decode cX5_order 52 = .ok (.aload_n 2, 1) := by decide +kernel
theorem dX5_order_53 : decode cX5_order 53 = .ok (.aload 4, 2) := by decide +kernel
theorem dX5_order_55 : decode cX5_order 55 = .ok (.invokevirtual 29, 3) := by decide +kernel
theorem dX5_order_58 : decode cX5_order 58 = .ok (.pop, 1) := by decide +kernel
theorem dX5_order_59 : decode cX5_order 59 = .ok (.iload 5, 2) := by decide +kernel
theorem dX5_order_61 : decode cX5_order 61 = .ok (.ifCond .le 52, 3) := by decide +kernel
theorem dX5_order_64 : decode cX5_order 64 = .ok (.aload 4, 2) := by decide +kernel
theorem dX5_order_66 : decode cX5_order 66 = .ok (.getfield 81, 3) := by decide +kernel
theorem dX5_order_69 : decode cX5_order 69 = .ok (.aload_n 2, 1) := by decide +kernel
theorem dX5_order_70 : decode cX5_order 70 = .ok (.iload 5, 2) := by decide +kernel
theorem dX5_order_72 : decode cX5_order 72 = .ok (.iconst 1, 1) := by decide +kernel
theorem dX5_order_73 : decode cX5_order 73 = .ok (.isub, 1) := by decide +kernel
theorem dX5_order_74 : decode cX5_order 74 = .ok (.invokevirtual 43, 3) := by decide +kernel
theorem dX5_order_77 : decode cX5_order 77 = .ok (.checkcast 18, 3) := by decide +kernel
theorem dX5_order_80 : decode cX5_order 80 = .ok (.getfield 81, 3) := by decide +kernel
theorem dX5_order_83 : decode cX5_order 83 = .ok (.invokestatic 84, 3) := by decide +kernel
theorem dX5_order_86 : decode cX5_order 86 = .ok (.ifCond .eq 27, 3) := by decide +kernel
theorem dX5_order_89 : decode cX5_order 89 = .ok (.aload_n 2, 1) := by decide +kernel
theorem dX5_order_90 : decode cX5_order 90 = .ok (.iload 5, 2) := by decide +kernel
theorem dX5_order_92 : decode cX5_order 92 = .ok (.aload_n 2, 1) := by decide +kernel
theorem dX5_order_93 : decode cX5_order 93 = .ok (.iload 5, 2) := by decide +kernel
theorem dX5_order_95 : decode cX5_order 95 = .ok (.iconst 1, 1) := by decide +kernel
theorem dX5_order_96 : decode cX5_order 96 = .ok (.isub, 1) := by decide +kernel
theorem dX5_order_97 : decode cX5_order 97 = .ok (.invokevirtual 43, 3) := by decide +kernel
theorem dX5_order_100 : decode cX5_order 100 = .ok (.checkcast 18, 3) := by decide +kernel
theorem dX5_order_103 : decode cX5_order 103 = .ok (.invokevirtual 88, 3) := by decide +kernel
theorem dX5_order_106 : decode cX5_order 106 = .ok (.pop, 1) := by decide +kernel
theorem dX5_order_107 : decode cX5_order 107 = .ok (.iinc 5 (-1), 3) := by decide +kernel
theorem dX5_order_110 : decode cX5_order 110 = .ok (.goto (-51), 3) := by decide +kernel
theorem dX5_order_113 : decode cX5_order 113 = .ok (.aload_n 2, 1) := by decide +kernel
theorem dX5_order_114 : decode cX5_order 114 = .ok (.iload 5, 2) := by decide +kernel
theorem dX5_order_116 : decode cX5_order 116 = .ok (.aload 4, 2) := by decide +kernel
theorem dX5_order_118 : decode cX5_order 118 = .ok (.invokevirtual 88, 3) := by decide +kernel
theorem dX5_order_121 : decode cX5_order 121 = .ok (.pop, 1) := by decide +kernel
theorem dX5_order_122 : decode cX5_order 122 = .ok (.iinc 3 1, 3) := by decide +kernel
theorem dX5_order_125 : decode cX5_order 125 = .ok (.goto (-115), 3) := by decide +kernel
theorem dX5_order_128 : decode cX5_order 128 = .ok (.aload_n 2, 1) := by decide +kernel
theorem dX5_order_129 : decode cX5_order 129 = .ok (.areturn, 1) := by decide +kernel
/-- WriteOnceDisc$Tree.order(I)Ljava/util/ArrayList; -/
def wX5_order_L122 (post : Nat → Hp → Prop) (rc10 : Int32 → Hp → Prop) (x0 : Nat) (x1 : Int32) (x2 : Nat) (x3 : Int32) (σ : Hp) : Prop :=
(∀ y1 : Int32, y1 = x3 + 1 → rc10 y1 σ)
def wX5_order_L113 (post : Nat → Hp → Prop) (rc10 : Int32 → Hp → Prop) (x0 : Nat) (x1 : Int32) (x2 : Nat) (x3 : Int32) (x4 : Nat) (x5 : Int32) (σ : Hp) : Prop :=
(tg_ σ x2 = 11 ∧ (wJ2_set x2 x5 x4 σ (fun r3 σ4 => (∀ σ5, σ5 = bu_ σ4 (bc_ σ) (bs_ σ) → wX5_order_L122 post rc10 x0 x1 x2 x3 σ5))))
def wX5_order_B59 (post : Nat → Hp → Prop) (rc10 : Int32 → Hp → Prop) (rc59 : Int32 → Hp → Prop) (x0 : Nat) (x1 : Int32) (x2 : Nat) (x3 : Int32) (x4 : Nat) (x5 : Int32) (σ : Hp) : Prop :=
((x5 ≤ 0 →
  wX5_order_L113 post rc10 x0 x1 x2 x3 x4 x5 σ) ∧
 (¬ x5 ≤ 0 →
  (tg_ σ x4 = 6 ∧ (tg_ σ x2 = 11 ∧ (wJ2_get x2 (x5 - (1 : Int32)) σ (fun r9 => ((r9 = 0 ∨ tg_ σ r9 = 6) ∧ (tg_ σ r9 = 6 ∧ (wX1_isBefore (fR_ σ 5 7 x4) (fR_ σ 5 7 r9) σ (fun r12 => ((r12 = 0 →
   wX5_order_L113 post rc10 x0 x1 x2 x3 x4 x5 σ) ∧
  (¬ r12 = 0 →
   (wJ2_get x2 (x5 - (1 : Int32)) σ (fun r14 => ((r14 = 0 ∨ tg_ σ r14 = 6) ∧ (wJ2_set x2 x5 r14 σ (fun r16 σ17 => (∀ σ18, σ18 = bu_ σ17 (bc_ σ) (bs_ σ) → (∀ y19 : Int32, y19 = x5 + (-1) → rc59 y19 σ18)))))))))))))))))))
def wX5_order_L59 (post : Nat → Hp → Prop) (rc10 : Int32 → Hp → Prop) (x0 : Nat) (x1 : Int32) (x2 : Nat) (x3 : Int32) (x4 : Nat) (x5 : Int32) (σ : Hp) : Prop :=
 ∃ (I : Int32 → Hp → Prop) (μ : Int32 → Hp → Nat), I x5 σ ∧ ∀ (x5 : Int32) (σ : Hp), I x5 σ → wX5_order_B59 post rc10 (fun x5' σ' => I x5' σ' ∧ μ x5' σ' < μ x5 σ) x0 x1 x2 x3 x4 x5 σ
def wX5_order_B10 (post : Nat → Hp → Prop) (rc10 : Int32 → Hp → Prop) (x0 : Nat) (x1 : Int32) (x2 : Nat) (x3 : Int32) (σ : Hp) : Prop :=
(tg_ σ x0 = 5 ∧ (tg_ σ (fR_ σ 4 0 x0) = 11 ∧ (wJ2_size (fR_ σ 4 0 x0)  σ (fun r22 => ((r22 ≤ x3 →
  post x2 σ) ∧
 (¬ r22 ≤ x3 →
  (wJ2_get (fR_ σ 4 0 x0) x3 σ (fun r24 => ((r24 = 0 ∨ tg_ σ r24 = 6) ∧ (tg_ σ r24 = 6 ∧ (((fI_ σ 5 2 r24) = x1 →
   (tg_ σ x2 = 11 ∧ (wJ2_size x2  σ (fun r29 => (∃ mc30 ms31 : Nat, (mc30 ≤ bc_ σ ∧ (ms31 ≤ bs_ σ ∧ (wJ2_add x2 r24 (bu_ σ mc30 ms31) (fun r34 σ35 => (∀ σ36, σ36 = bu_ σ35 (bc_ σ - mc30) (bs_ σ - ms31) → wX5_order_L59 post rc10 x0 x1 x2 x3 r24 r29 σ36)))))))))) ∧
  (¬ (fI_ σ 5 2 r24) = x1 →
   wX5_order_L122 post rc10 x0 x1 x2 x3 σ))))))))))))
def wX5_order_L10 (post : Nat → Hp → Prop) (x0 : Nat) (x1 : Int32) (x2 : Nat) (x3 : Int32) (σ : Hp) : Prop :=
 ∃ (I : Int32 → Hp → Prop) (μ : Int32 → Hp → Nat), I x3 σ ∧ ∀ (x3 : Int32) (σ : Hp), I x3 σ → wX5_order_B10 post (fun x3' σ' => I x3' σ' ∧ μ x3' σ' < μ x3 σ) x0 x1 x2 x3 σ
def wX5_order (x0 : Nat) (x1 : Int32) (σ : Hp) (post : Nat → Hp → Prop) : Prop :=
(1 ≤ bc_ σ ∧ (3 ≤ bs_ σ ∧ (∀ σ39, σ39 = mO_ σ 10 3 → (tg_ σ39 (nx_ σ) = 11 ∧ (wJ2_init (nx_ σ)  σ39 (fun σ41 => (∀ σ42, σ42 = bu_ σ41 (bc_ σ39) (bs_ σ39) → (∀ y43 : Nat, y43 = (nx_ σ) → wX5_order_L10 post x0 x1 y43 (0 : Int32) σ42))))))))
set_option maxHeartbeats 4000000 in
theorem sX5_order_L122 {G : GG_} {p : Program} {l : Launch} {e : Env} {R : Room} {s : State} {m : MethodId} {args : Array Value} {below : List Frame} {meth : Method} {c : Code} {mc ms : Nat} (Y : MX_ G p R s m args meth c cX5_order 6 RX5 (some ((Jvm.ClassFile.FieldType.object "java/util/ArrayList"))) 7 179 mc ms "order") {post : Nat → Hp → Prop} {rc10 : Int32 → Hp → Prop} {x0 : Nat} {x1 : Int32} {x2 : Nat} {x3 : Int32} {σ : Hp} (hrc10 : ∀ (x3 : Int32) (σ : Hp), rc10 x3 σ → WG_ G p l e R s m args below meth c (MQ below (QR_ G post) args s mc ms (FR_ G)) (BU_ R) 6 10 [(0, rv_ x0), (1, .int x1), (2, rv_ x2), (3, .int x3)] [] σ) (hf : wX5_order_L122 post rc10 x0 x1 x2 x3 σ) : WG_ G p l e R s m args below meth c (MQ below (QR_ G post) args s mc ms (FR_ G)) (BU_ R) 6 122 [(0, rv_ x0), (1, .int x1), (2, rv_ x2), (3, .int x3)] [] σ := by
  have ⟨X, hlk, hr, hRf, hRl, hRc, hnm⟩ := Y
  have ⟨⟨hx, hb, _, hown, hts⟩, _, _⟩ := X
  intro H locs cells slots ls hP hL hB hl
  unfold wX5_order_L122 at hf
  have hl := lv_sub hl [3, 0, 1, 2] rfl
  refine p_iincc (i := 3) (k := 1) hx hb (by decide) dX5_order_122 hl (by decide) ⟨⟨ne_ rfl, Or.inl (ne_ rfl)⟩, ⟨⟨ne_ rfl, Or.inl (ne_ rfl)⟩, ⟨⟨ne_ rfl, Or.inr (rv_cat _)⟩, trivial⟩⟩⟩ (fun y1 hy1 ls hl => ?_)
  have hf := hf y1 hy1
  refine lv_goto (tgt := 10) hx hb dX5_order_125 (by decide) ?_
  exact hrc10 _ _ hf _ _ _ _ _ hP hL hB (lv_sub hl [1, 2, 3, 0] rfl)
set_option maxHeartbeats 4000000 in
theorem sX5_order_L113 {G : GG_} {p : Program} {l : Launch} {e : Env} {R : Room} {s : State} {m : MethodId} {args : Array Value} {below : List Frame} {meth : Method} {c : Code} {mc ms : Nat} (Y : MX_ G p R s m args meth c cX5_order 6 RX5 (some ((Jvm.ClassFile.FieldType.object "java/util/ArrayList"))) 7 179 mc ms "order") {post : Nat → Hp → Prop} {rc10 : Int32 → Hp → Prop} {x0 : Nat} {x1 : Int32} {x2 : Nat} {x3 : Int32} {x4 : Nat} {x5 : Int32} {σ : Hp} (hrc10 : ∀ (x3 : Int32) (σ : Hp), rc10 x3 σ → WG_ G p l e R s m args below meth c (MQ below (QR_ G post) args s mc ms (FR_ G)) (BU_ R) 6 10 [(0, rv_ x0), (1, .int x1), (2, rv_ x2), (3, .int x3)] [] σ) (hf : wX5_order_L113 post rc10 x0 x1 x2 x3 x4 x5 σ) : WG_ G p l e R s m args below meth c (MQ below (QR_ G post) args s mc ms (FR_ G)) (BU_ R) 6 113 [(0, rv_ x0), (1, .int x1), (2, rv_ x2), (3, .int x3), (4, rv_ x4), (5, .int x5)] [] σ := by
  have ⟨X, hlk, hr, hRf, hRl, hRc, hnm⟩ := Y
  have ⟨⟨hx, hb, _, hown, hts⟩, _, _⟩ := X
  intro H locs cells slots ls hP hL hB hl
  unfold wX5_order_L113 at hf
  refine p_aload_n hx hb dX5_order_113 rfl (lv_at hl 2 rfl) ?_
  refine lv_iload hx hb dX5_order_114 (lv_at hl 5 rfl) ?_
  refine p_aload hx hb dX5_order_116 (lv_at hl 4 rfl) ?_
  obtain ⟨ht2, hf⟩ := hf
  refine p_callr hL (p_runV X cf10_ hP ht2 (metJ2_set l G _ _ _ _ _ X.2.2 hf) (cwV 2 hts (lw_V q877 q878 q879 q90 q880) rfl rfl rfl (by decide +kernel) ⟨Nat.le_trans (Nat.le_of_ble_eq_true rfl) hRf, Nat.le_trans (Nat.le_of_ble_eq_true rfl) hRl⟩) rfl hl.1 rfl (by decide) dX5_order_118 (BU_call hB (Nat.zero_le _) (Nat.zero_le _))) (fun r3 σ4 H locs hf hP hL => ?_)
  have hB := BU_keep (τ := σ4) hB
  have hP := Pic_bu hP (bc_ σ) (bs_ σ)
  refine p_nmPB hP hB (fun σ5 hσ5 hP hB => ?_)
  have hf := hf σ5 hσ5
  refine lv_pop hx hb dX5_order_121 (rv_cat _) ?_
  exact sX5_order_L122 Y hrc10 hf _ _ _ _ _ hP hL hB (lv_sub hl [0, 1, 2, 3] rfl)
set_option maxHeartbeats 4000000 in
theorem sX5_order_B59 {G : GG_} {p : Program} {l : Launch} {e : Env} {R : Room} {s : State} {m : MethodId} {args : Array Value} {below : List Frame} {meth : Method} {c : Code} {mc ms : Nat} (Y : MX_ G p R s m args meth c cX5_order 6 RX5 (some ((Jvm.ClassFile.FieldType.object "java/util/ArrayList"))) 7 179 mc ms "order") {post : Nat → Hp → Prop} {rc10 : Int32 → Hp → Prop} {rc59 : Int32 → Hp → Prop} {x0 : Nat} {x1 : Int32} {x2 : Nat} {x3 : Int32} {x4 : Nat} {x5 : Int32} {σ : Hp} (hrc10 : ∀ (x3 : Int32) (σ : Hp), rc10 x3 σ → WG_ G p l e R s m args below meth c (MQ below (QR_ G post) args s mc ms (FR_ G)) (BU_ R) 6 10 [(0, rv_ x0), (1, .int x1), (2, rv_ x2), (3, .int x3)] [] σ) (hrc59 : ∀ (x5 : Int32) (σ : Hp), rc59 x5 σ → WG_ G p l e R s m args below meth c (MQ below (QR_ G post) args s mc ms (FR_ G)) (BU_ R) 6 59 [(0, rv_ x0), (1, .int x1), (2, rv_ x2), (3, .int x3), (4, rv_ x4), (5, .int x5)] [] σ) (hf : wX5_order_B59 post rc10 rc59 x0 x1 x2 x3 x4 x5 σ) : WG_ G p l e R s m args below meth c (MQ below (QR_ G post) args s mc ms (FR_ G)) (BU_ R) 6 59 [(0, rv_ x0), (1, .int x1), (2, rv_ x2), (3, .int x3), (4, rv_ x4), (5, .int x5)] [] σ := by
  have ⟨X, hlk, hr, hRf, hRl, hRc, hnm⟩ := Y
  have ⟨⟨hx, hb, _, hown, hts⟩, _, _⟩ := X
  intro H locs cells slots ls hP hL hB hl
  unfold wX5_order_B59 at hf
  refine lv_iload hx hb dX5_order_59 (lv_at hl 5 rfl) ?_
  refine lv_if_le (tgt := 113) hx hb dX5_order_61 (by decide) (fun c6 => ?_) (fun c6 => ?_)
  · have hf := hf.1 c6
    exact sX5_order_L113 Y hrc10 hf _ _ _ _ _ hP hL hB (lv_sub hl [0, 1, 2, 3, 4, 5] rfl)
  · have hf := hf.2 c6
    refine p_aload hx hb dX5_order_64 (lv_at hl 4 rfl) ?_
    obtain ⟨ht7, hf⟩ := hf
    refine p_gR X cf5_ (k := 7) (by decide) rfl hP ht7 q459 (fun _ h => h) dX5_order_66 ?_
    refine p_aload_n hx hb dX5_order_69 rfl (lv_at hl 2 rfl) ?_
    refine lv_iload hx hb dX5_order_70 (lv_at hl 5 rfl) ?_
    refine lv_iconst (v := 1) hx hb dX5_order_72 (by decide) ?_
    refine lv_isub hx hb dX5_order_73 ?_
    obtain ⟨ht8, hf⟩ := hf
    refine p_callr hL (p_runV X cf10_ hP ht8 (metJ2_get l G _ _ _ _ X.2.2 hf) (cwV 1 hts (lw_V q723 q724 q725 q90 q726) rfl rfl rfl (by decide +kernel) ⟨Nat.le_trans (Nat.le_of_ble_eq_true rfl) hRf, Nat.le_trans (Nat.le_of_ble_eq_true rfl) hRl⟩) rfl hl.1 rfl (by rw [(ca_r ca_n)]; decide) dX5_order_74 (BU_call hB (Nat.zero_le _) (Nat.zero_le _))) (fun r9 σ₁ H locs hf hP hL => ?_)
    obtain ⟨e₁, hf⟩ := hf
    rw [e₁] at hP
    obtain ⟨hc10, hf⟩ := hf
    refine p_cast X cf5_ hP hc10 q212 dX5_order_77 ?_
    obtain ⟨ht11, hf⟩ := hf
    refine p_gR X cf5_ (k := 7) (by decide) rfl hP ht11 q459 (fun _ h => h) dX5_order_80 ?_
    refine p_calli hL (p_runSN X hP (metX1_isBefore l G _ _ _ _ X.2.2 hf) ⟨va_cnB 2 hts (lw_meth q861) rfl rfl rfl (p_nest X q859) (hts _ q85) (by decide +kernel) ⟨Nat.le_trans (Nat.le_of_ble_eq_true rfl) hRf, Nat.le_trans (Nat.le_of_ble_eq_true rfl) hRl⟩, hts _ q860, trivial⟩ rfl hl.1 rfl (by decide) dX5_order_83 (BU_call hB (Nat.zero_le _) (Nat.zero_le _))) (fun r12 σ₁ H locs hf hP hL => ?_)
    obtain ⟨e₁, hf⟩ := hf
    rw [e₁] at hP
    refine lv_if_eq (tgt := 113) hx hb dX5_order_86 (by decide) (fun c13 => ?_) (fun c13 => ?_)
    · have hf := hf.1 c13
      exact sX5_order_L113 Y hrc10 hf _ _ _ _ _ hP hL hB (lv_sub hl [0, 1, 2, 3, 4, 5] rfl)
    · have hf := hf.2 c13
      refine p_aload_n hx hb dX5_order_89 rfl (lv_at hl 2 rfl) ?_
      refine lv_iload hx hb dX5_order_90 (lv_at hl 5 rfl) ?_
      refine p_aload_n hx hb dX5_order_92 rfl (lv_at hl 2 rfl) ?_
      refine lv_iload hx hb dX5_order_93 (lv_at hl 5 rfl) ?_
      refine lv_iconst (v := 1) hx hb dX5_order_95 (by decide) ?_
      refine lv_isub hx hb dX5_order_96 ?_
      refine p_callr hL (p_runV X cf10_ hP ht8 (metJ2_get l G _ _ _ _ X.2.2 hf) (cwV 1 hts (lw_V q723 q724 q725 q90 q726) rfl rfl rfl (by decide +kernel) ⟨Nat.le_trans (Nat.le_of_ble_eq_true rfl) hRf, Nat.le_trans (Nat.le_of_ble_eq_true rfl) hRl⟩) rfl hl.1 rfl (by rw [(ca_i (ca_r ca_n))]; decide) dX5_order_97 (BU_call hB (Nat.zero_le _) (Nat.zero_le _))) (fun r14 σ₁ H locs hf hP hL => ?_)
      obtain ⟨e₁, hf⟩ := hf
      rw [e₁] at hP
      obtain ⟨hc15, hf⟩ := hf
      refine p_cast X cf5_ hP hc15 q212 dX5_order_100 ?_
      refine p_callr hL (p_runV X cf10_ hP ht8 (metJ2_set l G _ _ _ _ _ X.2.2 hf) (cwV 2 hts (lw_V q877 q878 q879 q90 q880) rfl rfl rfl (by decide +kernel) ⟨Nat.le_trans (Nat.le_of_ble_eq_true rfl) hRf, Nat.le_trans (Nat.le_of_ble_eq_true rfl) hRl⟩) rfl hl.1 rfl (by decide) dX5_order_103 (BU_call hB (Nat.zero_le _) (Nat.zero_le _))) (fun r16 σ17 H locs hf hP hL => ?_)
      have hB := BU_keep (τ := σ17) hB
      have hP := Pic_bu hP (bc_ σ) (bs_ σ)
      refine p_nmPB hP hB (fun σ18 hσ18 hP hB => ?_)
      have hf := hf σ18 hσ18
      refine lv_pop hx hb dX5_order_106 (rv_cat _) ?_
      have hl := lv_sub hl [5, 0, 1, 2, 3, 4] rfl
      refine p_iincc (i := 5) (k := (-1)) hx hb (by decide) dX5_order_107 hl (by decide) ⟨⟨ne_ rfl, Or.inl (ne_ rfl)⟩, ⟨⟨ne_ rfl, Or.inl (ne_ rfl)⟩, ⟨⟨ne_ rfl, Or.inl (ne_ rfl)⟩, ⟨⟨ne_ rfl, Or.inl (ne_ rfl)⟩, ⟨⟨ne_ rfl, Or.inr (rv_cat _)⟩, trivial⟩⟩⟩⟩⟩ (fun y19 hy19 ls hl => ?_)
      have hf := hf y19 hy19
      refine lv_goto (tgt := 59) hx hb dX5_order_110 (by decide) ?_
      exact hrc59 _ _ hf _ _ _ _ _ hP hL hB (lv_sub hl [1, 2, 3, 4, 5, 0] rfl)
set_option maxHeartbeats 4000000 in
theorem sX5_order_L59 {G : GG_} {p : Program} {l : Launch} {e : Env} {R : Room} {s : State} {m : MethodId} {args : Array Value} {below : List Frame} {meth : Method} {c : Code} {mc ms : Nat} (Y : MX_ G p R s m args meth c cX5_order 6 RX5 (some ((Jvm.ClassFile.FieldType.object "java/util/ArrayList"))) 7 179 mc ms "order") {post : Nat → Hp → Prop} {rc10 : Int32 → Hp → Prop} {x0 : Nat} {x1 : Int32} {x2 : Nat} {x3 : Int32} {x4 : Nat} {x5 : Int32} {σ : Hp} (hrc10 : ∀ (x3 : Int32) (σ : Hp), rc10 x3 σ → WG_ G p l e R s m args below meth c (MQ below (QR_ G post) args s mc ms (FR_ G)) (BU_ R) 6 10 [(0, rv_ x0), (1, .int x1), (2, rv_ x2), (3, .int x3)] [] σ) (hf : wX5_order_L59 post rc10 x0 x1 x2 x3 x4 x5 σ) : WG_ G p l e R s m args below meth c (MQ below (QR_ G post) args s mc ms (FR_ G)) (BU_ R) 6 59 [(0, rv_ x0), (1, .int x1), (2, rv_ x2), (3, .int x3), (4, rv_ x4), (5, .int x5)] [] σ := by
  unfold wX5_order_L59 at hf
  obtain ⟨I, μ, h0, hI⟩ := hf
  have key : ∀ (n : Nat) (x5 : Int32) (σ : Hp), I x5 σ → μ x5 σ < n → WG_ G p l e R s m args below meth c (MQ below (QR_ G post) args s mc ms (FR_ G)) (BU_ R) 6 59 [(0, rv_ x0), (1, .int x1), (2, rv_ x2), (3, .int x3), (4, rv_ x4), (5, .int x5)] [] σ := by
    intro n
    induction n with
    | zero => intro x5 σ _ h; exact absurd h (Nat.not_lt_zero _)
    | succ n ih => intro x5 σ hi hn; exact sX5_order_B59 Y hrc10 (fun x5' σ' h => ih x5' σ' h.1 (Nat.lt_of_lt_of_le h.2 (Nat.le_of_lt_succ hn))) (hI x5 σ hi)
  exact key _ _ _ h0 (Nat.lt_succ_self _)
set_option maxHeartbeats 4000000 in
theorem sX5_order_B10 {G : GG_} {p : Program} {l : Launch} {e : Env} {R : Room} {s : State} {m : MethodId} {args : Array Value} {below : List Frame} {meth : Method} {c : Code} {mc ms : Nat} (Y : MX_ G p R s m args meth c cX5_order 6 RX5 (some ((Jvm.ClassFile.FieldType.object "java/util/ArrayList"))) 7 179 mc ms "order") {post : Nat → Hp → Prop} {rc10 : Int32 → Hp → Prop} {x0 : Nat} {x1 : Int32} {x2 : Nat} {x3 : Int32} {σ : Hp} (hrc10 : ∀ (x3 : Int32) (σ : Hp), rc10 x3 σ → WG_ G p l e R s m args below meth c (MQ below (QR_ G post) args s mc ms (FR_ G)) (BU_ R) 6 10 [(0, rv_ x0), (1, .int x1), (2, rv_ x2), (3, .int x3)] [] σ) (hf : wX5_order_B10 post rc10 x0 x1 x2 x3 σ) : WG_ G p l e R s m args below meth c (MQ below (QR_ G post) args s mc ms (FR_ G)) (BU_ R) 6 10 [(0, rv_ x0), (1, .int x1), (2, rv_ x2), (3, .int x3)] [] σ := by
  have ⟨X, hlk, hr, hRf, hRl, hRc, hnm⟩ := Y
  have ⟨⟨hx, hb, _, hown, hts⟩, _, _⟩ := X
  intro H locs cells slots ls hP hL hB hl
  unfold wX5_order_B10 at hf
  refine lv_iload_n hx hb dX5_order_10 rfl (lv_at hl 3 rfl) ?_
  refine p_aload_n hx hb dX5_order_11 rfl (lv_at hl 0 rfl) ?_
  obtain ⟨ht20, hf⟩ := hf
  refine p_gR X cf4_ (k := 0) (by decide) rfl hP ht20 q541 (fun _ h => h) dX5_order_12 ?_
  obtain ⟨ht21, hf⟩ := hf
  refine p_calli hL (p_runV X cf10_ hP ht21 (metJ2_size l G _ _ _ X.2.2 hf) (cwV 0 hts (lw_V q719 q720 q721 q90 q722) rfl rfl rfl (by decide +kernel) ⟨Nat.le_trans (Nat.le_of_ble_eq_true rfl) hRf, Nat.le_trans (Nat.le_of_ble_eq_true rfl) hRl⟩) rfl hl.1 rfl (by rw [(ca_i ca_n)]; decide) dX5_order_15 (BU_call hB (Nat.zero_le _) (Nat.zero_le _))) (fun r22 σ₁ H locs hf hP hL => ?_)
  obtain ⟨e₁, hf⟩ := hf
  rw [e₁] at hP
  refine lv_icmp_ge (tgt := 128) hx hb dX5_order_18 (by decide) (fun c23 => ?_) (fun c23 => ?_)
  · have hf := hf.1 c23
    refine p_aload_n hx hb dX5_order_128 rfl (lv_at hl 2 rfl) ?_
    exact p_aret X hlk hP hL (BU_le hB hRc).1 (BU_le hB hRc).2 hr (Or.inl ⟨_, rfl⟩) dX5_order_129 hf
  · have hf := hf.2 c23
    refine p_aload_n hx hb dX5_order_21 rfl (lv_at hl 0 rfl) ?_
    refine p_gR X cf4_ (k := 0) (by decide) rfl hP ht20 q541 (fun _ h => h) dX5_order_22 ?_
    refine lv_iload_n hx hb dX5_order_25 rfl (lv_at hl 3 rfl) ?_
    refine p_callr hL (p_runV X cf10_ hP ht21 (metJ2_get l G _ _ _ _ X.2.2 hf) (cwV 1 hts (lw_V q723 q724 q725 q90 q726) rfl rfl rfl (by decide +kernel) ⟨Nat.le_trans (Nat.le_of_ble_eq_true rfl) hRf, Nat.le_trans (Nat.le_of_ble_eq_true rfl) hRl⟩) rfl hl.1 rfl (by decide) dX5_order_26 (BU_call hB (Nat.zero_le _) (Nat.zero_le _))) (fun r24 σ₁ H locs hf hP hL => ?_)
    obtain ⟨e₁, hf⟩ := hf
    rw [e₁] at hP
    obtain ⟨hc25, hf⟩ := hf
    refine p_cast X cf5_ hP hc25 q212 dX5_order_29 ?_
    refine p_astore (i := 4) hx hb dX5_order_32 hl (by decide) ⟨⟨ne_ rfl, Or.inl (ne_ rfl)⟩, ⟨⟨ne_ rfl, Or.inl (ne_ rfl)⟩, ⟨⟨ne_ rfl, Or.inl (ne_ rfl)⟩, ⟨⟨ne_ rfl, Or.inr rfl⟩, trivial⟩⟩⟩⟩ (fun ls hl => ?_)
    refine p_aload hx hb dX5_order_34 (lv_at hl 0 rfl) ?_
    obtain ⟨ht26, hf⟩ := hf
    refine p_gI X cf5_ (k := 2) (by decide) rfl hP ht26 q444 (fun _ h => h) dX5_order_36 ?_
    refine lv_iload_n hx hb dX5_order_39 rfl (lv_at hl 2 rfl) ?_
    refine lv_icmp_eq (tgt := 46) hx hb dX5_order_40 (by decide) (fun c27 => ?_) (fun c27 => ?_)
    · have hf := hf.1 c27
      refine p_aload_n hx hb dX5_order_46 rfl (lv_at hl 3 rfl) ?_
      obtain ⟨ht28, hf⟩ := hf
      refine p_calli hL (p_runV X cf10_ hP ht28 (metJ2_size l G _ _ _ X.2.2 hf) (cwV 0 hts (lw_V q719 q720 q721 q90 q722) rfl rfl rfl (by decide +kernel) ⟨Nat.le_trans (Nat.le_of_ble_eq_true rfl) hRf, Nat.le_trans (Nat.le_of_ble_eq_true rfl) hRl⟩) rfl hl.1 rfl (by decide) dX5_order_47 (BU_call hB (Nat.zero_le _) (Nat.zero_le _))) (fun r29 σ₁ H locs hf hP hL => ?_)
      obtain ⟨e₁, hf⟩ := hf
      rw [e₁] at hP
      refine p_istore (i := 5) hx hb dX5_order_50 hl (by decide) ⟨⟨ne_ rfl, Or.inr (rv_cat _)⟩, ⟨⟨ne_ rfl, Or.inl (ne_ rfl)⟩, ⟨⟨ne_ rfl, Or.inl (ne_ rfl)⟩, ⟨⟨ne_ rfl, Or.inl (ne_ rfl)⟩, ⟨⟨ne_ rfl, Or.inl (ne_ rfl)⟩, trivial⟩⟩⟩⟩⟩ (fun ls hl => ?_)
      refine p_aload_n hx hb dX5_order_52 rfl (lv_at hl 4 rfl) ?_
      refine p_aload hx hb dX5_order_53 (lv_at hl 1 rfl) ?_
      obtain ⟨mc30, ms31, hf⟩ := hf
      obtain ⟨hb32, hf⟩ := hf
      obtain ⟨hb33, hf⟩ := hf
      refine p_calli hL (p_runV X cf10_ (Pic_bu hP mc30 ms31) ht28 (metJ2_add l G _ _ _ _ _ _ X.2.2 hf) (cwV 1 hts (lw_V q495 q496 q497 q90 q498) rfl rfl rfl (by decide +kernel) ⟨Nat.le_trans (Nat.le_of_ble_eq_true rfl) hRf, Nat.le_trans (Nat.le_of_ble_eq_true rfl) hRl⟩) rfl hl.1 rfl (by decide) dX5_order_55 (BU_call hB hb32 hb33)) (fun r34 σ35 H locs hf hP hL => ?_)
      have hB := BU_back (τ := σ35) hB hb32 hb33
      have hP := Pic_bu hP (bc_ σ - mc30) (bs_ σ - ms31)
      refine p_nmPB hP hB (fun σ36 hσ36 hP hB => ?_)
      have hf := hf σ36 hσ36
      refine lv_pop hx hb dX5_order_58 rfl ?_
      exact sX5_order_L59 Y hrc10 hf _ _ _ _ _ hP hL hB (lv_sub hl [2, 3, 4, 5, 1, 0] rfl)
    · have hf := hf.2 c27
      refine lv_goto (tgt := 122) hx hb dX5_order_43 (by decide) ?_
      exact sX5_order_L122 Y hrc10 hf _ _ _ _ _ hP hL hB (lv_sub hl [1, 2, 3, 4] rfl)
set_option maxHeartbeats 4000000 in
theorem sX5_order_L10 {G : GG_} {p : Program} {l : Launch} {e : Env} {R : Room} {s : State} {m : MethodId} {args : Array Value} {below : List Frame} {meth : Method} {c : Code} {mc ms : Nat} (Y : MX_ G p R s m args meth c cX5_order 6 RX5 (some ((Jvm.ClassFile.FieldType.object "java/util/ArrayList"))) 7 179 mc ms "order") {post : Nat → Hp → Prop} {x0 : Nat} {x1 : Int32} {x2 : Nat} {x3 : Int32} {σ : Hp} (hf : wX5_order_L10 post x0 x1 x2 x3 σ) : WG_ G p l e R s m args below meth c (MQ below (QR_ G post) args s mc ms (FR_ G)) (BU_ R) 6 10 [(0, rv_ x0), (1, .int x1), (2, rv_ x2), (3, .int x3)] [] σ := by
  unfold wX5_order_L10 at hf
  obtain ⟨I, μ, h0, hI⟩ := hf
  have key : ∀ (n : Nat) (x3 : Int32) (σ : Hp), I x3 σ → μ x3 σ < n → WG_ G p l e R s m args below meth c (MQ below (QR_ G post) args s mc ms (FR_ G)) (BU_ R) 6 10 [(0, rv_ x0), (1, .int x1), (2, rv_ x2), (3, .int x3)] [] σ := by
    intro n
    induction n with
    | zero => intro x3 σ _ h; exact absurd h (Nat.not_lt_zero _)
    | succ n ih => intro x3 σ hi hn; exact sX5_order_B10 Y (fun x3' σ' h => ih x3' σ' h.1 (Nat.lt_of_lt_of_le h.2 (Nat.le_of_lt_succ hn))) (hI x3 σ hi)
  exact key _ _ _ h0 (Nat.lt_succ_self _)
set_option maxHeartbeats 4000000 in
theorem sX5_order {G : GG_} {p : Program} {l : Launch} {e : Env} {R : Room} {s : State} {m : MethodId} {args : Array Value} {below : List Frame} {meth : Method} {c : Code} {mc ms : Nat} (Y : MX_ G p R s m args meth c cX5_order 6 RX5 (some ((Jvm.ClassFile.FieldType.object "java/util/ArrayList"))) 7 179 mc ms "order") {post : Nat → Hp → Prop} {x0 : Nat} {x1 : Int32} {σ : Hp} (hf : wX5_order x0 x1 σ post) : WG_ G p l e R s m args below meth c (MQ below (QR_ G post) args s mc ms (FR_ G)) (BU_ R) 6 0 [(0, rv_ x0), (1, .int x1)] [] σ := by
  have ⟨X, hlk, hr, hRf, hRl, hRc, hnm⟩ := Y
  have ⟨⟨hx, hb, _, hown, hts⟩, _, _⟩ := X
  intro H locs cells slots ls hP hL hB hl
  unfold wX5_order at hf
  obtain ⟨hb37, hf⟩ := hf
  obtain ⟨hb38, hf⟩ := hf
  refine p_new X cf10_ (by decide +kernel) hP hB q210 q148 q90 hb37 hb38 dX5_order_0 (fun H hP hB => ?_)
  refine p_nmPB hP hB (fun σ39 hσ39 hP hB => ?_)
  have hf := hf σ39 hσ39
  refine lv_dup hx hb dX5_order_3 (rv_cat _) ?_
  obtain ⟨ht40, hf⟩ := hf
  refine p_callv hL (p_runI X hP ht40 (metJ2_init l G _ _ _ X.2.2 hf) (cwI 0 hts (lw_meth q151) rfl rfl rfl (hts _ q90) (hts _ q211) (hts _ q150) rfl (by decide +kernel) ⟨Nat.le_trans (Nat.le_of_ble_eq_true rfl) hRf, Nat.le_trans (Nat.le_of_ble_eq_true rfl) hRl⟩) rfl hl.1 rfl (by rw [(ca_r ca_n)]; decide) dX5_order_4 (BU_call hB (Nat.zero_le _) (Nat.zero_le _))) (fun σ41 H locs hf hP hL => ?_)
  have hB := BU_keep (τ := σ41) hB
  have hP := Pic_bu hP (bc_ σ39) (bs_ σ39)
  refine p_nmPB hP hB (fun σ42 hσ42 hP hB => ?_)
  have hf := hf σ42 hσ42
  refine p_topr (fun y43 hy43 => ?_)
  have hf := hf y43 hy43
  refine p_astore_n (i := 2) hx hb dX5_order_7 rfl hl (by decide) ⟨⟨ne_ rfl, Or.inl (ne_ rfl)⟩, ⟨⟨ne_ rfl, Or.inr rfl⟩, trivial⟩⟩ (fun ls hl => ?_)
  refine lv_iconst (v := 0) hx hb dX5_order_8 (by decide) ?_
  refine p_istore_n (i := 3) hx hb dX5_order_9 rfl hl (by decide) ⟨⟨ne_ rfl, Or.inr (rv_cat _)⟩, ⟨⟨ne_ rfl, Or.inl (ne_ rfl)⟩, ⟨⟨ne_ rfl, Or.inl (ne_ rfl)⟩, trivial⟩⟩⟩ (fun ls hl => ?_)
  exact sX5_order_L10 Y hf _ _ _ _ _ hP hL hB (lv_sub hl [2, 3, 1, 0] rfl)
set_option maxHeartbeats 4000000 in
theorem metX5_order (l : Launch) (G : GG_) (mc ms : Nat) (x0 : Nat) (x1 : Int32) (σ : Hp) (post : Nat → Hp → Prop) (hG : GOK_ G) (hf : wX5_order x0 x1 (bu_ σ mc ms) post) : Met l yX5_order (ws_ yX5_order cX5_order 6 (some ((Jvm.ClassFile.FieldType.object "java/util/ArrayList")))) { frames := 7, cells := mc, slots := ms, locals := 179 } (PC_ G [rv_ x0, .int x1] (bu_ σ mc ms)) (QR_ G post) mc ms (FR_ G) := by
  refine Met.ofW (cc := cX5_order) (maxL := 6) (ret := (some ((Jvm.ClassFile.FieldType.object "java/util/ArrayList")))) (by decide) rfl ?_
  intro p e s m args below meth c s₁ B hml hv
  obtain ⟨rfl, hP, hW⟩ := hv
  have hts := atoms_spec (ws := ws_ yX5_order cX5_order 6 (some ((Jvm.ClassFile.FieldType.object "java/util/ArrayList")))) B.pre
  have hts : ∀ w ∈ lw_all, w.before _ s = true := fun w h => hts w (List.mem_cons_of_mem _ h)
  rw [lg_entry_eq]
  have hl := en_entry [rv_ x0, .int x1] [1, 1] (n := 6) (ca_r (ca_i ca_n)) (by decide)
  exact sX5_order ⟨⟨⟨B.exec, B.bytes, hml, findClass_of_methodNamed B.named, hts⟩, hW, hG⟩, B.notSynchronized, B.returns, Nat.le_refl _, Nat.le_refl _, ⟨rfl, rfl⟩, (name_of_methodNamed B.named B.method).1⟩ hf _ _ _ _ _ hP (LO_nil G) (BU_in ⟨rfl, rfl⟩) hl
abbrev cX3_recordSize : ByteArray := prog_2_method_6_code
def yX3_recordSize : MethodName := ⟨RX3, "recordSize", "(Ljava/lang/String;)I"⟩
theorem dX3_recordSize_0 : decode cX3_recordSize 0 = .ok (.bipush 33, 2) := by decide +kernel
theorem dX3_recordSize_2 : decode cX3_recordSize 2 = .ok (.aload_n 0, 1) := by decide +kernel
theorem dX3_recordSize_3 : decode cX3_recordSize 3 = .ok (.invokevirtual 101, 3) := by decide +kernel
theorem dX3_recordSize_6 : decode cX3_recordSize 6 = .ok (.iadd, 1) := by decide +kernel
theorem dX3_recordSize_7 : decode cX3_recordSize 7 = .ok (.iconst 1, 1) := by decide +kernel
theorem dX3_recordSize_8 : decode cX3_recordSize 8 = .ok (.iadd, 1) := by decide +kernel
theorem dX3_recordSize_9 : decode cX3_recordSize 9 = .ok (.bipush (-2), 2) := by decide +kernel
theorem dX3_recordSize_11 : decode cX3_recordSize 11 = .ok (.iand, 1) := by decide +kernel
theorem dX3_recordSize_12 : decode cX3_recordSize 12 = .ok (.ireturn, 1) := by decide +kernel
/-- WriteOnceDisc$Burner.recordSize(Ljava/lang/String;)I -/
def wX3_recordSize (x0 : Nat) (σ : Hp) (post : Int32 → Prop) : Prop :=
(tg_ σ x0 = 13 ∧ (wJ5_length x0  σ (fun r2 => post ((((33 : Int32) + r2) + (1 : Int32)) &&& (-2 : Int32)))))
set_option maxHeartbeats 4000000 in
theorem sX3_recordSize {G : GG_} {p : Program} {l : Launch} {e : Env} {R : Room} {s : State} {m : MethodId} {args : Array Value} {below : List Frame} {meth : Method} {c : Code} (Y : MX_ G p R s m args meth c cX3_recordSize 1 RX3 (some Jvm.ClassFile.FieldType.int) 3 60 0 0 "recordSize") {post : Int32 → Prop} {x0 : Nat} {σ : Hp} (hf : wX3_recordSize x0 σ post) : WG_ G p l e R s m args below meth c (MQ below (QI_ G (fun r τ => τ = σ ∧ post r)) args s 0 0 (FR_ G)) BN_ 1 0 [(0, rv_ x0)] [] σ := by
  have ⟨X, hlk, hr, hRf, hRl, hRc, hnm⟩ := Y
  have ⟨⟨hx, hb, _, hown, hts⟩, _, _⟩ := X
  intro H locs cells slots ls hP hL hB hl
  obtain ⟨rfl, rfl⟩ := hB
  unfold wX3_recordSize at hf
  refine lv_bipush (v := 33) hx hb dX3_recordSize_0 (by decide) ?_
  refine p_aload_n hx hb dX3_recordSize_2 rfl (lv_at hl 0 rfl) ?_
  obtain ⟨ht1, hf⟩ := hf
  refine p_calli hL (p_runV X cf12_ hP ht1 (metJ5_length l G _ _ _ X.2.2 hf) (cwV 0 hts (lw_V q884 q332 q333 q96 q334) rfl rfl rfl (by decide +kernel) ⟨Nat.le_trans (Nat.le_of_ble_eq_true rfl) hRf, Nat.le_trans (Nat.le_of_ble_eq_true rfl) hRl⟩) rfl hl.1 rfl (by rw [(ca_i ca_n)]; decide) dX3_recordSize_3 ⟨Nat.zero_le _, Nat.zero_le _⟩) (fun r2 σ₁ H locs hf hP hL => ?_)
  obtain ⟨e₁, hf⟩ := hf
  rw [e₁] at hP
  refine lv_iadd hx hb dX3_recordSize_6 ?_
  refine lv_iconst (v := 1) hx hb dX3_recordSize_7 (by decide) ?_
  refine lv_iadd hx hb dX3_recordSize_8 ?_
  refine lv_bipush (v := (-2)) hx hb dX3_recordSize_9 (by decide) ?_
  refine lv_iand hx hb dX3_recordSize_11 ?_
  exact p_iret X hlk hP hL (Nat.le_refl _) (Nat.le_refl _) hr dX3_recordSize_12 ⟨rfl, hf⟩
set_option maxHeartbeats 4000000 in
theorem metX3_recordSize (l : Launch) (G : GG_) (x0 : Nat) (σ : Hp) (post : Int32 → Prop) (hG : GOK_ G) (hf : wX3_recordSize x0 σ post) : Met l yX3_recordSize (ws_ yX3_recordSize cX3_recordSize 1 (some Jvm.ClassFile.FieldType.int)) { frames := 3, cells := 0, slots := 0, locals := 60 } (PC_ G [rv_ x0] σ) (QI_ G (fun r τ => τ = σ ∧ post r)) 0 0 (FR_ G) := by
  refine Met.ofW (cc := cX3_recordSize) (maxL := 1) (ret := (some Jvm.ClassFile.FieldType.int)) (by decide) rfl ?_
  intro p e s m args below meth c s₁ B hml hv
  obtain ⟨rfl, hP, hW⟩ := hv
  have hts := atoms_spec (ws := ws_ yX3_recordSize cX3_recordSize 1 (some Jvm.ClassFile.FieldType.int)) B.pre
  have hts : ∀ w ∈ lw_all, w.before _ s = true := fun w h => hts w (List.mem_cons_of_mem _ h)
  rw [lg_entry_eq]
  have hl := en_entry [rv_ x0] [1] (n := 1) (ca_r ca_n) (by decide)
  exact sX3_recordSize ⟨⟨⟨B.exec, B.bytes, hml, findClass_of_methodNamed B.named, hts⟩, hW, hG⟩, B.notSynchronized, B.returns, Nat.le_refl _, Nat.le_refl _, ⟨rfl, rfl⟩, (name_of_methodNamed B.named B.method).1⟩ hf _ _ _ _ _ hP (LO_nil G) ⟨rfl, rfl⟩ hl
abbrev cX3_fit : ByteArray := prog_2_method_7_code
def yX3_fit : MethodName := ⟨RX3, "fit", "(II)I"⟩
theorem dX3_fit_0 : decode cX3_fit 0 = .ok (.iload_n 0, 1) := by decide +kernel
theorem dX3_fit_1 : decode cX3_fit 1 = .ok (.sipush 2048, 3) := by decide +kernel
theorem dX3_fit_4 : decode cX3_fit 4 = .ok (.idiv, 1) := by decide +kernel
theorem dX3_fit_5 : decode cX3_fit 5 = .ok (.iload_n 0, 1) := by decide +kernel
theorem dX3_fit_6 : decode cX3_fit 6 = .ok (.iload_n 1, 1) := by decide +kernel
theorem dX3_fit_7 : decode cX3_fit 7 = .ok (.iadd, 1) := by decide +kernel
theorem dX3_fit_8 : decode cX3_fit 8 = .ok (.iconst 1, 1) := by decide +kernel
theorem dX3_fit_9 : decode cX3_fit 9 = .ok (.isub, 1) := by decide +kernel
theorem dX3_fit_10 : decode cX3_fit 10 = .ok (.sipush 2048, 3) := by decide +kernel
theorem dX3_fit_13 : decode cX3_fit 13 = .ok (.idiv, 1) := by decide +kernel
theorem dX3_fit_14 : decode cX3_fit 14 = .ok (.if_icmp .ne 7, 3) := by decide +kernel
theorem dX3_fit_17 : decode cX3_fit 17 = .ok (.iload_n 0, 1) := by decide +kernel
theorem dX3_fit_18 : decode cX3_fit 18 = .ok (.goto 14, 3) := by decide +kernel
theorem dX3_fit_21 : decode cX3_fit 21 = .ok (.iload_n 0, 1) := by decide +kernel
theorem dX3_fit_22 : decode cX3_fit 22 = .ok (.sipush 2048, 3) := by decide +kernel
theorem dX3_fit_25 : decode cX3_fit 25 = .ok (.idiv, 1) := by decide +kernel
theorem dX3_fit_26 : decode cX3_fit 26 = .ok (.iconst 1, 1) := by decide +kernel
theorem dX3_fit_27 : decode cX3_fit 27 = .ok (.iadd, 1) := by decide +kernel
theorem dX3_fit_28 : decode cX3_fit 28 = .ok (.sipush 2048, 3) := by decide +kernel
theorem dX3_fit_31 : decode cX3_fit 31 = .ok (.imul, 1) := by decide +kernel
theorem dX3_fit_32 : decode cX3_fit 32 = .ok (.ireturn, 1) := by decide +kernel
/-- WriteOnceDisc$Burner.fit(II)I -/
def wX3_fit (x0 : Int32) (x1 : Int32) (σ : Hp) (post : Int32 → Prop) : Prop :=
((¬ (x0 / (2048 : Int32)) = (((x0 + x1) - (1 : Int32)) / (2048 : Int32)) →
  post (((x0 / (2048 : Int32)) + (1 : Int32)) * (2048 : Int32))) ∧
 ((x0 / (2048 : Int32)) = (((x0 + x1) - (1 : Int32)) / (2048 : Int32)) →
  post x0))
set_option maxHeartbeats 4000000 in
theorem sX3_fit {G : GG_} {p : Program} {l : Launch} {e : Env} {R : Room} {s : State} {m : MethodId} {args : Array Value} {below : List Frame} {meth : Method} {c : Code} (Y : MX_ G p R s m args meth c cX3_fit 2 RX3 (some Jvm.ClassFile.FieldType.int) 1 20 0 0 "fit") {post : Int32 → Prop} {x0 : Int32} {x1 : Int32} {σ : Hp} (hf : wX3_fit x0 x1 σ post) : WG_ G p l e R s m args below meth c (MQ below (QI_ G (fun r τ => τ = σ ∧ post r)) args s 0 0 (FR_ G)) BN_ 2 0 [(0, .int x0), (1, .int x1)] [] σ := by
  have ⟨X, hlk, hr, hRf, hRl, hRc, hnm⟩ := Y
  have ⟨⟨hx, hb, _, hown, hts⟩, _, _⟩ := X
  intro H locs cells slots ls hP hL hB hl
  obtain ⟨rfl, rfl⟩ := hB
  unfold wX3_fit at hf
  refine lv_iload_n hx hb dX3_fit_0 rfl (lv_at hl 0 rfl) ?_
  refine lv_sipush (v := 2048) hx hb dX3_fit_1 (by decide) ?_
  refine lv_idiv hx hb dX3_fit_4 (by decide) ?_
  refine lv_iload_n hx hb dX3_fit_5 rfl (lv_at hl 0 rfl) ?_
  refine lv_iload_n hx hb dX3_fit_6 rfl (lv_at hl 1 rfl) ?_
  refine lv_iadd hx hb dX3_fit_7 ?_
  refine lv_iconst (v := 1) hx hb dX3_fit_8 (by decide) ?_
  refine lv_isub hx hb dX3_fit_9 ?_
  refine lv_sipush (v := 2048) hx hb dX3_fit_10 (by decide) ?_
  refine lv_idiv hx hb dX3_fit_13 (by decide) ?_
  refine lv_icmp_ne (tgt := 21) hx hb dX3_fit_14 (by decide) (fun c1 => ?_) (fun c1 => ?_)
  · have hf := hf.1 c1
    refine lv_iload_n hx hb dX3_fit_21 rfl (lv_at hl 0 rfl) ?_
    refine lv_sipush (v := 2048) hx hb dX3_fit_22 (by decide) ?_
    refine lv_idiv hx hb dX3_fit_25 (by decide) ?_
    refine lv_iconst (v := 1) hx hb dX3_fit_26 (by decide) ?_
    refine lv_iadd hx hb dX3_fit_27 ?_
    refine lv_sipush (v := 2048) hx hb dX3_fit_28 (by decide) ?_
    refine lv_imul hx hb dX3_fit_31 ?_
    exact p_iret X hlk hP hL (Nat.le_refl _) (Nat.le_refl _) hr dX3_fit_32 ⟨rfl, hf⟩
  · have hf := hf.2 c1
    refine lv_iload_n hx hb dX3_fit_17 rfl (lv_at hl 0 rfl) ?_
    refine lv_goto (tgt := 32) hx hb dX3_fit_18 (by decide) ?_
    exact p_iret X hlk hP hL (Nat.le_refl _) (Nat.le_refl _) hr dX3_fit_32 ⟨rfl, hf⟩
set_option maxHeartbeats 4000000 in
theorem metX3_fit (l : Launch) (G : GG_) (x0 : Int32) (x1 : Int32) (σ : Hp) (post : Int32 → Prop) (hG : GOK_ G) (hf : wX3_fit x0 x1 σ post) : Met l yX3_fit (ws_ yX3_fit cX3_fit 2 (some Jvm.ClassFile.FieldType.int)) { frames := 1, cells := 0, slots := 0, locals := 20 } (PC_ G [.int x0, .int x1] σ) (QI_ G (fun r τ => τ = σ ∧ post r)) 0 0 (FR_ G) := by
  refine Met.ofW (cc := cX3_fit) (maxL := 2) (ret := (some Jvm.ClassFile.FieldType.int)) (by decide) rfl ?_
  intro p e s m args below meth c s₁ B hml hv
  obtain ⟨rfl, hP, hW⟩ := hv
  have hts := atoms_spec (ws := ws_ yX3_fit cX3_fit 2 (some Jvm.ClassFile.FieldType.int)) B.pre
  have hts : ∀ w ∈ lw_all, w.before _ s = true := fun w h => hts w (List.mem_cons_of_mem _ h)
  rw [lg_entry_eq]
  have hl := en_entry [.int x0, .int x1] [1, 1] (n := 2) (ca_i (ca_i ca_n)) (by decide)
  exact sX3_fit ⟨⟨⟨B.exec, B.bytes, hml, findClass_of_methodNamed B.named, hts⟩, hW, hG⟩, B.notSynchronized, B.returns, Nat.le_refl _, Nat.le_refl _, ⟨rfl, rfl⟩, (name_of_methodNamed B.named B.method).1⟩ hf _ _ _ _ _ hP (LO_nil G) ⟨rfl, rfl⟩ hl
abbrev cX3_layOut : ByteArray := prog_2_method_9_code
def yX3_layOut : MethodName := ⟨RX3, "layOut", "(I)I"⟩
theorem dX3_layOut_0 : decode cX3_layOut 0 = .ok (.aload_n 0, 1) := by decide +kernel
theorem dX3_layOut_1 : decode cX3_layOut 1 = .ok (.getfield 12, 3) := by decide +kernel
theorem dX3_layOut_4 : decode cX3_layOut 4 = .ok (.invokevirtual 122, 3) := by decide +kernel
theorem dX3_layOut_7 : decode cX3_layOut 7 = .ok (.aload_n 0, 1) := by decide +kernel
theorem dX3_layOut_8 : decode cX3_layOut 8 = .ok (.getfield 12, 3) := by decide +kernel
theorem dX3_layOut_11 : decode cX3_layOut 11 = .ok (.aload_n 0, 1) := by decide +kernel
theorem dX3_layOut_12 : decode cX3_layOut 12 = .ok (.getfield 123, 3) := by decide +kernel
theorem dX3_layOut_15 : decode cX3_layOut 15 = .ok (.iconst 0, 1) := by decide +kernel
theorem dX3_layOut_16 : decode cX3_layOut 16 = .ok (.invokevirtual 127, 3) := by decide +kernel
theorem dX3_layOut_19 : decode cX3_layOut 19 = .ok (.invokevirtual 133, 3) := by decide +kernel
theorem dX3_layOut_22 : decode cX3_layOut 22 = .ok (.pop, 1) := by decide +kernel
theorem dX3_layOut_23 : decode cX3_layOut 23 = .ok (.iload_n 1, 1) := by decide +kernel
theorem dX3_layOut_24 : decode cX3_layOut 24 = .ok (.istore_n 2, 1) := by decide +kernel
theorem dX3_layOut_25 : decode cX3_layOut 25 = .ok (.iconst 0, 1) := by decide +kernel
theorem dX3_layOut_26 : decode cX3_layOut 26 = .ok (.istore_n 3, 1) := by decide +kernel
theorem dX3_layOut_27 : decode cX3_layOut 27 = .ok (.iload_n 3, 1) := by decide +kernel
theorem dX3_layOut_28 : decode cX3_layOut 28 = .ok (.aload_n 0, 1) := by decide +kernel
theorem dX3_layOut_29 : decode cX3_layOut 29 = .ok (.getfield 12, 3) := by decide +kernel
theorem dX3_layOut_32 : decode cX3_layOut 32 = .ok (.invokevirtual 137, 3) := by decide +kernel
theorem dX3_layOut_35 : decode cX3_layOut 35 = .ok (.if_icmp .ge 162, 3) := by decide +kernel
theorem dX3_layOut_38 : decode cX3_layOut 38 = .ok (.aload_n 0, 1) := by decide +kernel
theorem dX3_layOut_39 : decode cX3_layOut 39 = .ok (.getfield 12, 3) := by decide +kernel
theorem dX3_layOut_42 : decode cX3_layOut 42 = .ok (.iload_n 3, 1) := by decide +kernel
theorem dX3_layOut_43 : decode cX3_layOut 43 = .ok (.invokevirtual 139, 3) := by decide +kernel
theorem dX3_layOut_46 : decode cX3_layOut 46 = .ok (.checkcast 62, 3) := by decide +kernel
theorem dX3_layOut_49 : decode cX3_layOut 49 = .ok (.astore 4, 2) := by decide +kernel
theorem dX3_layOut_51 : decode cX3_layOut 51 = .ok (.aload 4, 2) := by decide +kernel
theorem dX3_layOut_53 : decode cX3_layOut 53 = .ok (.iload_n 3, 1) := by decide +kernel
theorem dX3_layOut_54 : decode cX3_layOut 54 = .ok (.iconst 1, 1) := by decide +kernel
theorem dX3_layOut_55 : decode cX3_layOut 55 = .ok (.iadd, 1) := by decide +kernel
theorem dX3_layOut_56 : decode cX3_layOut 56 = .ok (.putfield 143, 3) := by decide +kernel
theorem dX3_layOut_59 : decode cX3_layOut 59 = .ok (.bipush 68, 2) := by decide +kernel
theorem dX3_layOut_61 : decode cX3_layOut 61 = .ok (.istore 5, 2) := by decide +kernel
theorem dX3_layOut_63 : decode cX3_layOut 63 = .ok (.aload_n 0, 1) := by decide +kernel
theorem dX3_layOut_64 : decode cX3_layOut 64 = .ok (.getfield 123, 3) := by decide +kernel
theorem dX3_layOut_67 : decode cX3_layOut 67 = .ok (.aload 4, 2) := by decide +kernel
theorem dX3_layOut_69 : decode cX3_layOut 69 = .ok (.getfield 146, 3) := by decide +kernel
theorem dX3_layOut_72 : decode cX3_layOut 72 = .ok (.invokevirtual 149, 3) := by decide +kernel
theorem dX3_layOut_75 : decode cX3_layOut 75 = .ok (.astore 6, 2) := by decide +kernel
theorem dX3_layOut_77 : decode cX3_layOut 77 = .ok (.iconst 0, 1) := by decide +kernel
theorem dX3_layOut_78 : decode cX3_layOut 78 = .ok (.istore 7, 2) := by decide +kernel
theorem dX3_layOut_80 : decode cX3_layOut 80 = .ok (.iload 7, 2) := by decide +kernel
theorem dX3_layOut_82 : decode cX3_layOut 82 = .ok (.aload 6, 2) := by decide +kernel
theorem dX3_layOut_84 : decode cX3_layOut 84 = .ok (.invokevirtual 137, 3) := by decide +kernel
theorem dX3_layOut_87 : decode cX3_layOut 87 = .ok (.if_icmp .ge 73, 3) := by decide +kernel
theorem dX3_layOut_90 : decode cX3_layOut 90 = .ok (.aload 6, 2) := by decide +kernel
theorem dX3_layOut_92 : decode cX3_layOut 92 = .ok (.iload 7, 2) := by decide +kernel
theorem dX3_layOut_94 : decode cX3_layOut 94 = .ok (.invokevirtual 139, 3) := by decide +kernel
theorem dX3_layOut_97 : decode cX3_layOut 97 = .ok (.checkcast 62, 3) := by decide +kernel
theorem dX3_layOut_100 : decode cX3_layOut 100 = .ok (.getfield 153, 3) := by decide +kernel
theorem dX3_layOut_103 : decode cX3_layOut 103 = .ok (.invokestatic 157, 3) := by decide +kernel
theorem dX3_layOut_106 : decode cX3_layOut 106 = .ok (.istore 8, 2) := by decide +kernel
theorem dX3_layOut_108 : decode cX3_layOut 108 = .ok (.iload 5, 2) := by decide +kernel
theorem dX3_layOut_110 : decode cX3_layOut 110 = .ok (.iload 8, 2) := by decide +kernel
theorem dX3_layOut_112 : decode cX3_layOut 112 = .ok (.invokestatic 161, 3) := by decide +kernel
theorem dX3_layOut_115 : decode cX3_layOut 115 = .ok (.iload 8, 2) := by decide +kernel
theorem dX3_layOut_117 : decode cX3_layOut 117 = .ok (.iadd, 1) := by decide +kernel
theorem dX3_layOut_118 : decode cX3_layOut 118 = .ok (.istore 5, 2) := by decide +kernel
theorem dX3_layOut_120 : decode cX3_layOut 120 = .ok (.aload 6, 2) := by decide +kernel
theorem dX3_layOut_122 : decode cX3_layOut 122 = .ok (.iload 7, 2) := by decide +kernel
theorem dX3_layOut_124 : decode cX3_layOut 124 = .ok (.invokevirtual 139, 3) := by decide +kernel
theorem dX3_layOut_127 : decode cX3_layOut 127 = .ok (.checkcast 62, 3) := by decide +kernel
theorem dX3_layOut_130 : decode cX3_layOut 130 = .ok (.getfield 165, 3) := by decide +kernel
theorem dX3_layOut_133 : decode cX3_layOut 133 = .ok (.ifCond .eq 21, 3) := by decide +kernel
theorem dX3_layOut_136 : decode cX3_layOut 136 = .ok (.aload_n 0, 1) := by decide +kernel
theorem dX3_layOut_137 : decode cX3_layOut 137 = .ok (.getfield 12, 3) := by decide +kernel
theorem dX3_layOut_140 : decode cX3_layOut 140 = .ok (.aload 6, 2) := by decide +kernel
theorem dX3_layOut_142 : decode cX3_layOut 142 = .ok (.iload 7, 2) := by decide +kernel
theorem dX3_layOut_144 : decode cX3_layOut 144 = .ok (.invokevirtual 139, 3) := by decide +kernel
theorem dX3_layOut_147 : decode cX3_layOut 147 = .ok (.checkcast 62, 3) := by decide +kernel
theorem dX3_layOut_150 : decode cX3_layOut 150 = .ok (.invokevirtual 133, 3) := by decide +kernel
theorem dX3_layOut_153 : decode cX3_layOut 153 = .ok (.pop, 1) := by decide +kernel
theorem dX3_layOut_154 : decode cX3_layOut 154 = .ok (.iinc 7 1, 3) := by decide +kernel
theorem dX3_layOut_157 : decode cX3_layOut 157 = .ok (.goto (-77), 3) := by decide +kernel
theorem dX3_layOut_160 : decode cX3_layOut 160 = .ok (.aload 4, 2) := by decide +kernel
theorem dX3_layOut_162 : decode cX3_layOut 162 = .ok (.iload_n 2, 1) := by decide +kernel
theorem dX3_layOut_163 : decode cX3_layOut 163 = .ok (.putfield 168, 3) := by decide +kernel
theorem dX3_layOut_166 : decode cX3_layOut 166 = .ok (.aload 4, 2) := by decide +kernel
theorem dX3_layOut_168 : decode cX3_layOut 168 = .ok (.iload 5, 2) := by decide +kernel
theorem dX3_layOut_170 : decode cX3_layOut 170 = .ok (.sipush 2048, 3) := by decide +kernel
theorem dX3_layOut_173 : decode cX3_layOut 173 = .ok (.iadd, 1) := by decide +kernel
theorem dX3_layOut_174 : decode cX3_layOut 174 = .ok (.iconst 1, 1) := by decide +kernel
theorem dX3_layOut_175 : decode cX3_layOut 175 = .ok (.isub, 1) := by decide +kernel
theorem dX3_layOut_176 : decode cX3_layOut 176 = .ok (.sipush 2048, 3) := by decide +kernel
theorem dX3_layOut_179 : decode cX3_layOut 179 = .ok (.idiv, 1) := by decide +kernel
theorem dX3_layOut_180 : decode cX3_layOut 180 = .ok (.putfield 171, 3) := by decide +kernel
theorem dX3_layOut_183 : decode cX3_layOut 183 = .ok (.iload_n 2, 1) := by decide +kernel
theorem dX3_layOut_184 : decode cX3_layOut 184 = .ok (.aload 4, 2) := by decide +kernel
theorem dX3_layOut_186 : decode cX3_layOut 186 = .ok (.getfield 171, 3) := by decide +kernel
theorem dX3_layOut_189 : decode cX3_layOut 189 = .ok (.iadd, 1) := by decide +kernel
theorem dX3_layOut_190 : decode cX3_layOut 190 = .ok (.istore_n 2, 1) := by decide +kernel
theorem dX3_layOut_191 : decode cX3_layOut 191 = .ok (.iinc 3 1, 3) := by decide +kernel
theorem dX3_layOut_194 : decode cX3_layOut 194 = .ok (.goto (-167), 3) := by decide +kernel
theorem dX3_layOut_197 : decode cX3_layOut 197 = .ok (.iload_n 2, 1) := by decide +kernel
theorem dX3_layOut_198 : decode cX3_layOut 198 = .ok (.ireturn, 1) := by decide +kernel
/-- WriteOnceDisc$Burner.layOut(I)I -/
def wX3_layOut_L154 (post : Int32 → Hp → Prop) (rc27 : Int32 → Int32 → Hp → Prop) (rc80 : Int32 → Int32 → Hp → Prop) (x0 : Nat) (x2 : Int32) (x3 : Int32) (x4 : Nat) (x5 : Int32) (x6 : Nat) (x7 : Int32) (σ : Hp) : Prop :=
(∀ y1 : Int32, y1 = x7 + 1 → rc80 x5 y1 σ)
def wX3_layOut_B80 (post : Int32 → Hp → Prop) (rc27 : Int32 → Int32 → Hp → Prop) (rc80 : Int32 → Int32 → Hp → Prop) (x0 : Nat) (x2 : Int32) (x3 : Int32) (x4 : Nat) (x5 : Int32) (x6 : Nat) (x7 : Int32) (σ : Hp) : Prop :=
(tg_ σ x6 = 11 ∧ (wJ2_size x6  σ (fun r3 => ((r3 ≤ x7 →
  (tg_ σ x4 = 6 ∧ (∀ σ6, σ6 = sI_ σ 5 9 x4 x2 → (∀ σ7, σ7 = sI_ σ6 5 10 x4 (((x5 + (2048 : Int32)) - (1 : Int32)) / (2048 : Int32)) → (∀ y8 : Int32, y8 = (x2 + (fI_ σ7 5 10 x4)) → (∀ y9 : Int32, y9 = x3 + 1 → rc27 y8 y9 σ7)))))) ∧
 (¬ r3 ≤ x7 →
  (wJ2_get x6 x7 σ (fun r10 => ((r10 = 0 ∨ tg_ σ r10 = 6) ∧ (tg_ σ r10 = 6 ∧ (wX3_recordSize (fR_ σ 5 7 r10) σ (fun r13 => (wX3_fit x5 r13 σ (fun r14 => (∀ y15 : Int32, y15 = (r14 + r13) → (wJ2_get x6 x7 σ (fun r16 => ((r16 = 0 ∨ tg_ σ r16 = 6) ∧ (tg_ σ r16 = 6 ∧ (((fI_ σ 5 1 r16) = 0 →
   wX3_layOut_L154 post rc27 rc80 x0 x2 x3 x4 y15 x6 x7 σ) ∧
  (¬ (fI_ σ 5 1 r16) = 0 →
   (tg_ σ x0 = 3 ∧ (wJ2_get x6 x7 σ (fun r21 => ((r21 = 0 ∨ tg_ σ r21 = 6) ∧ (tg_ σ (fR_ σ 2 4 x0) = 11 ∧ (∃ mc24 ms25 : Nat, (mc24 ≤ bc_ σ ∧ (ms25 ≤ bs_ σ ∧ (wJ2_add (fR_ σ 2 4 x0) r21 (bu_ σ mc24 ms25) (fun r28 σ29 => (∀ σ30, σ30 = bu_ σ29 (bc_ σ - mc24) (bs_ σ - ms25) → wX3_layOut_L154 post rc27 rc80 x0 x2 x3 x4 y15 x6 x7 σ30)))))))))))))))))))))))))))))))
def wX3_layOut_L80 (post : Int32 → Hp → Prop) (rc27 : Int32 → Int32 → Hp → Prop) (x0 : Nat) (x2 : Int32) (x3 : Int32) (x4 : Nat) (x5 : Int32) (x6 : Nat) (x7 : Int32) (σ : Hp) : Prop :=
 ∃ (I : Int32 → Int32 → Hp → Prop) (μ : Int32 → Int32 → Hp → Nat), I x5 x7 σ ∧ ∀ (x5 : Int32) (x7 : Int32) (σ : Hp), I x5 x7 σ → wX3_layOut_B80 post rc27 (fun x5' x7' σ' => I x5' x7' σ' ∧ μ x5' x7' σ' < μ x5 x7 σ) x0 x2 x3 x4 x5 x6 x7 σ
def wX3_layOut_B27 (post : Int32 → Hp → Prop) (rc27 : Int32 → Int32 → Hp → Prop) (x0 : Nat) (x2 : Int32) (x3 : Int32) (σ : Hp) : Prop :=
(tg_ σ x0 = 3 ∧ (tg_ σ (fR_ σ 2 4 x0) = 11 ∧ (wJ2_size (fR_ σ 2 4 x0)  σ (fun r33 => ((r33 ≤ x3 →
  post x2 σ) ∧
 (¬ r33 ≤ x3 →
  (wJ2_get (fR_ σ 2 4 x0) x3 σ (fun r35 => ((r35 = 0 ∨ tg_ σ r35 = 6) ∧ (tg_ σ r35 = 6 ∧ (∀ σ38, σ38 = sI_ σ 5 11 r35 (x3 + (1 : Int32)) → (tg_ σ38 (fR_ σ38 2 3 x0) = 5 ∧ (∃ mc40 ms41 : Nat, (mc40 ≤ bc_ σ38 ∧ (ms41 ≤ bs_ σ38 ∧ (wX5_order (fR_ σ38 2 3 x0) (fI_ σ38 5 0 r35) (bu_ σ38 mc40 ms41) (fun r44 σ45 => (∀ σ46, σ46 = bu_ σ45 (bc_ σ38 - mc40) (bs_ σ38 - ms41) → wX3_layOut_L80 post rc27 x0 x2 x3 r35 (68 : Int32) r44 (0 : Int32) σ46))))))))))))))))))
def wX3_layOut_L27 (post : Int32 → Hp → Prop) (x0 : Nat) (x2 : Int32) (x3 : Int32) (σ : Hp) : Prop :=
 ∃ (I : Int32 → Int32 → Hp → Prop) (μ : Int32 → Int32 → Hp → Nat), I x2 x3 σ ∧ ∀ (x2 : Int32) (x3 : Int32) (σ : Hp), I x2 x3 σ → wX3_layOut_B27 post (fun x2' x3' σ' => I x2' x3' σ' ∧ μ x2' x3' σ' < μ x2 x3 σ) x0 x2 x3 σ
def wX3_layOut (x0 : Nat) (x1 : Int32) (σ : Hp) (post : Int32 → Hp → Prop) : Prop :=
(tg_ σ x0 = 3 ∧ (tg_ σ (fR_ σ 2 4 x0) = 11 ∧ (wJ2_clear (fR_ σ 2 4 x0)  σ (fun σ49 => (∀ σ50, σ50 = bu_ σ49 (bc_ σ) (bs_ σ) → (tg_ σ50 x0 = 3 ∧ (tg_ σ50 (fR_ σ50 2 3 x0) = 5 ∧ (wX5_find (fR_ σ50 2 3 x0) (0 : Int32) σ50 (fun r53 => (tg_ σ50 (fR_ σ50 2 4 x0) = 11 ∧ (∃ mc55 ms56 : Nat, (mc55 ≤ bc_ σ50 ∧ (ms56 ≤ bs_ σ50 ∧ (wJ2_add (fR_ σ50 2 4 x0) r53 (bu_ σ50 mc55 ms56) (fun r59 σ60 => (∀ σ61, σ61 = bu_ σ60 (bc_ σ50 - mc55) (bs_ σ50 - ms56) → wX3_layOut_L27 post x0 x1 (0 : Int32) σ61))))))))))))))))
set_option maxHeartbeats 4000000 in
theorem sX3_layOut_L154 {G : GG_} {p : Program} {l : Launch} {e : Env} {R : Room} {s : State} {m : MethodId} {args : Array Value} {below : List Frame} {meth : Method} {c : Code} {mc ms : Nat} (Y : MX_ G p R s m args meth c cX3_layOut 9 RX3 (some Jvm.ClassFile.FieldType.int) 8 204 mc ms "layOut") {post : Int32 → Hp → Prop} {rc27 : Int32 → Int32 → Hp → Prop} {rc80 : Int32 → Int32 → Hp → Prop} {x0 : Nat} {x2 : Int32} {x3 : Int32} {x4 : Nat} {x5 : Int32} {x6 : Nat} {x7 : Int32} {σ : Hp} (hrc27 : ∀ (x2 : Int32) (x3 : Int32) (σ : Hp), rc27 x2 x3 σ → WG_ G p l e R s m args below meth c (MQ below (QI_ G post) args s mc ms (FR_ G)) (BU_ R) 9 27 [(0, rv_ x0), (2, .int x2), (3, .int x3)] [] σ) (hrc80 : ∀ (x5 : Int32) (x7 : Int32) (σ : Hp), rc80 x5 x7 σ → WG_ G p l e R s m args below meth c (MQ below (QI_ G post) args s mc ms (FR_ G)) (BU_ R) 9 80 [(0, rv_ x0), (2, .int x2), (3, .int x3), (4, rv_ x4), (5, .int x5), (6, rv_ x6), (7, .int x7)] [] σ) (hf : wX3_layOut_L154 post rc27 rc80 x0 x2 x3 x4 x5 x6 x7 σ) : WG_ G p l e R s m args below meth c (MQ below (QI_ G post) args s mc ms (FR_ G)) (BU_ R) 9 154 [(0, rv_ x0), (2, .int x2), (3, .int x3), (4, rv_ x4), (5, .int x5), (6, rv_ x6), (7, .int x7)] [] σ := by
  have ⟨X, hlk, hr, hRf, hRl, hRc, hnm⟩ := Y
  have ⟨⟨hx, hb, _, hown, hts⟩, _, _⟩ := X
  intro H locs cells slots ls hP hL hB hl
  unfold wX3_layOut_L154 at hf
  have hl := lv_sub hl [6, 0, 1, 2, 3, 4, 5] rfl
  refine p_iincc (i := 7) (k := 1) hx hb (by decide) dX3_layOut_154 hl (by decide) ⟨⟨ne_ rfl, Or.inl (ne_ rfl)⟩, ⟨⟨ne_ rfl, Or.inl (ne_ rfl)⟩, ⟨⟨ne_ rfl, Or.inl (ne_ rfl)⟩, ⟨⟨ne_ rfl, Or.inl (ne_ rfl)⟩, ⟨⟨ne_ rfl, Or.inl (ne_ rfl)⟩, ⟨⟨ne_ rfl, Or.inr (rv_cat _)⟩, trivial⟩⟩⟩⟩⟩⟩ (fun y1 hy1 ls hl => ?_)
  have hf := hf y1 hy1
  refine lv_goto (tgt := 80) hx hb dX3_layOut_157 (by decide) ?_
  exact hrc80 _ _ _ hf _ _ _ _ _ hP hL hB (lv_sub hl [1, 2, 3, 4, 5, 6, 0] rfl)
set_option maxHeartbeats 4000000 in
theorem sX3_layOut_B80 {G : GG_} {p : Program} {l : Launch} {e : Env} {R : Room} {s : State} {m : MethodId} {args : Array Value} {below : List Frame} {meth : Method} {c : Code} {mc ms : Nat} (Y : MX_ G p R s m args meth c cX3_layOut 9 RX3 (some Jvm.ClassFile.FieldType.int) 8 204 mc ms "layOut") {post : Int32 → Hp → Prop} {rc27 : Int32 → Int32 → Hp → Prop} {rc80 : Int32 → Int32 → Hp → Prop} {x0 : Nat} {x2 : Int32} {x3 : Int32} {x4 : Nat} {x5 : Int32} {x6 : Nat} {x7 : Int32} {σ : Hp} (hrc27 : ∀ (x2 : Int32) (x3 : Int32) (σ : Hp), rc27 x2 x3 σ → WG_ G p l e R s m args below meth c (MQ below (QI_ G post) args s mc ms (FR_ G)) (BU_ R) 9 27 [(0, rv_ x0), (2, .int x2), (3, .int x3)] [] σ) (hrc80 : ∀ (x5 : Int32) (x7 : Int32) (σ : Hp), rc80 x5 x7 σ → WG_ G p l e R s m args below meth c (MQ below (QI_ G post) args s mc ms (FR_ G)) (BU_ R) 9 80 [(0, rv_ x0), (2, .int x2), (3, .int x3), (4, rv_ x4), (5, .int x5), (6, rv_ x6), (7, .int x7)] [] σ) (hf : wX3_layOut_B80 post rc27 rc80 x0 x2 x3 x4 x5 x6 x7 σ) : WG_ G p l e R s m args below meth c (MQ below (QI_ G post) args s mc ms (FR_ G)) (BU_ R) 9 80 [(0, rv_ x0), (2, .int x2), (3, .int x3), (4, rv_ x4), (5, .int x5), (6, rv_ x6), (7, .int x7)] [] σ := by
  have ⟨X, hlk, hr, hRf, hRl, hRc, hnm⟩ := Y
  have ⟨⟨hx, hb, _, hown, hts⟩, _, _⟩ := X
  intro H locs cells slots ls hP hL hB hl
  unfold wX3_layOut_B80 at hf
  refine lv_iload hx hb dX3_layOut_80 (lv_at hl 6 rfl) ?_
  refine p_aload hx hb dX3_layOut_82 (lv_at hl 5 rfl) ?_
  obtain ⟨ht2, hf⟩ := hf
  refine p_calli hL (p_runV X cf10_ hP ht2 (metJ2_size l G _ _ _ X.2.2 hf) (cwV 0 hts (lw_V q810 q720 q721 q90 q722) rfl rfl rfl (by decide +kernel) ⟨Nat.le_trans (Nat.le_of_ble_eq_true rfl) hRf, Nat.le_trans (Nat.le_of_ble_eq_true rfl) hRl⟩) rfl hl.1 rfl (by rw [(ca_i ca_n)]; decide) dX3_layOut_84 (BU_call hB (Nat.zero_le _) (Nat.zero_le _))) (fun r3 σ₁ H locs hf hP hL => ?_)
  obtain ⟨e₁, hf⟩ := hf
  rw [e₁] at hP
  refine lv_icmp_ge (tgt := 160) hx hb dX3_layOut_87 (by decide) (fun c4 => ?_) (fun c4 => ?_)
  · have hf := hf.1 c4
    refine p_aload hx hb dX3_layOut_160 (lv_at hl 3 rfl) ?_
    refine lv_iload_n hx hb dX3_layOut_162 rfl (lv_at hl 1 rfl) ?_
    obtain ⟨ht5, hf⟩ := hf
    refine p_pI X cf5_ (k := 9) (by decide) rfl hP hL ht5 (p_ow hP ht5 rfl) q463 (fun _ h => h) (Or.inl rfl) rfl rfl dX3_layOut_163 (fun H locs hP hL => ?_)
    refine p_nmPB hP hB (fun σ6 hσ6 hP hB => ?_)
    have hf := hf σ6 hσ6
    have ht2 : tg_ σ6 x6 = 11 := by rw [hσ6]; exact ht2
    have ht5 : tg_ σ6 x4 = 6 := by rw [hσ6]; exact ht5
    refine p_aload hx hb dX3_layOut_166 (lv_at hl 3 rfl) ?_
    refine lv_iload hx hb dX3_layOut_168 (lv_at hl 4 rfl) ?_
    refine lv_sipush (v := 2048) hx hb dX3_layOut_170 (by decide) ?_
    refine lv_iadd hx hb dX3_layOut_173 ?_
    refine lv_iconst (v := 1) hx hb dX3_layOut_174 (by decide) ?_
    refine lv_isub hx hb dX3_layOut_175 ?_
    refine lv_sipush (v := 2048) hx hb dX3_layOut_176 (by decide) ?_
    refine lv_idiv hx hb dX3_layOut_179 (by decide) ?_
    refine p_pI X cf5_ (k := 10) (by decide) rfl hP hL ht5 (p_ow hP ht5 rfl) q464 (fun _ h => h) (Or.inl rfl) rfl rfl dX3_layOut_180 (fun H locs hP hL => ?_)
    refine p_nmPB hP hB (fun σ7 hσ7 hP hB => ?_)
    have hf := hf σ7 hσ7
    have ht2 : tg_ σ7 x6 = 11 := by rw [hσ7]; exact ht2
    have ht5 : tg_ σ7 x4 = 6 := by rw [hσ7]; exact ht5
    refine lv_iload_n hx hb dX3_layOut_183 rfl (lv_at hl 1 rfl) ?_
    refine p_aload hx hb dX3_layOut_184 (lv_at hl 3 rfl) ?_
    refine p_gI X cf5_ (k := 10) (by decide) rfl hP ht5 q464 (fun _ h => h) dX3_layOut_186 ?_
    refine lv_iadd hx hb dX3_layOut_189 ?_
    have hl := lv_sub hl [0, 2] rfl
    refine lv_topi (fun y8 hy8 => ?_)
    have hf := hf y8 hy8
    refine p_istore_n (i := 2) hx hb dX3_layOut_190 rfl hl (by decide) ⟨⟨ne_ rfl, Or.inl (ne_ rfl)⟩, ⟨⟨ne_ rfl, Or.inl (ne_ rfl)⟩, trivial⟩⟩ (fun ls hl => ?_)
    have hl := lv_sub hl [2, 0, 1] rfl
    refine p_iincc (i := 3) (k := 1) hx hb (by decide) dX3_layOut_191 hl (by decide) ⟨⟨ne_ rfl, Or.inr rfl⟩, ⟨⟨ne_ rfl, Or.inl (ne_ rfl)⟩, trivial⟩⟩ (fun y9 hy9 ls hl => ?_)
    have hf := hf y9 hy9
    refine lv_goto (tgt := 27) hx hb dX3_layOut_194 (by decide) ?_
    exact hrc27 _ _ _ hf _ _ _ _ _ hP hL hB (lv_sub hl [2, 1, 0] rfl)
  · have hf := hf.2 c4
    refine p_aload hx hb dX3_layOut_90 (lv_at hl 5 rfl) ?_
    refine lv_iload hx hb dX3_layOut_92 (lv_at hl 6 rfl) ?_
    refine p_callr hL (p_runV X cf10_ hP ht2 (metJ2_get l G _ _ _ _ X.2.2 hf) (cwV 1 hts (lw_V q811 q724 q725 q90 q726) rfl rfl rfl (by decide +kernel) ⟨Nat.le_trans (Nat.le_of_ble_eq_true rfl) hRf, Nat.le_trans (Nat.le_of_ble_eq_true rfl) hRl⟩) rfl hl.1 rfl (by decide) dX3_layOut_94 (BU_call hB (Nat.zero_le _) (Nat.zero_le _))) (fun r10 σ₁ H locs hf hP hL => ?_)
    obtain ⟨e₁, hf⟩ := hf
    rw [e₁] at hP
    obtain ⟨hc11, hf⟩ := hf
    refine p_cast X cf5_ hP hc11 q812 dX3_layOut_97 ?_
    obtain ⟨ht12, hf⟩ := hf
    refine p_gR X cf5_ (k := 7) (by decide) rfl hP ht12 q460 (fun _ h => h) dX3_layOut_100 ?_
    refine p_calli hL (p_runS X hP (metX3_recordSize l G _ _ _ X.2.2 hf) (va_cwS 1 hts (lw_S q881 q882 q87 q883) rfl rfl rfl (by decide +kernel) ⟨Nat.le_trans (Nat.le_of_ble_eq_true rfl) hRf, Nat.le_trans (Nat.le_of_ble_eq_true rfl) hRl⟩) rfl hl.1 rfl (by decide) dX3_layOut_103 (BU_call hB (Nat.zero_le _) (Nat.zero_le _))) (fun r13 σ₁ H locs hf hP hL => ?_)
    obtain ⟨e₁, hf⟩ := hf
    rw [e₁] at hP
    refine p_istore (i := 8) hx hb dX3_layOut_106 hl (by decide) ⟨⟨ne_ rfl, Or.inl (ne_ rfl)⟩, ⟨⟨ne_ rfl, Or.inl (ne_ rfl)⟩, ⟨⟨ne_ rfl, Or.inl (ne_ rfl)⟩, ⟨⟨ne_ rfl, Or.inl (ne_ rfl)⟩, ⟨⟨ne_ rfl, Or.inl (ne_ rfl)⟩, ⟨⟨ne_ rfl, Or.inl (ne_ rfl)⟩, ⟨⟨ne_ rfl, Or.inr rfl⟩, trivial⟩⟩⟩⟩⟩⟩⟩ (fun ls hl => ?_)
    refine lv_iload hx hb dX3_layOut_108 (lv_at hl 5 rfl) ?_
    refine lv_iload hx hb dX3_layOut_110 (lv_at hl 0 rfl) ?_
    refine p_calli hL (p_runS X hP (metX3_fit l G _ _ _ _ X.2.2 hf) (va_cwS 2 hts (lw_S q885 q886 q87 q887) rfl rfl rfl (by decide +kernel) ⟨Nat.le_trans (Nat.le_of_ble_eq_true rfl) hRf, Nat.le_trans (Nat.le_of_ble_eq_true rfl) hRl⟩) rfl hl.1 rfl (by decide) dX3_layOut_112 (BU_call hB (Nat.zero_le _) (Nat.zero_le _))) (fun r14 σ₁ H locs hf hP hL => ?_)
    obtain ⟨e₁, hf⟩ := hf
    rw [e₁] at hP
    refine lv_iload hx hb dX3_layOut_115 (lv_at hl 0 rfl) ?_
    refine lv_iadd hx hb dX3_layOut_117 ?_
    have hl := lv_sub hl [1, 2, 3, 4, 6, 7] rfl
    refine lv_topi (fun y15 hy15 => ?_)
    have hf := hf y15 hy15
    refine p_istore (i := 5) hx hb dX3_layOut_118 hl (by decide) ⟨⟨ne_ rfl, Or.inl (ne_ rfl)⟩, ⟨⟨ne_ rfl, Or.inl (ne_ rfl)⟩, ⟨⟨ne_ rfl, Or.inl (ne_ rfl)⟩, ⟨⟨ne_ rfl, Or.inr (rv_cat _)⟩, ⟨⟨ne_ rfl, Or.inl (ne_ rfl)⟩, ⟨⟨ne_ rfl, Or.inl (ne_ rfl)⟩, trivial⟩⟩⟩⟩⟩⟩ (fun ls hl => ?_)
    refine p_aload hx hb dX3_layOut_120 (lv_at hl 5 rfl) ?_
    refine lv_iload hx hb dX3_layOut_122 (lv_at hl 6 rfl) ?_
    refine p_callr hL (p_runV X cf10_ hP ht2 (metJ2_get l G _ _ _ _ X.2.2 hf) (cwV 1 hts (lw_V q811 q724 q725 q90 q726) rfl rfl rfl (by decide +kernel) ⟨Nat.le_trans (Nat.le_of_ble_eq_true rfl) hRf, Nat.le_trans (Nat.le_of_ble_eq_true rfl) hRl⟩) rfl hl.1 rfl (by decide) dX3_layOut_124 (BU_call hB (Nat.zero_le _) (Nat.zero_le _))) (fun r16 σ₁ H locs hf hP hL => ?_)
    obtain ⟨e₁, hf⟩ := hf
    rw [e₁] at hP
    obtain ⟨hc17, hf⟩ := hf
    refine p_cast X cf5_ hP hc17 q812 dX3_layOut_127 ?_
    obtain ⟨ht18, hf⟩ := hf
    refine p_gI X cf5_ (k := 1) (by decide) rfl hP ht18 q442 (fun _ h => h) dX3_layOut_130 ?_
    refine lv_if_eq (tgt := 154) hx hb dX3_layOut_133 (by decide) (fun c19 => ?_) (fun c19 => ?_)
    · have hf := hf.1 c19
      exact sX3_layOut_L154 Y hrc27 hrc80 hf _ _ _ _ _ hP hL hB (lv_sub hl [1, 2, 3, 4, 0, 5, 6] rfl)
    · have hf := hf.2 c19
      refine p_aload_n hx hb dX3_layOut_136 rfl (lv_at hl 1 rfl) ?_
      obtain ⟨ht20, hf⟩ := hf
      refine p_gR X cf2_ (k := 4) (by decide) rfl hP ht20 q189 (fun _ h => h) dX3_layOut_137 ?_
      refine p_aload hx hb dX3_layOut_140 (lv_at hl 5 rfl) ?_
      refine lv_iload hx hb dX3_layOut_142 (lv_at hl 6 rfl) ?_
      refine p_callr hL (p_runV X cf10_ hP ht2 (metJ2_get l G _ _ _ _ X.2.2 hf) (cwV 1 hts (lw_V q811 q724 q725 q90 q726) rfl rfl rfl (by decide +kernel) ⟨Nat.le_trans (Nat.le_of_ble_eq_true rfl) hRf, Nat.le_trans (Nat.le_of_ble_eq_true rfl) hRl⟩) rfl hl.1 rfl (by rw [(ca_r ca_n)]; decide) dX3_layOut_144 (BU_call hB (Nat.zero_le _) (Nat.zero_le _))) (fun r21 σ₁ H locs hf hP hL => ?_)
      obtain ⟨e₁, hf⟩ := hf
      rw [e₁] at hP
      obtain ⟨hc22, hf⟩ := hf
      refine p_cast X cf5_ hP hc22 q812 dX3_layOut_147 ?_
      obtain ⟨ht23, hf⟩ := hf
      obtain ⟨mc24, ms25, hf⟩ := hf
      obtain ⟨hb26, hf⟩ := hf
      obtain ⟨hb27, hf⟩ := hf
      refine p_calli hL (p_runV X cf10_ (Pic_bu hP mc24 ms25) ht23 (metJ2_add l G _ _ _ _ _ _ X.2.2 hf) (cwV 1 hts (lw_V q854 q496 q497 q90 q498) rfl rfl rfl (by decide +kernel) ⟨Nat.le_trans (Nat.le_of_ble_eq_true rfl) hRf, Nat.le_trans (Nat.le_of_ble_eq_true rfl) hRl⟩) rfl hl.1 rfl (by decide) dX3_layOut_150 (BU_call hB hb26 hb27)) (fun r28 σ29 H locs hf hP hL => ?_)
      have hB := BU_back (τ := σ29) hB hb26 hb27
      have hP := Pic_bu hP (bc_ σ - mc24) (bs_ σ - ms25)
      refine p_nmPB hP hB (fun σ30 hσ30 hP hB => ?_)
      have hf := hf σ30 hσ30
      refine lv_pop hx hb dX3_layOut_153 rfl ?_
      exact sX3_layOut_L154 Y hrc27 hrc80 hf _ _ _ _ _ hP hL hB (lv_sub hl [1, 2, 3, 4, 0, 5, 6] rfl)
set_option maxHeartbeats 4000000 in
theorem sX3_layOut_L80 {G : GG_} {p : Program} {l : Launch} {e : Env} {R : Room} {s : State} {m : MethodId} {args : Array Value} {below : List Frame} {meth : Method} {c : Code} {mc ms : Nat} (Y : MX_ G p R s m args meth c cX3_layOut 9 RX3 (some Jvm.ClassFile.FieldType.int) 8 204 mc ms "layOut") {post : Int32 → Hp → Prop} {rc27 : Int32 → Int32 → Hp → Prop} {x0 : Nat} {x2 : Int32} {x3 : Int32} {x4 : Nat} {x5 : Int32} {x6 : Nat} {x7 : Int32} {σ : Hp} (hrc27 : ∀ (x2 : Int32) (x3 : Int32) (σ : Hp), rc27 x2 x3 σ → WG_ G p l e R s m args below meth c (MQ below (QI_ G post) args s mc ms (FR_ G)) (BU_ R) 9 27 [(0, rv_ x0), (2, .int x2), (3, .int x3)] [] σ) (hf : wX3_layOut_L80 post rc27 x0 x2 x3 x4 x5 x6 x7 σ) : WG_ G p l e R s m args below meth c (MQ below (QI_ G post) args s mc ms (FR_ G)) (BU_ R) 9 80 [(0, rv_ x0), (2, .int x2), (3, .int x3), (4, rv_ x4), (5, .int x5), (6, rv_ x6), (7, .int x7)] [] σ := by
  unfold wX3_layOut_L80 at hf
  obtain ⟨I, μ, h0, hI⟩ := hf
  have key : ∀ (n : Nat) (x5 : Int32) (x7 : Int32) (σ : Hp), I x5 x7 σ → μ x5 x7 σ < n → WG_ G p l e R s m args below meth c (MQ below (QI_ G post) args s mc ms (FR_ G)) (BU_ R) 9 80 [(0, rv_ x0), (2, .int x2), (3, .int x3), (4, rv_ x4), (5, .int x5), (6, rv_ x6), (7, .int x7)] [] σ := by
    intro n
    induction n with
    | zero => intro x5 x7 σ _ h; exact absurd h (Nat.not_lt_zero _)
    | succ n ih => intro x5 x7 σ hi hn; exact sX3_layOut_B80 Y hrc27 (fun x5' x7' σ' h => ih x5' x7' σ' h.1 (Nat.lt_of_lt_of_le h.2 (Nat.le_of_lt_succ hn))) (hI x5 x7 σ hi)
  exact key _ _ _ _ h0 (Nat.lt_succ_self _)
set_option maxHeartbeats 4000000 in
theorem sX3_layOut_B27 {G : GG_} {p : Program} {l : Launch} {e : Env} {R : Room} {s : State} {m : MethodId} {args : Array Value} {below : List Frame} {meth : Method} {c : Code} {mc ms : Nat} (Y : MX_ G p R s m args meth c cX3_layOut 9 RX3 (some Jvm.ClassFile.FieldType.int) 8 204 mc ms "layOut") {post : Int32 → Hp → Prop} {rc27 : Int32 → Int32 → Hp → Prop} {x0 : Nat} {x2 : Int32} {x3 : Int32} {σ : Hp} (hrc27 : ∀ (x2 : Int32) (x3 : Int32) (σ : Hp), rc27 x2 x3 σ → WG_ G p l e R s m args below meth c (MQ below (QI_ G post) args s mc ms (FR_ G)) (BU_ R) 9 27 [(0, rv_ x0), (2, .int x2), (3, .int x3)] [] σ) (hf : wX3_layOut_B27 post rc27 x0 x2 x3 σ) : WG_ G p l e R s m args below meth c (MQ below (QI_ G post) args s mc ms (FR_ G)) (BU_ R) 9 27 [(0, rv_ x0), (2, .int x2), (3, .int x3)] [] σ := by
  have ⟨X, hlk, hr, hRf, hRl, hRc, hnm⟩ := Y
  have ⟨⟨hx, hb, _, hown, hts⟩, _, _⟩ := X
  intro H locs cells slots ls hP hL hB hl
  unfold wX3_layOut_B27 at hf
  refine lv_iload_n hx hb dX3_layOut_27 rfl (lv_at hl 2 rfl) ?_
  refine p_aload_n hx hb dX3_layOut_28 rfl (lv_at hl 0 rfl) ?_
  obtain ⟨ht31, hf⟩ := hf
  refine p_gR X cf2_ (k := 4) (by decide) rfl hP ht31 q189 (fun _ h => h) dX3_layOut_29 ?_
  obtain ⟨ht32, hf⟩ := hf
  refine p_calli hL (p_runV X cf10_ hP ht32 (metJ2_size l G _ _ _ X.2.2 hf) (cwV 0 hts (lw_V q810 q720 q721 q90 q722) rfl rfl rfl (by decide +kernel) ⟨Nat.le_trans (Nat.le_of_ble_eq_true rfl) hRf, Nat.le_trans (Nat.le_of_ble_eq_true rfl) hRl⟩) rfl hl.1 rfl (by rw [(ca_i ca_n)]; decide) dX3_layOut_32 (BU_call hB (Nat.zero_le _) (Nat.zero_le _))) (fun r33 σ₁ H locs hf hP hL => ?_)
  obtain ⟨e₁, hf⟩ := hf
  rw [e₁] at hP
  refine lv_icmp_ge (tgt := 197) hx hb dX3_layOut_35 (by decide) (fun c34 => ?_) (fun c34 => ?_)
  · have hf := hf.1 c34
    refine lv_iload_n hx hb dX3_layOut_197 rfl (lv_at hl 1 rfl) ?_
    exact p_iret X hlk hP hL (BU_le hB hRc).1 (BU_le hB hRc).2 hr dX3_layOut_198 hf
  · have hf := hf.2 c34
    refine p_aload_n hx hb dX3_layOut_38 rfl (lv_at hl 0 rfl) ?_
    refine p_gR X cf2_ (k := 4) (by decide) rfl hP ht31 q189 (fun _ h => h) dX3_layOut_39 ?_
    refine lv_iload_n hx hb dX3_layOut_42 rfl (lv_at hl 2 rfl) ?_
    refine p_callr hL (p_runV X cf10_ hP ht32 (metJ2_get l G _ _ _ _ X.2.2 hf) (cwV 1 hts (lw_V q811 q724 q725 q90 q726) rfl rfl rfl (by decide +kernel) ⟨Nat.le_trans (Nat.le_of_ble_eq_true rfl) hRf, Nat.le_trans (Nat.le_of_ble_eq_true rfl) hRl⟩) rfl hl.1 rfl (by decide) dX3_layOut_43 (BU_call hB (Nat.zero_le _) (Nat.zero_le _))) (fun r35 σ₁ H locs hf hP hL => ?_)
    obtain ⟨e₁, hf⟩ := hf
    rw [e₁] at hP
    obtain ⟨hc36, hf⟩ := hf
    refine p_cast X cf5_ hP hc36 q812 dX3_layOut_46 ?_
    refine p_astore (i := 4) hx hb dX3_layOut_49 hl (by decide) ⟨⟨ne_ rfl, Or.inl (ne_ rfl)⟩, ⟨⟨ne_ rfl, Or.inl (ne_ rfl)⟩, ⟨⟨ne_ rfl, Or.inr rfl⟩, trivial⟩⟩⟩ (fun ls hl => ?_)
    refine p_aload hx hb dX3_layOut_51 (lv_at hl 0 rfl) ?_
    refine lv_iload_n hx hb dX3_layOut_53 rfl (lv_at hl 3 rfl) ?_
    refine lv_iconst (v := 1) hx hb dX3_layOut_54 (by decide) ?_
    refine lv_iadd hx hb dX3_layOut_55 ?_
    obtain ⟨ht37, hf⟩ := hf
    refine p_pI X cf5_ (k := 11) (by decide) rfl hP hL ht37 (p_ow hP ht37 rfl) q465 (fun _ h => h) (Or.inl rfl) rfl rfl dX3_layOut_56 (fun H locs hP hL => ?_)
    refine p_nmPB hP hB (fun σ38 hσ38 hP hB => ?_)
    have hf := hf σ38 hσ38
    have ht31 : tg_ σ38 x0 = 3 := by rw [hσ38]; exact ht31
    have ht37 : tg_ σ38 r35 = 6 := by rw [hσ38]; exact ht37
    refine lv_bipush (v := 68) hx hb dX3_layOut_59 (by decide) ?_
    refine p_istore (i := 5) hx hb dX3_layOut_61 hl (by decide) ⟨⟨ne_ rfl, Or.inr (rv_cat _)⟩, ⟨⟨ne_ rfl, Or.inl (ne_ rfl)⟩, ⟨⟨ne_ rfl, Or.inl (ne_ rfl)⟩, ⟨⟨ne_ rfl, Or.inl (ne_ rfl)⟩, trivial⟩⟩⟩⟩ (fun ls hl => ?_)
    refine p_aload_n hx hb dX3_layOut_63 rfl (lv_at hl 2 rfl) ?_
    refine p_gR X cf2_ (k := 3) (by decide) rfl hP ht31 q188 (fun _ h => h) dX3_layOut_64 ?_
    refine p_aload hx hb dX3_layOut_67 (lv_at hl 1 rfl) ?_
    refine p_gI X cf5_ (k := 0) (by decide) rfl hP ht37 q437 (fun _ h => h) dX3_layOut_69 ?_
    obtain ⟨ht39, hf⟩ := hf
    obtain ⟨mc40, ms41, hf⟩ := hf
    obtain ⟨hb42, hf⟩ := hf
    obtain ⟨hb43, hf⟩ := hf
    refine p_callr hL (p_runV X cf4_ (Pic_bu hP mc40 ms41) ht39 (metX5_order l G _ _ _ _ _ _ X.2.2 hf) (cwV 1 hts (lw_V q855 q856 q857 q92 q858) rfl rfl rfl (by decide +kernel) ⟨Nat.le_trans (Nat.le_of_ble_eq_true rfl) hRf, Nat.le_trans (Nat.le_of_ble_eq_true rfl) hRl⟩) rfl hl.1 rfl (by decide) dX3_layOut_72 (BU_call hB hb42 hb43)) (fun r44 σ45 H locs hf hP hL => ?_)
    have hB := BU_back (τ := σ45) hB hb42 hb43
    have hP := Pic_bu hP (bc_ σ38 - mc40) (bs_ σ38 - ms41)
    refine p_nmPB hP hB (fun σ46 hσ46 hP hB => ?_)
    have hf := hf σ46 hσ46
    refine p_astore (i := 6) hx hb dX3_layOut_75 hl (by decide) ⟨⟨ne_ rfl, Or.inr rfl⟩, ⟨⟨ne_ rfl, Or.inl (ne_ rfl)⟩, ⟨⟨ne_ rfl, Or.inl (ne_ rfl)⟩, ⟨⟨ne_ rfl, Or.inl (ne_ rfl)⟩, ⟨⟨ne_ rfl, Or.inl (ne_ rfl)⟩, trivial⟩⟩⟩⟩⟩ (fun ls hl => ?_)
    refine lv_iconst (v := 0) hx hb dX3_layOut_77 (by decide) ?_
    refine p_istore (i := 7) hx hb dX3_layOut_78 hl (by decide) ⟨⟨ne_ rfl, Or.inr (rv_cat _)⟩, ⟨⟨ne_ rfl, Or.inl (ne_ rfl)⟩, ⟨⟨ne_ rfl, Or.inl (ne_ rfl)⟩, ⟨⟨ne_ rfl, Or.inl (ne_ rfl)⟩, ⟨⟨ne_ rfl, Or.inl (ne_ rfl)⟩, ⟨⟨ne_ rfl, Or.inl (ne_ rfl)⟩, trivial⟩⟩⟩⟩⟩⟩ (fun ls hl => ?_)
    exact sX3_layOut_L80 Y hrc27 hf _ _ _ _ _ hP hL hB (lv_sub hl [4, 5, 6, 3, 2, 1, 0] rfl)
set_option maxHeartbeats 4000000 in
theorem sX3_layOut_L27 {G : GG_} {p : Program} {l : Launch} {e : Env} {R : Room} {s : State} {m : MethodId} {args : Array Value} {below : List Frame} {meth : Method} {c : Code} {mc ms : Nat} (Y : MX_ G p R s m args meth c cX3_layOut 9 RX3 (some Jvm.ClassFile.FieldType.int) 8 204 mc ms "layOut") {post : Int32 → Hp → Prop} {x0 : Nat} {x2 : Int32} {x3 : Int32} {σ : Hp} (hf : wX3_layOut_L27 post x0 x2 x3 σ) : WG_ G p l e R s m args below meth c (MQ below (QI_ G post) args s mc ms (FR_ G)) (BU_ R) 9 27 [(0, rv_ x0), (2, .int x2), (3, .int x3)] [] σ := by
  unfold wX3_layOut_L27 at hf
  obtain ⟨I, μ, h0, hI⟩ := hf
  have key : ∀ (n : Nat) (x2 : Int32) (x3 : Int32) (σ : Hp), I x2 x3 σ → μ x2 x3 σ < n → WG_ G p l e R s m args below meth c (MQ below (QI_ G post) args s mc ms (FR_ G)) (BU_ R) 9 27 [(0, rv_ x0), (2, .int x2), (3, .int x3)] [] σ := by
    intro n
    induction n with
    | zero => intro x2 x3 σ _ h; exact absurd h (Nat.not_lt_zero _)
    | succ n ih => intro x2 x3 σ hi hn; exact sX3_layOut_B27 Y (fun x2' x3' σ' h => ih x2' x3' σ' h.1 (Nat.lt_of_lt_of_le h.2 (Nat.le_of_lt_succ hn))) (hI x2 x3 σ hi)
  exact key _ _ _ _ h0 (Nat.lt_succ_self _)
set_option maxHeartbeats 4000000 in
theorem sX3_layOut {G : GG_} {p : Program} {l : Launch} {e : Env} {R : Room} {s : State} {m : MethodId} {args : Array Value} {below : List Frame} {meth : Method} {c : Code} {mc ms : Nat} (Y : MX_ G p R s m args meth c cX3_layOut 9 RX3 (some Jvm.ClassFile.FieldType.int) 8 204 mc ms "layOut") {post : Int32 → Hp → Prop} {x0 : Nat} {x1 : Int32} {σ : Hp} (hf : wX3_layOut x0 x1 σ post) : WG_ G p l e R s m args below meth c (MQ below (QI_ G post) args s mc ms (FR_ G)) (BU_ R) 9 0 [(0, rv_ x0), (1, .int x1)] [] σ := by
  have ⟨X, hlk, hr, hRf, hRl, hRc, hnm⟩ := Y
  have ⟨⟨hx, hb, _, hown, hts⟩, _, _⟩ := X
  intro H locs cells slots ls hP hL hB hl
  unfold wX3_layOut at hf
  refine p_aload_n hx hb dX3_layOut_0 rfl (lv_at hl 0 rfl) ?_
  obtain ⟨ht47, hf⟩ := hf
  refine p_gR X cf2_ (k := 4) (by decide) rfl hP ht47 q189 (fun _ h => h) dX3_layOut_1 ?_
  obtain ⟨ht48, hf⟩ := hf
  refine p_callv hL (p_runV X cf10_ hP ht48 (metJ2_clear l G _ _ _ X.2.2 hf) (cwV 0 hts (lw_V q849 q850 q851 q90 q852) rfl rfl rfl (by decide +kernel) ⟨Nat.le_trans (Nat.le_of_ble_eq_true rfl) hRf, Nat.le_trans (Nat.le_of_ble_eq_true rfl) hRl⟩) rfl hl.1 rfl (by decide) dX3_layOut_4 (BU_call hB (Nat.zero_le _) (Nat.zero_le _))) (fun σ49 H locs hf hP hL => ?_)
  have hB := BU_keep (τ := σ49) hB
  have hP := Pic_bu hP (bc_ σ) (bs_ σ)
  refine p_nmPB hP hB (fun σ50 hσ50 hP hB => ?_)
  have hf := hf σ50 hσ50
  refine p_aload_n hx hb dX3_layOut_7 rfl (lv_at hl 0 rfl) ?_
  obtain ⟨ht51, hf⟩ := hf
  refine p_gR X cf2_ (k := 4) (by decide) rfl hP ht51 q189 (fun _ h => h) dX3_layOut_8 ?_
  refine p_aload_n hx hb dX3_layOut_11 rfl (lv_at hl 0 rfl) ?_
  refine p_gR X cf2_ (k := 3) (by decide) rfl hP ht51 q188 (fun _ h => h) dX3_layOut_12 ?_
  refine lv_iconst (v := 0) hx hb dX3_layOut_15 (by decide) ?_
  obtain ⟨ht52, hf⟩ := hf
  refine p_callr hL (p_runV X cf4_ hP ht52 (metX5_find l G _ _ _ _ X.2.2 hf) (cwV 1 hts (lw_V q853 q716 q717 q92 q718) rfl rfl rfl (by decide +kernel) ⟨Nat.le_trans (Nat.le_of_ble_eq_true rfl) hRf, Nat.le_trans (Nat.le_of_ble_eq_true rfl) hRl⟩) rfl hl.1 rfl (by rw [(ca_r ca_n)]; decide) dX3_layOut_16 (BU_call hB (Nat.zero_le _) (Nat.zero_le _))) (fun r53 σ₁ H locs hf hP hL => ?_)
  obtain ⟨e₁, hf⟩ := hf
  rw [e₁] at hP
  obtain ⟨ht54, hf⟩ := hf
  obtain ⟨mc55, ms56, hf⟩ := hf
  obtain ⟨hb57, hf⟩ := hf
  obtain ⟨hb58, hf⟩ := hf
  refine p_calli hL (p_runV X cf10_ (Pic_bu hP mc55 ms56) ht54 (metJ2_add l G _ _ _ _ _ _ X.2.2 hf) (cwV 1 hts (lw_V q854 q496 q497 q90 q498) rfl rfl rfl (by decide +kernel) ⟨Nat.le_trans (Nat.le_of_ble_eq_true rfl) hRf, Nat.le_trans (Nat.le_of_ble_eq_true rfl) hRl⟩) rfl hl.1 rfl (by decide) dX3_layOut_19 (BU_call hB hb57 hb58)) (fun r59 σ60 H locs hf hP hL => ?_)
  have hB := BU_back (τ := σ60) hB hb57 hb58
  have hP := Pic_bu hP (bc_ σ50 - mc55) (bs_ σ50 - ms56)
  refine p_nmPB hP hB (fun σ61 hσ61 hP hB => ?_)
  have hf := hf σ61 hσ61
  refine lv_pop hx hb dX3_layOut_22 rfl ?_
  refine lv_iload_n hx hb dX3_layOut_23 rfl (lv_at hl 1 rfl) ?_
  have hl := lv_sub hl [0] rfl
  refine p_istore_n (i := 2) hx hb dX3_layOut_24 rfl hl (by decide) ⟨⟨ne_ rfl, Or.inl (ne_ rfl)⟩, trivial⟩ (fun ls hl => ?_)
  refine lv_iconst (v := 0) hx hb dX3_layOut_25 (by decide) ?_
  refine p_istore_n (i := 3) hx hb dX3_layOut_26 rfl hl (by decide) ⟨⟨ne_ rfl, Or.inr rfl⟩, ⟨⟨ne_ rfl, Or.inl (ne_ rfl)⟩, trivial⟩⟩ (fun ls hl => ?_)
  exact sX3_layOut_L27 Y hf _ _ _ _ _ hP hL hB (lv_sub hl [2, 1, 0] rfl)
set_option maxHeartbeats 4000000 in
theorem metX3_layOut (l : Launch) (G : GG_) (mc ms : Nat) (x0 : Nat) (x1 : Int32) (σ : Hp) (post : Int32 → Hp → Prop) (hG : GOK_ G) (hf : wX3_layOut x0 x1 (bu_ σ mc ms) post) : Met l yX3_layOut (ws_ yX3_layOut cX3_layOut 9 (some Jvm.ClassFile.FieldType.int)) { frames := 8, cells := mc, slots := ms, locals := 204 } (PC_ G [rv_ x0, .int x1] (bu_ σ mc ms)) (QI_ G post) mc ms (FR_ G) := by
  refine Met.ofW (cc := cX3_layOut) (maxL := 9) (ret := (some Jvm.ClassFile.FieldType.int)) (by decide) rfl ?_
  intro p e s m args below meth c s₁ B hml hv
  obtain ⟨rfl, hP, hW⟩ := hv
  have hts := atoms_spec (ws := ws_ yX3_layOut cX3_layOut 9 (some Jvm.ClassFile.FieldType.int)) B.pre
  have hts : ∀ w ∈ lw_all, w.before _ s = true := fun w h => hts w (List.mem_cons_of_mem _ h)
  rw [lg_entry_eq]
  have hl := en_entry [rv_ x0, .int x1] [1, 1] (n := 9) (ca_r (ca_i ca_n)) (by decide)
  exact sX3_layOut ⟨⟨⟨B.exec, B.bytes, hml, findClass_of_methodNamed B.named, hts⟩, hW, hG⟩, B.notSynchronized, B.returns, Nat.le_refl _, Nat.le_refl _, ⟨rfl, rfl⟩, (name_of_methodNamed B.named B.method).1⟩ hf _ _ _ _ _ hP (LO_nil G) (BU_in ⟨rfl, rfl⟩) hl
abbrev cX4_low : ByteArray := prog_6_method_3_code
def yX4_low : MethodName := ⟨RX4, "low", "(III)V"⟩
theorem dX4_low_0 : decode cX4_low 0 = .ok (.iconst 0, 1) := by decide +kernel
theorem dX4_low_1 : decode cX4_low 1 = .ok (.istore 4, 2) := by decide +kernel
theorem dX4_low_3 : decode cX4_low 3 = .ok (.iload 4, 2) := by decide +kernel
theorem dX4_low_5 : decode cX4_low 5 = .ok (.iload_n 2, 1) := by decide +kernel
theorem dX4_low_6 : decode cX4_low 6 = .ok (.if_icmp .ge 26, 3) := by decide +kernel
theorem dX4_low_9 : decode cX4_low 9 = .ok (.aload_n 0, 1) := by decide +kernel
theorem dX4_low_10 : decode cX4_low 10 = .ok (.getfield 9, 3) := by decide +kernel
theorem dX4_low_13 : decode cX4_low 13 = .ok (.iload_n 1, 1) := by decide +kernel
theorem dX4_low_14 : decode cX4_low 14 = .ok (.iload 4, 2) := by decide +kernel
theorem dX4_low_16 : decode cX4_low 16 = .ok (.iadd, 1) := by decide +kernel
theorem dX4_low_17 : decode cX4_low 17 = .ok (.iload_n 3, 1) := by decide +kernel
theorem dX4_low_18 : decode cX4_low 18 = .ok (.bipush 8, 2) := by decide +kernel
theorem dX4_low_20 : decode cX4_low 20 = .ok (.iload 4, 2) := by decide +kernel
theorem dX4_low_22 : decode cX4_low 22 = .ok (.imul, 1) := by decide +kernel
theorem dX4_low_23 : decode cX4_low 23 = .ok (.ishr, 1) := by decide +kernel
theorem dX4_low_24 : decode cX4_low 24 = .ok (.i2b, 1) := by decide +kernel
theorem dX4_low_25 : decode cX4_low 25 = .ok (.bastore, 1) := by decide +kernel
theorem dX4_low_26 : decode cX4_low 26 = .ok (.iinc 4 1, 3) := by decide +kernel
theorem dX4_low_29 : decode cX4_low 29 = .ok (.goto (-26), 3) := by decide +kernel
theorem dX4_low_32 : decode cX4_low 32 = .ok (.return_, 1) := by decide +kernel
/-- WriteOnceDisc$Page.low(III)V -/
def wX4_low_B3 (post : Hp → Prop) (rc3 : Int32 → Hp → Prop) (x0 : Nat) (x1 : Int32) (x2 : Int32) (x3 : Int32) (x4 : Int32) (σ : Hp) : Prop :=
((x2 ≤ x4 →
  post σ) ∧
 (¬ x2 ≤ x4 →
  (tg_ σ x0 = 4 ∧ (tg_ σ (fR_ σ 3 0 x0) = 100 ∧ (lo_ σ < (fR_ σ 3 0 x0) ∧ (vp_in (x1 + x4) (ln_ σ (fR_ σ 3 0 x0)) ∧ (∀ σ6, σ6 = wI_ σ (fR_ σ 3 0 x0) ((x1 + x4)).toNatClampNeg (vp_nar .byte ((x3 >>> (((8 : Int32) * x4) &&& 31))).toInt8.toInt32) → (∀ y7 : Int32, y7 = x4 + 1 → rc3 y7 σ6))))))))
def wX4_low_L3 (post : Hp → Prop) (x0 : Nat) (x1 : Int32) (x2 : Int32) (x3 : Int32) (x4 : Int32) (σ : Hp) : Prop :=
 ∃ (I : Int32 → Hp → Prop) (μ : Int32 → Hp → Nat), I x4 σ ∧ ∀ (x4 : Int32) (σ : Hp), I x4 σ → wX4_low_B3 post (fun x4' σ' => I x4' σ' ∧ μ x4' σ' < μ x4 σ) x0 x1 x2 x3 x4 σ
def wX4_low (x0 : Nat) (x1 : Int32) (x2 : Int32) (x3 : Int32) (σ : Hp) (post : Hp → Prop) : Prop :=
wX4_low_L3 post x0 x1 x2 x3 (0 : Int32) σ
set_option maxHeartbeats 4000000 in
theorem sX4_low_B3 {G : GG_} {p : Program} {l : Launch} {e : Env} {R : Room} {s : State} {m : MethodId} {args : Array Value} {below : List Frame} {meth : Method} {c : Code} (Y : MX_ G p R s m args meth c cX4_low 5 RX4 none 1 20 0 0 "low") {post : Hp → Prop} {rc3 : Int32 → Hp → Prop} {x0 : Nat} {x1 : Int32} {x2 : Int32} {x3 : Int32} {x4 : Int32} {σ : Hp} (hrc3 : ∀ (x4 : Int32) (σ : Hp), rc3 x4 σ → WG_ G p l e R s m args below meth c (MQ below (QV_ G post) args s 0 0 (FR_ G)) BN_ 5 3 [(0, rv_ x0), (1, .int x1), (2, .int x2), (3, .int x3), (4, .int x4)] [] σ) (hf : wX4_low_B3 post rc3 x0 x1 x2 x3 x4 σ) : WG_ G p l e R s m args below meth c (MQ below (QV_ G post) args s 0 0 (FR_ G)) BN_ 5 3 [(0, rv_ x0), (1, .int x1), (2, .int x2), (3, .int x3), (4, .int x4)] [] σ := by
  have ⟨X, hlk, hr, hRf, hRl, hRc, hnm⟩ := Y
  have ⟨⟨hx, hb, _, hown, hts⟩, _, _⟩ := X
  intro H locs cells slots ls hP hL hB hl
  obtain ⟨rfl, rfl⟩ := hB
  unfold wX4_low_B3 at hf
  refine lv_iload hx hb dX4_low_3 (lv_at hl 4 rfl) ?_
  refine lv_iload_n hx hb dX4_low_5 rfl (lv_at hl 2 rfl) ?_
  refine lv_icmp_ge (tgt := 32) hx hb dX4_low_6 (by decide) (fun c1 => ?_) (fun c1 => ?_)
  · have hf := hf.1 c1
    exact p_vret X hlk hP hL (Nat.le_refl _) (Nat.le_refl _) hr dX4_low_32 hf
  · have hf := hf.2 c1
    refine p_aload_n hx hb dX4_low_9 rfl (lv_at hl 0 rfl) ?_
    obtain ⟨ht2, hf⟩ := hf
    refine p_gR X cf3_ (k := 0) (by decide) rfl hP ht2 q179 (fun _ h => h) dX4_low_10 ?_
    refine lv_iload_n hx hb dX4_low_13 rfl (lv_at hl 1 rfl) ?_
    refine lv_iload hx hb dX4_low_14 (lv_at hl 4 rfl) ?_
    refine lv_iadd hx hb dX4_low_16 ?_
    refine lv_iload_n hx hb dX4_low_17 rfl (lv_at hl 3 rfl) ?_
    refine lv_bipush (v := 8) hx hb dX4_low_18 (by decide) ?_
    refine lv_iload hx hb dX4_low_20 (lv_at hl 4 rfl) ?_
    refine lv_imul hx hb dX4_low_22 ?_
    refine lv_ishr hx hb dX4_low_23 ?_
    refine lv_i2b hx hb dX4_low_24 rfl ?_
    obtain ⟨ht3, hf⟩ := hf
    obtain ⟨hlo4, hf⟩ := hf
    obtain ⟨hi5, hf⟩ := hf
    refine p_bast X hP hL ht3 hlo4 hi5 dX4_low_25 (fun H locs hP hL => ?_)
    refine p_nmP hP (fun σ6 hσ6 hP => ?_)
    have hf := hf σ6 hσ6
    have ht2 : tg_ σ6 x0 = 4 := by rw [hσ6]; exact ht2
    have hl := lv_sub hl [4, 0, 1, 2, 3] rfl
    refine p_iincc (i := 4) (k := 1) hx hb (by decide) dX4_low_26 hl (by decide) ⟨⟨ne_ rfl, Or.inl (ne_ rfl)⟩, ⟨⟨ne_ rfl, Or.inl (ne_ rfl)⟩, ⟨⟨ne_ rfl, Or.inl (ne_ rfl)⟩, ⟨⟨ne_ rfl, Or.inr rfl⟩, trivial⟩⟩⟩⟩ (fun y7 hy7 ls hl => ?_)
    have hf := hf y7 hy7
    refine lv_goto (tgt := 3) hx hb dX4_low_29 (by decide) ?_
    exact hrc3 _ _ hf _ _ _ _ _ hP hL ⟨rfl, rfl⟩ (lv_sub hl [1, 2, 3, 4, 0] rfl)
set_option maxHeartbeats 4000000 in
theorem sX4_low_L3 {G : GG_} {p : Program} {l : Launch} {e : Env} {R : Room} {s : State} {m : MethodId} {args : Array Value} {below : List Frame} {meth : Method} {c : Code} (Y : MX_ G p R s m args meth c cX4_low 5 RX4 none 1 20 0 0 "low") {post : Hp → Prop} {x0 : Nat} {x1 : Int32} {x2 : Int32} {x3 : Int32} {x4 : Int32} {σ : Hp} (hf : wX4_low_L3 post x0 x1 x2 x3 x4 σ) : WG_ G p l e R s m args below meth c (MQ below (QV_ G post) args s 0 0 (FR_ G)) BN_ 5 3 [(0, rv_ x0), (1, .int x1), (2, .int x2), (3, .int x3), (4, .int x4)] [] σ := by
  unfold wX4_low_L3 at hf
  obtain ⟨I, μ, h0, hI⟩ := hf
  have key : ∀ (n : Nat) (x4 : Int32) (σ : Hp), I x4 σ → μ x4 σ < n → WG_ G p l e R s m args below meth c (MQ below (QV_ G post) args s 0 0 (FR_ G)) BN_ 5 3 [(0, rv_ x0), (1, .int x1), (2, .int x2), (3, .int x3), (4, .int x4)] [] σ := by
    intro n
    induction n with
    | zero => intro x4 σ _ h; exact absurd h (Nat.not_lt_zero _)
    | succ n ih => intro x4 σ hi hn; exact sX4_low_B3 Y (fun x4' σ' h => ih x4' σ' h.1 (Nat.lt_of_lt_of_le h.2 (Nat.le_of_lt_succ hn))) (hI x4 σ hi)
  exact key _ _ _ h0 (Nat.lt_succ_self _)
set_option maxHeartbeats 4000000 in
theorem sX4_low {G : GG_} {p : Program} {l : Launch} {e : Env} {R : Room} {s : State} {m : MethodId} {args : Array Value} {below : List Frame} {meth : Method} {c : Code} (Y : MX_ G p R s m args meth c cX4_low 5 RX4 none 1 20 0 0 "low") {post : Hp → Prop} {x0 : Nat} {x1 : Int32} {x2 : Int32} {x3 : Int32} {σ : Hp} (hf : wX4_low x0 x1 x2 x3 σ post) : WG_ G p l e R s m args below meth c (MQ below (QV_ G post) args s 0 0 (FR_ G)) BN_ 5 0 [(0, rv_ x0), (1, .int x1), (2, .int x2), (3, .int x3)] [] σ := by
  have ⟨X, hlk, hr, hRf, hRl, hRc, hnm⟩ := Y
  have ⟨⟨hx, hb, _, hown, hts⟩, _, _⟩ := X
  intro H locs cells slots ls hP hL hB hl
  obtain ⟨rfl, rfl⟩ := hB
  unfold wX4_low at hf
  refine lv_iconst (v := 0) hx hb dX4_low_0 (by decide) ?_
  refine p_istore (i := 4) hx hb dX4_low_1 hl (by decide) ⟨⟨ne_ rfl, Or.inl (ne_ rfl)⟩, ⟨⟨ne_ rfl, Or.inl (ne_ rfl)⟩, ⟨⟨ne_ rfl, Or.inl (ne_ rfl)⟩, ⟨⟨ne_ rfl, Or.inr rfl⟩, trivial⟩⟩⟩⟩ (fun ls hl => ?_)
  exact sX4_low_L3 Y hf _ _ _ _ _ hP hL ⟨rfl, rfl⟩ (lv_sub hl [1, 2, 3, 4, 0] rfl)
set_option maxHeartbeats 4000000 in
theorem metX4_low (l : Launch) (G : GG_) (x0 : Nat) (x1 : Int32) (x2 : Int32) (x3 : Int32) (σ : Hp) (post : Hp → Prop) (hG : GOK_ G) (hf : wX4_low x0 x1 x2 x3 σ post) : Met l yX4_low (ws_ yX4_low cX4_low 5 none) { frames := 1, cells := 0, slots := 0, locals := 20 } (PC_ G [rv_ x0, .int x1, .int x2, .int x3] σ) (QV_ G post) 0 0 (FR_ G) := by
  refine Met.ofW (cc := cX4_low) (maxL := 5) (ret := none) (by decide) rfl ?_
  intro p e s m args below meth c s₁ B hml hv
  obtain ⟨rfl, hP, hW⟩ := hv
  have hts := atoms_spec (ws := ws_ yX4_low cX4_low 5 none) B.pre
  have hts : ∀ w ∈ lw_all, w.before _ s = true := fun w h => hts w (List.mem_cons_of_mem _ h)
  rw [lg_entry_eq]
  have hl := en_entry [rv_ x0, .int x1, .int x2, .int x3] [1, 1, 1, 1] (n := 5) (ca_r (ca_i (ca_i (ca_i ca_n)))) (by decide)
  exact sX4_low ⟨⟨⟨B.exec, B.bytes, hml, findClass_of_methodNamed B.named, hts⟩, hW, hG⟩, B.notSynchronized, B.returns, Nat.le_refl _, Nat.le_refl _, ⟨rfl, rfl⟩, (name_of_methodNamed B.named B.method).1⟩ hf _ _ _ _ _ hP (LO_nil G) ⟨rfl, rfl⟩ hl
abbrev cX4_say : ByteArray := prog_6_method_6_code
def yX4_say : MethodName := ⟨RX4, "say", "(ILjava/lang/String;)V"⟩
theorem dX4_say_0 : decode cX4_say 0 = .ok (.iconst 0, 1) := by decide +kernel
theorem dX4_say_1 : decode cX4_say 1 = .ok (.istore_n 3, 1) := by decide +kernel
theorem dX4_say_2 : decode cX4_say 2 = .ok (.iload_n 3, 1) := by decide +kernel
theorem dX4_say_3 : decode cX4_say 3 = .ok (.aload_n 2, 1) := by decide +kernel
theorem dX4_say_4 : decode cX4_say 4 = .ok (.invokevirtual 22, 3) := by decide +kernel
theorem dX4_say_7 : decode cX4_say 7 = .ok (.if_icmp .ge 23, 3) := by decide +kernel
theorem dX4_say_10 : decode cX4_say 10 = .ok (.aload_n 0, 1) := by decide +kernel
theorem dX4_say_11 : decode cX4_say 11 = .ok (.getfield 9, 3) := by decide +kernel
theorem dX4_say_14 : decode cX4_say 14 = .ok (.iload_n 1, 1) := by decide +kernel
theorem dX4_say_15 : decode cX4_say 15 = .ok (.iload_n 3, 1) := by decide +kernel
theorem dX4_say_16 : decode cX4_say 16 = .ok (.iadd, 1) := by decide +kernel
theorem dX4_say_17 : decode cX4_say 17 = .ok (.aload_n 2, 1) := by decide +kernel
theorem dX4_say_18 : decode cX4_say 18 = .ok (.iload_n 3, 1) := by decide +kernel
theorem dX4_say_19 : decode cX4_say 19 = .ok (.invokevirtual 28, 3) := by decide +kernel
theorem dX4_say_22 : decode cX4_say 22 = .ok (.i2b, 1) := by decide +kernel
theorem dX4_say_23 : decode cX4_say 23 = .ok (.bastore, 1) := by decide +kernel
theorem dX4_say_24 : decode cX4_say 24 = .ok (.iinc 3 1, 3) := by decide +kernel
theorem dX4_say_27 : decode cX4_say 27 = .ok (.goto (-25), 3) := by decide +kernel
theorem dX4_say_30 : decode cX4_say 30 = .ok (.return_, 1) := by decide +kernel
/-- WriteOnceDisc$Page.say(ILjava/lang/String;)V -/
def wX4_say_B2 (post : Hp → Prop) (rc2 : Int32 → Hp → Prop) (x0 : Nat) (x1 : Int32) (x2 : Nat) (x3 : Int32) (σ : Hp) : Prop :=
(tg_ σ x2 = 13 ∧ (wJ5_length x2  σ (fun r2 => ((r2 ≤ x3 →
  post σ) ∧
 (¬ r2 ≤ x3 →
  (tg_ σ x0 = 4 ∧ (wJ5_charAt x2 x3 σ (fun r5 => (tg_ σ (fR_ σ 3 0 x0) = 100 ∧ (lo_ σ < (fR_ σ 3 0 x0) ∧ (vp_in (x1 + x3) (ln_ σ (fR_ σ 3 0 x0)) ∧ (∀ σ9, σ9 = wI_ σ (fR_ σ 3 0 x0) ((x1 + x3)).toNatClampNeg (vp_nar .byte (r5).toInt8.toInt32) → (∀ y10 : Int32, y10 = x3 + 1 → rc2 y10 σ9)))))))))))))
def wX4_say_L2 (post : Hp → Prop) (x0 : Nat) (x1 : Int32) (x2 : Nat) (x3 : Int32) (σ : Hp) : Prop :=
 ∃ (I : Int32 → Hp → Prop) (μ : Int32 → Hp → Nat), I x3 σ ∧ ∀ (x3 : Int32) (σ : Hp), I x3 σ → wX4_say_B2 post (fun x3' σ' => I x3' σ' ∧ μ x3' σ' < μ x3 σ) x0 x1 x2 x3 σ
def wX4_say (x0 : Nat) (x1 : Int32) (x2 : Nat) (σ : Hp) (post : Hp → Prop) : Prop :=
wX4_say_L2 post x0 x1 x2 (0 : Int32) σ
set_option maxHeartbeats 4000000 in
theorem sX4_say_B2 {G : GG_} {p : Program} {l : Launch} {e : Env} {R : Room} {s : State} {m : MethodId} {args : Array Value} {below : List Frame} {meth : Method} {c : Code} (Y : MX_ G p R s m args meth c cX4_say 4 RX4 none 5 105 0 0 "say") {post : Hp → Prop} {rc2 : Int32 → Hp → Prop} {x0 : Nat} {x1 : Int32} {x2 : Nat} {x3 : Int32} {σ : Hp} (hrc2 : ∀ (x3 : Int32) (σ : Hp), rc2 x3 σ → WG_ G p l e R s m args below meth c (MQ below (QV_ G post) args s 0 0 (FR_ G)) BN_ 4 2 [(0, rv_ x0), (1, .int x1), (2, rv_ x2), (3, .int x3)] [] σ) (hf : wX4_say_B2 post rc2 x0 x1 x2 x3 σ) : WG_ G p l e R s m args below meth c (MQ below (QV_ G post) args s 0 0 (FR_ G)) BN_ 4 2 [(0, rv_ x0), (1, .int x1), (2, rv_ x2), (3, .int x3)] [] σ := by
  have ⟨X, hlk, hr, hRf, hRl, hRc, hnm⟩ := Y
  have ⟨⟨hx, hb, _, hown, hts⟩, _, _⟩ := X
  intro H locs cells slots ls hP hL hB hl
  obtain ⟨rfl, rfl⟩ := hB
  unfold wX4_say_B2 at hf
  refine lv_iload_n hx hb dX4_say_2 rfl (lv_at hl 3 rfl) ?_
  refine p_aload_n hx hb dX4_say_3 rfl (lv_at hl 2 rfl) ?_
  obtain ⟨ht1, hf⟩ := hf
  refine p_calli hL (p_runV X cf12_ hP ht1 (metJ5_length l G _ _ _ X.2.2 hf) (cwV 0 hts (lw_V q909 q332 q333 q96 q334) rfl rfl rfl (by decide +kernel) ⟨Nat.le_trans (Nat.le_of_ble_eq_true rfl) hRf, Nat.le_trans (Nat.le_of_ble_eq_true rfl) hRl⟩) rfl hl.1 rfl (by rw [(ca_i ca_n)]; decide) dX4_say_4 ⟨Nat.zero_le _, Nat.zero_le _⟩) (fun r2 σ₁ H locs hf hP hL => ?_)
  obtain ⟨e₁, hf⟩ := hf
  rw [e₁] at hP
  refine lv_icmp_ge (tgt := 30) hx hb dX4_say_7 (by decide) (fun c3 => ?_) (fun c3 => ?_)
  · have hf := hf.1 c3
    exact p_vret X hlk hP hL (Nat.le_refl _) (Nat.le_refl _) hr dX4_say_30 hf
  · have hf := hf.2 c3
    refine p_aload_n hx hb dX4_say_10 rfl (lv_at hl 0 rfl) ?_
    obtain ⟨ht4, hf⟩ := hf
    refine p_gR X cf3_ (k := 0) (by decide) rfl hP ht4 q179 (fun _ h => h) dX4_say_11 ?_
    refine lv_iload_n hx hb dX4_say_14 rfl (lv_at hl 1 rfl) ?_
    refine lv_iload_n hx hb dX4_say_15 rfl (lv_at hl 3 rfl) ?_
    refine lv_iadd hx hb dX4_say_16 ?_
    refine p_aload_n hx hb dX4_say_17 rfl (lv_at hl 2 rfl) ?_
    refine lv_iload_n hx hb dX4_say_18 rfl (lv_at hl 3 rfl) ?_
    refine p_calli hL (p_runV X cf12_ hP ht1 (metJ5_charAt l G _ _ _ _ X.2.2 hf) (cwV 1 hts (lw_V q910 q863 q864 q96 q865) rfl rfl rfl (by decide +kernel) ⟨Nat.le_trans (Nat.le_of_ble_eq_true rfl) hRf, Nat.le_trans (Nat.le_of_ble_eq_true rfl) hRl⟩) rfl hl.1 rfl (by rw [(ca_i (ca_r ca_n))]; decide) dX4_say_19 ⟨Nat.zero_le _, Nat.zero_le _⟩) (fun r5 σ₁ H locs hf hP hL => ?_)
    obtain ⟨e₁, hf⟩ := hf
    rw [e₁] at hP
    refine lv_i2b hx hb dX4_say_22 rfl ?_
    obtain ⟨ht6, hf⟩ := hf
    obtain ⟨hlo7, hf⟩ := hf
    obtain ⟨hi8, hf⟩ := hf
    refine p_bast X hP hL ht6 hlo7 hi8 dX4_say_23 (fun H locs hP hL => ?_)
    refine p_nmP hP (fun σ9 hσ9 hP => ?_)
    have hf := hf σ9 hσ9
    have ht1 : tg_ σ9 x2 = 13 := by rw [hσ9]; exact ht1
    have ht4 : tg_ σ9 x0 = 4 := by rw [hσ9]; exact ht4
    have hl := lv_sub hl [3, 0, 1, 2] rfl
    refine p_iincc (i := 3) (k := 1) hx hb (by decide) dX4_say_24 hl (by decide) ⟨⟨ne_ rfl, Or.inl (ne_ rfl)⟩, ⟨⟨ne_ rfl, Or.inl (ne_ rfl)⟩, ⟨⟨ne_ rfl, Or.inr (rv_cat _)⟩, trivial⟩⟩⟩ (fun y10 hy10 ls hl => ?_)
    have hf := hf y10 hy10
    refine lv_goto (tgt := 2) hx hb dX4_say_27 (by decide) ?_
    exact hrc2 _ _ hf _ _ _ _ _ hP hL ⟨rfl, rfl⟩ (lv_sub hl [1, 2, 3, 0] rfl)
set_option maxHeartbeats 4000000 in
theorem sX4_say_L2 {G : GG_} {p : Program} {l : Launch} {e : Env} {R : Room} {s : State} {m : MethodId} {args : Array Value} {below : List Frame} {meth : Method} {c : Code} (Y : MX_ G p R s m args meth c cX4_say 4 RX4 none 5 105 0 0 "say") {post : Hp → Prop} {x0 : Nat} {x1 : Int32} {x2 : Nat} {x3 : Int32} {σ : Hp} (hf : wX4_say_L2 post x0 x1 x2 x3 σ) : WG_ G p l e R s m args below meth c (MQ below (QV_ G post) args s 0 0 (FR_ G)) BN_ 4 2 [(0, rv_ x0), (1, .int x1), (2, rv_ x2), (3, .int x3)] [] σ := by
  unfold wX4_say_L2 at hf
  obtain ⟨I, μ, h0, hI⟩ := hf
  have key : ∀ (n : Nat) (x3 : Int32) (σ : Hp), I x3 σ → μ x3 σ < n → WG_ G p l e R s m args below meth c (MQ below (QV_ G post) args s 0 0 (FR_ G)) BN_ 4 2 [(0, rv_ x0), (1, .int x1), (2, rv_ x2), (3, .int x3)] [] σ := by
    intro n
    induction n with
    | zero => intro x3 σ _ h; exact absurd h (Nat.not_lt_zero _)
    | succ n ih => intro x3 σ hi hn; exact sX4_say_B2 Y (fun x3' σ' h => ih x3' σ' h.1 (Nat.lt_of_lt_of_le h.2 (Nat.le_of_lt_succ hn))) (hI x3 σ hi)
  exact key _ _ _ h0 (Nat.lt_succ_self _)
set_option maxHeartbeats 4000000 in
theorem sX4_say {G : GG_} {p : Program} {l : Launch} {e : Env} {R : Room} {s : State} {m : MethodId} {args : Array Value} {below : List Frame} {meth : Method} {c : Code} (Y : MX_ G p R s m args meth c cX4_say 4 RX4 none 5 105 0 0 "say") {post : Hp → Prop} {x0 : Nat} {x1 : Int32} {x2 : Nat} {σ : Hp} (hf : wX4_say x0 x1 x2 σ post) : WG_ G p l e R s m args below meth c (MQ below (QV_ G post) args s 0 0 (FR_ G)) BN_ 4 0 [(0, rv_ x0), (1, .int x1), (2, rv_ x2)] [] σ := by
  have ⟨X, hlk, hr, hRf, hRl, hRc, hnm⟩ := Y
  have ⟨⟨hx, hb, _, hown, hts⟩, _, _⟩ := X
  intro H locs cells slots ls hP hL hB hl
  obtain ⟨rfl, rfl⟩ := hB
  unfold wX4_say at hf
  refine lv_iconst (v := 0) hx hb dX4_say_0 (by decide) ?_
  refine p_istore_n (i := 3) hx hb dX4_say_1 rfl hl (by decide) ⟨⟨ne_ rfl, Or.inl (ne_ rfl)⟩, ⟨⟨ne_ rfl, Or.inl (ne_ rfl)⟩, ⟨⟨ne_ rfl, Or.inr (rv_cat _)⟩, trivial⟩⟩⟩ (fun ls hl => ?_)
  exact sX4_say_L2 Y hf _ _ _ _ _ hP hL ⟨rfl, rfl⟩ (lv_sub hl [1, 2, 3, 0] rfl)
set_option maxHeartbeats 4000000 in
theorem metX4_say (l : Launch) (G : GG_) (x0 : Nat) (x1 : Int32) (x2 : Nat) (σ : Hp) (post : Hp → Prop) (hG : GOK_ G) (hf : wX4_say x0 x1 x2 σ post) : Met l yX4_say (ws_ yX4_say cX4_say 4 none) { frames := 5, cells := 0, slots := 0, locals := 105 } (PC_ G [rv_ x0, .int x1, rv_ x2] σ) (QV_ G post) 0 0 (FR_ G) := by
  refine Met.ofW (cc := cX4_say) (maxL := 4) (ret := none) (by decide) rfl ?_
  intro p e s m args below meth c s₁ B hml hv
  obtain ⟨rfl, hP, hW⟩ := hv
  have hts := atoms_spec (ws := ws_ yX4_say cX4_say 4 none) B.pre
  have hts : ∀ w ∈ lw_all, w.before _ s = true := fun w h => hts w (List.mem_cons_of_mem _ h)
  rw [lg_entry_eq]
  have hl := en_entry [rv_ x0, .int x1, rv_ x2] [1, 1, 1] (n := 4) (ca_r (ca_i (ca_r ca_n))) (by decide)
  exact sX4_say ⟨⟨⟨B.exec, B.bytes, hml, findClass_of_methodNamed B.named, hts⟩, hW, hG⟩, B.notSynchronized, B.returns, Nat.le_refl _, Nat.le_refl _, ⟨rfl, rfl⟩, (name_of_methodNamed B.named B.method).1⟩ hf _ _ _ _ _ hP (LO_nil G) ⟨rfl, rfl⟩ hl
abbrev cX3_head : ByteArray := prog_2_method_14_code
def yX3_head : MethodName := ⟨RX3, "head", "(I)LWriteOnceDisc$Page;"⟩
theorem dX3_head_0 : decode cX3_head 0 = .ok (.aload_n 0, 1) := by decide +kernel
theorem dX3_head_1 : decode cX3_head 1 = .ok (.invokevirtual 56, 3) := by decide +kernel
theorem dX3_head_4 : decode cX3_head 4 = .ok (.astore_n 2, 1) := by decide +kernel
theorem dX3_head_5 : decode cX3_head 5 = .ok (.aload_n 2, 1) := by decide +kernel
theorem dX3_head_6 : decode cX3_head 6 = .ok (.iconst 0, 1) := by decide +kernel
theorem dX3_head_7 : decode cX3_head 7 = .ok (.iconst 1, 1) := by decide +kernel
theorem dX3_head_8 : decode cX3_head 8 = .ok (.iload_n 1, 1) := by decide +kernel
theorem dX3_head_9 : decode cX3_head 9 = .ok (.invokevirtual 174, 3) := by decide +kernel
theorem dX3_head_12 : decode cX3_head 12 = .ok (.aload_n 2, 1) := by decide +kernel
theorem dX3_head_13 : decode cX3_head 13 = .ok (.iconst 1, 1) := by decide +kernel
theorem dX3_head_14 : decode cX3_head 14 = .ok (.ldc 202, 2) := by decide +kernel
theorem dX3_head_16 : decode cX3_head 16 = .ok (.invokevirtual 181, 3) := by decide +kernel
theorem dX3_head_19 : decode cX3_head 19 = .ok (.aload_n 2, 1) := by decide +kernel
theorem dX3_head_20 : decode cX3_head 20 = .ok (.bipush 6, 2) := by decide +kernel
theorem dX3_head_22 : decode cX3_head 22 = .ok (.iconst 1, 1) := by decide +kernel
theorem dX3_head_23 : decode cX3_head 23 = .ok (.iconst 1, 1) := by decide +kernel
theorem dX3_head_24 : decode cX3_head 24 = .ok (.invokevirtual 174, 3) := by decide +kernel
theorem dX3_head_27 : decode cX3_head 27 = .ok (.aload_n 2, 1) := by decide +kernel
theorem dX3_head_28 : decode cX3_head 28 = .ok (.areturn, 1) := by decide +kernel
/-- WriteOnceDisc$Burner.head(I)LWriteOnceDisc$Page; -/
def wX3_head (x0 : Nat) (x1 : Int32) (σ : Hp) (post : Nat → Hp → Prop) : Prop :=
(tg_ σ x0 = 3 ∧ (wX3_blank x0  σ (fun r2 σ3 => (tg_ σ3 r2 = 4 ∧ (wX4_low r2 (0 : Int32) (1 : Int32) x1 σ3 (fun σ5 => (tg_ σ5 r2 = 4 ∧ (wX4_say r2 (1 : Int32) (fR_ σ5 101 2 0) σ5 (fun σ7 => (tg_ σ7 r2 = 4 ∧ (wX4_low r2 (6 : Int32) (1 : Int32) (1 : Int32) σ7 (fun σ9 => post r2 σ9))))))))))))
set_option maxHeartbeats 4000000 in
theorem sX3_head {G : GG_} {p : Program} {l : Launch} {e : Env} {R : Room} {s : State} {m : MethodId} {args : Array Value} {below : List Frame} {meth : Method} {c : Code} (Y : MX_ G p R s m args meth c cX3_head 3 RX3 (some ((Jvm.ClassFile.FieldType.object "WriteOnceDisc$Page"))) 6 128 0 0 "head") {post : Nat → Hp → Prop} {x0 : Nat} {x1 : Int32} {σ : Hp} (hf : wX3_head x0 x1 σ post) : WG_ G p l e R s m args below meth c (MQ below (QR_ G post) args s 0 0 (FR_ G)) BN_ 3 0 [(0, rv_ x0), (1, .int x1)] [] σ := by
  have ⟨X, hlk, hr, hRf, hRl, hRc, hnm⟩ := Y
  have ⟨⟨hx, hb, _, hown, hts⟩, _, _⟩ := X
  intro H locs cells slots ls hP hL hB hl
  obtain ⟨rfl, rfl⟩ := hB
  unfold wX3_head at hf
  refine p_aload_n hx hb dX3_head_0 rfl (lv_at hl 0 rfl) ?_
  obtain ⟨ht1, hf⟩ := hf
  refine p_callr hL (p_runV X cf2_ hP ht1 (metX3_blank l G _ _ _ X.2.2 hf) (cwV 0 hts (lw_V q829 q831 qs8 q87 q832) rfl rfl rfl (by decide +kernel) ⟨Nat.le_trans (Nat.le_of_ble_eq_true rfl) hRf, Nat.le_trans (Nat.le_of_ble_eq_true rfl) hRl⟩) rfl hl.1 rfl (by decide) dX3_head_1 ⟨Nat.zero_le _, Nat.zero_le _⟩) (fun r2 σ3 H locs hf hP hL => ?_)
  have hl := lv_sub hl [1] rfl
  refine p_astore_n (i := 2) hx hb dX3_head_4 rfl hl (by decide) ⟨⟨ne_ rfl, Or.inr rfl⟩, trivial⟩ (fun ls hl => ?_)
  refine p_aload_n hx hb dX3_head_5 rfl (lv_at hl 0 rfl) ?_
  refine lv_iconst (v := 0) hx hb dX3_head_6 (by decide) ?_
  refine lv_iconst (v := 1) hx hb dX3_head_7 (by decide) ?_
  refine lv_iload_n hx hb dX3_head_8 rfl (lv_at hl 1 rfl) ?_
  obtain ⟨ht4, hf⟩ := hf
  refine p_callv hL (p_runV X cf3_ hP ht4 (metX4_low l G _ _ _ _ _ _ X.2.2 hf) (cwV 3 hts (lw_V q900 q901 q902 q91 q903) rfl rfl rfl (by decide +kernel) ⟨Nat.le_trans (Nat.le_of_ble_eq_true rfl) hRf, Nat.le_trans (Nat.le_of_ble_eq_true rfl) hRl⟩) rfl hl.1 rfl (by decide) dX3_head_9 ⟨Nat.zero_le _, Nat.zero_le _⟩) (fun σ5 H locs hf hP hL => ?_)
  refine p_aload_n hx hb dX3_head_12 rfl (lv_at hl 0 rfl) ?_
  refine lv_iconst (v := 1) hx hb dX3_head_13 (by decide) ?_
  refine p_ldcS X hP (j := 2) rfl dX3_head_14 ?_
  obtain ⟨ht6, hf⟩ := hf
  refine p_callv hL (p_runV X cf3_ hP ht6 (metX4_say l G _ _ _ _ _ X.2.2 hf) (cwV 2 hts (lw_V q905 q906 q907 q91 q908) rfl rfl rfl (by decide +kernel) ⟨Nat.le_trans (Nat.le_of_ble_eq_true rfl) hRf, Nat.le_trans (Nat.le_of_ble_eq_true rfl) hRl⟩) rfl hl.1 rfl (by decide) dX3_head_16 ⟨Nat.zero_le _, Nat.zero_le _⟩) (fun σ7 H locs hf hP hL => ?_)
  refine p_aload_n hx hb dX3_head_19 rfl (lv_at hl 0 rfl) ?_
  refine lv_bipush (v := 6) hx hb dX3_head_20 (by decide) ?_
  refine lv_iconst (v := 1) hx hb dX3_head_22 (by decide) ?_
  refine lv_iconst (v := 1) hx hb dX3_head_23 (by decide) ?_
  obtain ⟨ht8, hf⟩ := hf
  refine p_callv hL (p_runV X cf3_ hP ht8 (metX4_low l G _ _ _ _ _ _ X.2.2 hf) (cwV 3 hts (lw_V q900 q901 q902 q91 q903) rfl rfl rfl (by decide +kernel) ⟨Nat.le_trans (Nat.le_of_ble_eq_true rfl) hRf, Nat.le_trans (Nat.le_of_ble_eq_true rfl) hRl⟩) rfl hl.1 rfl (by decide) dX3_head_24 ⟨Nat.zero_le _, Nat.zero_le _⟩) (fun σ9 H locs hf hP hL => ?_)
  refine p_aload_n hx hb dX3_head_27 rfl (lv_at hl 0 rfl) ?_
  exact p_aret X hlk hP hL (Nat.le_refl _) (Nat.le_refl _) hr (Or.inl ⟨_, rfl⟩) dX3_head_28 hf
set_option maxHeartbeats 4000000 in
theorem metX3_head (l : Launch) (G : GG_) (x0 : Nat) (x1 : Int32) (σ : Hp) (post : Nat → Hp → Prop) (hG : GOK_ G) (hf : wX3_head x0 x1 σ post) : Met l yX3_head (ws_ yX3_head cX3_head 3 (some ((Jvm.ClassFile.FieldType.object "WriteOnceDisc$Page")))) { frames := 6, cells := 0, slots := 0, locals := 128 } (PC_ G [rv_ x0, .int x1] σ) (QR_ G post) 0 0 (FR_ G) := by
  refine Met.ofW (cc := cX3_head) (maxL := 3) (ret := (some ((Jvm.ClassFile.FieldType.object "WriteOnceDisc$Page")))) (by decide) rfl ?_
  intro p e s m args below meth c s₁ B hml hv
  obtain ⟨rfl, hP, hW⟩ := hv
  have hts := atoms_spec (ws := ws_ yX3_head cX3_head 3 (some ((Jvm.ClassFile.FieldType.object "WriteOnceDisc$Page")))) B.pre
  have hts : ∀ w ∈ lw_all, w.before _ s = true := fun w h => hts w (List.mem_cons_of_mem _ h)
  rw [lg_entry_eq]
  have hl := en_entry [rv_ x0, .int x1] [1, 1] (n := 3) (ca_r (ca_i ca_n)) (by decide)
  exact sX3_head ⟨⟨⟨B.exec, B.bytes, hml, findClass_of_methodNamed B.named, hts⟩, hW, hG⟩, B.notSynchronized, B.returns, Nat.le_refl _, Nat.le_refl _, ⟨rfl, rfl⟩, (name_of_methodNamed B.named B.method).1⟩ hf _ _ _ _ _ hP (LO_nil G) ⟨rfl, rfl⟩ hl
abbrev cX4_high : ByteArray := prog_6_method_4_code
def yX4_high : MethodName := ⟨RX4, "high", "(III)V"⟩
theorem dX4_high_0 : decode cX4_high 0 = .ok (.iconst 0, 1) := by decide +kernel
theorem dX4_high_1 : decode cX4_high 1 = .ok (.istore 4, 2) := by decide +kernel
theorem dX4_high_3 : decode cX4_high 3 = .ok (.iload 4, 2) := by decide +kernel
theorem dX4_high_5 : decode cX4_high 5 = .ok (.iload_n 2, 1) := by decide +kernel
theorem dX4_high_6 : decode cX4_high 6 = .ok (.if_icmp .ge 30, 3) := by decide +kernel
theorem dX4_high_9 : decode cX4_high 9 = .ok (.aload_n 0, 1) := by decide +kernel
theorem dX4_high_10 : decode cX4_high 10 = .ok (.getfield 9, 3) := by decide +kernel
theorem dX4_high_13 : decode cX4_high 13 = .ok (.iload_n 1, 1) := by decide +kernel
theorem dX4_high_14 : decode cX4_high 14 = .ok (.iload 4, 2) := by decide +kernel
theorem dX4_high_16 : decode cX4_high 16 = .ok (.iadd, 1) := by decide +kernel
theorem dX4_high_17 : decode cX4_high 17 = .ok (.iload_n 3, 1) := by decide +kernel
theorem dX4_high_18 : decode cX4_high 18 = .ok (.bipush 8, 2) := by decide +kernel
theorem dX4_high_20 : decode cX4_high 20 = .ok (.iload_n 2, 1) := by decide +kernel
theorem dX4_high_21 : decode cX4_high 21 = .ok (.iconst 1, 1) := by decide +kernel
theorem dX4_high_22 : decode cX4_high 22 = .ok (.isub, 1) := by decide +kernel
theorem dX4_high_23 : decode cX4_high 23 = .ok (.iload 4, 2) := by decide +kernel
theorem dX4_high_25 : decode cX4_high 25 = .ok (.isub, 1) := by decide +kernel
theorem dX4_high_26 : decode cX4_high 26 = .ok (.imul, 1) := by decide +kernel
theorem dX4_high_27 : decode cX4_high 27 = .ok (.ishr, 1) := by decide +kernel
theorem dX4_high_28 : decode cX4_high 28 = .ok (.i2b, 1) := by decide +kernel
theorem dX4_high_29 : decode cX4_high 29 = .ok (.bastore, 1) := by decide +kernel
theorem dX4_high_30 : decode cX4_high 30 = .ok (.iinc 4 1, 3) := by decide +kernel
theorem dX4_high_33 : decode cX4_high 33 = .ok (.goto (-30), 3) := by decide +kernel
theorem dX4_high_36 : decode cX4_high 36 = .ok (.return_, 1) := by decide +kernel
/-- WriteOnceDisc$Page.high(III)V -/
def wX4_high_B3 (post : Hp → Prop) (rc3 : Int32 → Hp → Prop) (x0 : Nat) (x1 : Int32) (x2 : Int32) (x3 : Int32) (x4 : Int32) (σ : Hp) : Prop :=
((x2 ≤ x4 →
  post σ) ∧
 (¬ x2 ≤ x4 →
  (tg_ σ x0 = 4 ∧ (tg_ σ (fR_ σ 3 0 x0) = 100 ∧ (lo_ σ < (fR_ σ 3 0 x0) ∧ (vp_in (x1 + x4) (ln_ σ (fR_ σ 3 0 x0)) ∧ (∀ σ6, σ6 = wI_ σ (fR_ σ 3 0 x0) ((x1 + x4)).toNatClampNeg (vp_nar .byte ((x3 >>> (((8 : Int32) * ((x2 - (1 : Int32)) - x4)) &&& 31))).toInt8.toInt32) → (∀ y7 : Int32, y7 = x4 + 1 → rc3 y7 σ6))))))))
def wX4_high_L3 (post : Hp → Prop) (x0 : Nat) (x1 : Int32) (x2 : Int32) (x3 : Int32) (x4 : Int32) (σ : Hp) : Prop :=
 ∃ (I : Int32 → Hp → Prop) (μ : Int32 → Hp → Nat), I x4 σ ∧ ∀ (x4 : Int32) (σ : Hp), I x4 σ → wX4_high_B3 post (fun x4' σ' => I x4' σ' ∧ μ x4' σ' < μ x4 σ) x0 x1 x2 x3 x4 σ
def wX4_high (x0 : Nat) (x1 : Int32) (x2 : Int32) (x3 : Int32) (σ : Hp) (post : Hp → Prop) : Prop :=
wX4_high_L3 post x0 x1 x2 x3 (0 : Int32) σ
set_option maxHeartbeats 4000000 in
theorem sX4_high_B3 {G : GG_} {p : Program} {l : Launch} {e : Env} {R : Room} {s : State} {m : MethodId} {args : Array Value} {below : List Frame} {meth : Method} {c : Code} (Y : MX_ G p R s m args meth c cX4_high 5 RX4 none 1 20 0 0 "high") {post : Hp → Prop} {rc3 : Int32 → Hp → Prop} {x0 : Nat} {x1 : Int32} {x2 : Int32} {x3 : Int32} {x4 : Int32} {σ : Hp} (hrc3 : ∀ (x4 : Int32) (σ : Hp), rc3 x4 σ → WG_ G p l e R s m args below meth c (MQ below (QV_ G post) args s 0 0 (FR_ G)) BN_ 5 3 [(0, rv_ x0), (1, .int x1), (2, .int x2), (3, .int x3), (4, .int x4)] [] σ) (hf : wX4_high_B3 post rc3 x0 x1 x2 x3 x4 σ) : WG_ G p l e R s m args below meth c (MQ below (QV_ G post) args s 0 0 (FR_ G)) BN_ 5 3 [(0, rv_ x0), (1, .int x1), (2, .int x2), (3, .int x3), (4, .int x4)] [] σ := by
  have ⟨X, hlk, hr, hRf, hRl, hRc, hnm⟩ := Y
  have ⟨⟨hx, hb, _, hown, hts⟩, _, _⟩ := X
  intro H locs cells slots ls hP hL hB hl
  obtain ⟨rfl, rfl⟩ := hB
  unfold wX4_high_B3 at hf
  refine lv_iload hx hb dX4_high_3 (lv_at hl 4 rfl) ?_
  refine lv_iload_n hx hb dX4_high_5 rfl (lv_at hl 2 rfl) ?_
  refine lv_icmp_ge (tgt := 36) hx hb dX4_high_6 (by decide) (fun c1 => ?_) (fun c1 => ?_)
  · have hf := hf.1 c1
    exact p_vret X hlk hP hL (Nat.le_refl _) (Nat.le_refl _) hr dX4_high_36 hf
  · have hf := hf.2 c1
    refine p_aload_n hx hb dX4_high_9 rfl (lv_at hl 0 rfl) ?_
    obtain ⟨ht2, hf⟩ := hf
    refine p_gR X cf3_ (k := 0) (by decide) rfl hP ht2 q179 (fun _ h => h) dX4_high_10 ?_
    refine lv_iload_n hx hb dX4_high_13 rfl (lv_at hl 1 rfl) ?_
    refine lv_iload hx hb dX4_high_14 (lv_at hl 4 rfl) ?_
    refine lv_iadd hx hb dX4_high_16 ?_
    refine lv_iload_n hx hb dX4_high_17 rfl (lv_at hl 3 rfl) ?_
    refine lv_bipush (v := 8) hx hb dX4_high_18 (by decide) ?_
    refine lv_iload_n hx hb dX4_high_20 rfl (lv_at hl 2 rfl) ?_
    refine lv_iconst (v := 1) hx hb dX4_high_21 (by decide) ?_
    refine lv_isub hx hb dX4_high_22 ?_
    refine lv_iload hx hb dX4_high_23 (lv_at hl 4 rfl) ?_
    refine lv_isub hx hb dX4_high_25 ?_
    refine lv_imul hx hb dX4_high_26 ?_
    refine lv_ishr hx hb dX4_high_27 ?_
    refine lv_i2b hx hb dX4_high_28 rfl ?_
    obtain ⟨ht3, hf⟩ := hf
    obtain ⟨hlo4, hf⟩ := hf
    obtain ⟨hi5, hf⟩ := hf
    refine p_bast X hP hL ht3 hlo4 hi5 dX4_high_29 (fun H locs hP hL => ?_)
    refine p_nmP hP (fun σ6 hσ6 hP => ?_)
    have hf := hf σ6 hσ6
    have ht2 : tg_ σ6 x0 = 4 := by rw [hσ6]; exact ht2
    have hl := lv_sub hl [4, 0, 1, 2, 3] rfl
    refine p_iincc (i := 4) (k := 1) hx hb (by decide) dX4_high_30 hl (by decide) ⟨⟨ne_ rfl, Or.inl (ne_ rfl)⟩, ⟨⟨ne_ rfl, Or.inl (ne_ rfl)⟩, ⟨⟨ne_ rfl, Or.inl (ne_ rfl)⟩, ⟨⟨ne_ rfl, Or.inr rfl⟩, trivial⟩⟩⟩⟩ (fun y7 hy7 ls hl => ?_)
    have hf := hf y7 hy7
    refine lv_goto (tgt := 3) hx hb dX4_high_33 (by decide) ?_
    exact hrc3 _ _ hf _ _ _ _ _ hP hL ⟨rfl, rfl⟩ (lv_sub hl [1, 2, 3, 4, 0] rfl)
set_option maxHeartbeats 4000000 in
theorem sX4_high_L3 {G : GG_} {p : Program} {l : Launch} {e : Env} {R : Room} {s : State} {m : MethodId} {args : Array Value} {below : List Frame} {meth : Method} {c : Code} (Y : MX_ G p R s m args meth c cX4_high 5 RX4 none 1 20 0 0 "high") {post : Hp → Prop} {x0 : Nat} {x1 : Int32} {x2 : Int32} {x3 : Int32} {x4 : Int32} {σ : Hp} (hf : wX4_high_L3 post x0 x1 x2 x3 x4 σ) : WG_ G p l e R s m args below meth c (MQ below (QV_ G post) args s 0 0 (FR_ G)) BN_ 5 3 [(0, rv_ x0), (1, .int x1), (2, .int x2), (3, .int x3), (4, .int x4)] [] σ := by
  unfold wX4_high_L3 at hf
  obtain ⟨I, μ, h0, hI⟩ := hf
  have key : ∀ (n : Nat) (x4 : Int32) (σ : Hp), I x4 σ → μ x4 σ < n → WG_ G p l e R s m args below meth c (MQ below (QV_ G post) args s 0 0 (FR_ G)) BN_ 5 3 [(0, rv_ x0), (1, .int x1), (2, .int x2), (3, .int x3), (4, .int x4)] [] σ := by
    intro n
    induction n with
    | zero => intro x4 σ _ h; exact absurd h (Nat.not_lt_zero _)
    | succ n ih => intro x4 σ hi hn; exact sX4_high_B3 Y (fun x4' σ' h => ih x4' σ' h.1 (Nat.lt_of_lt_of_le h.2 (Nat.le_of_lt_succ hn))) (hI x4 σ hi)
  exact key _ _ _ h0 (Nat.lt_succ_self _)
set_option maxHeartbeats 4000000 in
theorem sX4_high {G : GG_} {p : Program} {l : Launch} {e : Env} {R : Room} {s : State} {m : MethodId} {args : Array Value} {below : List Frame} {meth : Method} {c : Code} (Y : MX_ G p R s m args meth c cX4_high 5 RX4 none 1 20 0 0 "high") {post : Hp → Prop} {x0 : Nat} {x1 : Int32} {x2 : Int32} {x3 : Int32} {σ : Hp} (hf : wX4_high x0 x1 x2 x3 σ post) : WG_ G p l e R s m args below meth c (MQ below (QV_ G post) args s 0 0 (FR_ G)) BN_ 5 0 [(0, rv_ x0), (1, .int x1), (2, .int x2), (3, .int x3)] [] σ := by
  have ⟨X, hlk, hr, hRf, hRl, hRc, hnm⟩ := Y
  have ⟨⟨hx, hb, _, hown, hts⟩, _, _⟩ := X
  intro H locs cells slots ls hP hL hB hl
  obtain ⟨rfl, rfl⟩ := hB
  unfold wX4_high at hf
  refine lv_iconst (v := 0) hx hb dX4_high_0 (by decide) ?_
  refine p_istore (i := 4) hx hb dX4_high_1 hl (by decide) ⟨⟨ne_ rfl, Or.inl (ne_ rfl)⟩, ⟨⟨ne_ rfl, Or.inl (ne_ rfl)⟩, ⟨⟨ne_ rfl, Or.inl (ne_ rfl)⟩, ⟨⟨ne_ rfl, Or.inr rfl⟩, trivial⟩⟩⟩⟩ (fun ls hl => ?_)
  exact sX4_high_L3 Y hf _ _ _ _ _ hP hL ⟨rfl, rfl⟩ (lv_sub hl [1, 2, 3, 4, 0] rfl)
set_option maxHeartbeats 4000000 in
theorem metX4_high (l : Launch) (G : GG_) (x0 : Nat) (x1 : Int32) (x2 : Int32) (x3 : Int32) (σ : Hp) (post : Hp → Prop) (hG : GOK_ G) (hf : wX4_high x0 x1 x2 x3 σ post) : Met l yX4_high (ws_ yX4_high cX4_high 5 none) { frames := 1, cells := 0, slots := 0, locals := 20 } (PC_ G [rv_ x0, .int x1, .int x2, .int x3] σ) (QV_ G post) 0 0 (FR_ G) := by
  refine Met.ofW (cc := cX4_high) (maxL := 5) (ret := none) (by decide) rfl ?_
  intro p e s m args below meth c s₁ B hml hv
  obtain ⟨rfl, hP, hW⟩ := hv
  have hts := atoms_spec (ws := ws_ yX4_high cX4_high 5 none) B.pre
  have hts : ∀ w ∈ lw_all, w.before _ s = true := fun w h => hts w (List.mem_cons_of_mem _ h)
  rw [lg_entry_eq]
  have hl := en_entry [rv_ x0, .int x1, .int x2, .int x3] [1, 1, 1, 1] (n := 5) (ca_r (ca_i (ca_i (ca_i ca_n)))) (by decide)
  exact sX4_high ⟨⟨⟨B.exec, B.bytes, hml, findClass_of_methodNamed B.named, hts⟩, hW, hG⟩, B.notSynchronized, B.returns, Nat.le_refl _, Nat.le_refl _, ⟨rfl, rfl⟩, (name_of_methodNamed B.named B.method).1⟩ hf _ _ _ _ _ hP (LO_nil G) ⟨rfl, rfl⟩ hl
abbrev cX4_both : ByteArray := prog_6_method_5_code
def yX4_both : MethodName := ⟨RX4, "both", "(III)V"⟩
theorem dX4_both_0 : decode cX4_both 0 = .ok (.aload_n 0, 1) := by decide +kernel
theorem dX4_both_1 : decode cX4_both 1 = .ok (.iload_n 1, 1) := by decide +kernel
theorem dX4_both_2 : decode cX4_both 2 = .ok (.iload_n 2, 1) := by decide +kernel
theorem dX4_both_3 : decode cX4_both 3 = .ok (.iload_n 3, 1) := by decide +kernel
theorem dX4_both_4 : decode cX4_both 4 = .ok (.invokevirtual 15, 3) := by decide +kernel
theorem dX4_both_7 : decode cX4_both 7 = .ok (.aload_n 0, 1) := by decide +kernel
theorem dX4_both_8 : decode cX4_both 8 = .ok (.iload_n 1, 1) := by decide +kernel
theorem dX4_both_9 : decode cX4_both 9 = .ok (.iload_n 2, 1) := by decide +kernel
theorem dX4_both_10 : decode cX4_both 10 = .ok (.iadd, 1) := by decide +kernel
theorem dX4_both_11 : decode cX4_both 11 = .ok (.iload_n 2, 1) := by decide +kernel
theorem dX4_both_12 : decode cX4_both 12 = .ok (.iload_n 3, 1) := by decide +kernel
theorem dX4_both_13 : decode cX4_both 13 = .ok (.invokevirtual 19, 3) := by decide +kernel
theorem dX4_both_16 : decode cX4_both 16 = .ok (.return_, 1) := by decide +kernel
/-- WriteOnceDisc$Page.both(III)V -/
def wX4_both (x0 : Nat) (x1 : Int32) (x2 : Int32) (x3 : Int32) (σ : Hp) (post : Hp → Prop) : Prop :=
(tg_ σ x0 = 4 ∧ (wX4_low x0 x1 x2 x3 σ (fun σ2 => (tg_ σ2 x0 = 4 ∧ (wX4_high x0 (x1 + x2) x2 x3 σ2 (fun σ4 => post σ4))))))
set_option maxHeartbeats 4000000 in
theorem sX4_both {G : GG_} {p : Program} {l : Launch} {e : Env} {R : Room} {s : State} {m : MethodId} {args : Array Value} {below : List Frame} {meth : Method} {c : Code} (Y : MX_ G p R s m args meth c cX4_both 4 RX4 none 2 44 0 0 "both") {post : Hp → Prop} {x0 : Nat} {x1 : Int32} {x2 : Int32} {x3 : Int32} {σ : Hp} (hf : wX4_both x0 x1 x2 x3 σ post) : WG_ G p l e R s m args below meth c (MQ below (QV_ G post) args s 0 0 (FR_ G)) BN_ 4 0 [(0, rv_ x0), (1, .int x1), (2, .int x2), (3, .int x3)] [] σ := by
  have ⟨X, hlk, hr, hRf, hRl, hRc, hnm⟩ := Y
  have ⟨⟨hx, hb, _, hown, hts⟩, _, _⟩ := X
  intro H locs cells slots ls hP hL hB hl
  obtain ⟨rfl, rfl⟩ := hB
  unfold wX4_both at hf
  refine p_aload_n hx hb dX4_both_0 rfl (lv_at hl 0 rfl) ?_
  refine lv_iload_n hx hb dX4_both_1 rfl (lv_at hl 1 rfl) ?_
  refine lv_iload_n hx hb dX4_both_2 rfl (lv_at hl 2 rfl) ?_
  refine lv_iload_n hx hb dX4_both_3 rfl (lv_at hl 3 rfl) ?_
  obtain ⟨ht1, hf⟩ := hf
  refine p_callv hL (p_runV X cf3_ hP ht1 (metX4_low l G _ _ _ _ _ _ X.2.2 hf) (cwV 3 hts (lw_V q915 q901 q902 q91 q903) rfl rfl rfl (by decide +kernel) ⟨Nat.le_trans (Nat.le_of_ble_eq_true rfl) hRf, Nat.le_trans (Nat.le_of_ble_eq_true rfl) hRl⟩) rfl hl.1 rfl (by decide) dX4_both_4 ⟨Nat.zero_le _, Nat.zero_le _⟩) (fun σ2 H locs hf hP hL => ?_)
  refine p_aload_n hx hb dX4_both_7 rfl (lv_at hl 0 rfl) ?_
  refine lv_iload_n hx hb dX4_both_8 rfl (lv_at hl 1 rfl) ?_
  refine lv_iload_n hx hb dX4_both_9 rfl (lv_at hl 2 rfl) ?_
  refine lv_iadd hx hb dX4_both_10 ?_
  refine lv_iload_n hx hb dX4_both_11 rfl (lv_at hl 2 rfl) ?_
  refine lv_iload_n hx hb dX4_both_12 rfl (lv_at hl 3 rfl) ?_
  obtain ⟨ht3, hf⟩ := hf
  refine p_callv hL (p_runV X cf3_ hP ht3 (metX4_high l G _ _ _ _ _ _ X.2.2 hf) (cwV 3 hts (lw_V q916 q917 q918 q91 q919) rfl rfl rfl (by decide +kernel) ⟨Nat.le_trans (Nat.le_of_ble_eq_true rfl) hRf, Nat.le_trans (Nat.le_of_ble_eq_true rfl) hRl⟩) rfl hl.1 rfl (by decide) dX4_both_13 ⟨Nat.zero_le _, Nat.zero_le _⟩) (fun σ4 H locs hf hP hL => ?_)
  exact p_vret X hlk hP hL (Nat.le_refl _) (Nat.le_refl _) hr dX4_both_16 hf
set_option maxHeartbeats 4000000 in
theorem metX4_both (l : Launch) (G : GG_) (x0 : Nat) (x1 : Int32) (x2 : Int32) (x3 : Int32) (σ : Hp) (post : Hp → Prop) (hG : GOK_ G) (hf : wX4_both x0 x1 x2 x3 σ post) : Met l yX4_both (ws_ yX4_both cX4_both 4 none) { frames := 2, cells := 0, slots := 0, locals := 44 } (PC_ G [rv_ x0, .int x1, .int x2, .int x3] σ) (QV_ G post) 0 0 (FR_ G) := by
  refine Met.ofW (cc := cX4_both) (maxL := 4) (ret := none) (by decide) rfl ?_
  intro p e s m args below meth c s₁ B hml hv
  obtain ⟨rfl, hP, hW⟩ := hv
  have hts := atoms_spec (ws := ws_ yX4_both cX4_both 4 none) B.pre
  have hts : ∀ w ∈ lw_all, w.before _ s = true := fun w h => hts w (List.mem_cons_of_mem _ h)
  rw [lg_entry_eq]
  have hl := en_entry [rv_ x0, .int x1, .int x2, .int x3] [1, 1, 1, 1] (n := 4) (ca_r (ca_i (ca_i (ca_i ca_n)))) (by decide)
  exact sX4_both ⟨⟨⟨B.exec, B.bytes, hml, findClass_of_methodNamed B.named, hts⟩, hW, hG⟩, B.notSynchronized, B.returns, Nat.le_refl _, Nat.le_refl _, ⟨rfl, rfl⟩, (name_of_methodNamed B.named B.method).1⟩ hf _ _ _ _ _ hP (LO_nil G) ⟨rfl, rfl⟩ hl
