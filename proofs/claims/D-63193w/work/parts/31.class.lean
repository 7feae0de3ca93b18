set_option maxRecDepth 100000
abbrev cX1_directory : ByteArray := prog_1_method_11_code
def yX1_directory : MethodName := ⟨RX1, "directory", "(IJ)I"⟩
theorem dX1_directory_0 : decode cX1_directory 0 = .ok (.lload_n 2, 1) := by decide +kernel
theorem dX1_directory_1 : decode cX1_directory 1 = .ok (.invokestatic 138, 3) := by decide +kernel
theorem dX1_directory_4 : decode cX1_directory 4 = .ok (.astore 4, 2) := by decide +kernel
theorem dX1_directory_6 : decode cX1_directory 6 = .ok (.aload_n 0, 1) := by decide +kernel
theorem dX1_directory_7 : decode cX1_directory 7 = .ok (.iload_n 1, 1) := by decide +kernel
theorem dX1_directory_8 : decode cX1_directory 8 = .ok (.aload 4, 2) := by decide +kernel
theorem dX1_directory_10 : decode cX1_directory 10 = .ok (.iconst 1, 1) := by decide +kernel
theorem dX1_directory_11 : decode cX1_directory 11 = .ok (.iconst 1, 1) := by decide +kernel
theorem dX1_directory_12 : decode cX1_directory 12 = .ok (.invokevirtual 142, 3) := by decide +kernel
theorem dX1_directory_15 : decode cX1_directory 15 = .ok (.istore 5, 2) := by decide +kernel
theorem dX1_directory_17 : decode cX1_directory 17 = .ok (.iload 5, 2) := by decide +kernel
theorem dX1_directory_19 : decode cX1_directory 19 = .ok (.ifCond .eq 6, 3) := by decide +kernel
theorem dX1_directory_22 : decode cX1_directory 22 = .ok (.iload 5, 2) := by decide +kernel
theorem dX1_directory_24 : decode cX1_directory 24 = .ok (.ireturn, 1) := by decide +kernel
theorem dX1_directory_25 : decode cX1_directory 25 = .ok (.aload_n 0, 1) := by decide +kernel
theorem dX1_directory_26 : decode cX1_directory 26 = .ok (.getfield 55, 3) := by decide +kernel
theorem dX1_directory_29 : decode cX1_directory 29 = .ok (.new 110, 3) := by decide +kernel
theorem dX1_directory_32 : decode cX1_directory 32 = .ok (.dup, 1) := by decide +kernel
theorem dX1_directory_33 : decode cX1_directory 33 = .ok (.aload_n 0, 1) := by decide +kernel
theorem dX1_directory_34 : decode cX1_directory 34 = .ok (.getfield 55, 3) := by decide +kernel
theorem dX1_directory_37 : decode cX1_directory 37 = .ok (.getfield 146, 3) := by decide +kernel
theorem dX1_directory_40 : decode cX1_directory 40 = .ok (.iload_n 1, 1) := by decide +kernel
theorem dX1_directory_41 : decode cX1_directory 41 = .ok (.iconst 1, 1) := by decide +kernel
theorem dX1_directory_42 : decode cX1_directory 42 = .ok (.aload 4, 2) := by decide +kernel
theorem dX1_directory_44 : decode cX1_directory 44 = .ok (.invokespecial 149, 3) := by decide +kernel
theorem dX1_directory_47 : decode cX1_directory 47 = .ok (.invokevirtual 152, 3) := by decide +kernel
theorem dX1_directory_50 : decode cX1_directory 50 = .ok (.aload_n 0, 1) := by decide +kernel
theorem dX1_directory_51 : decode cX1_directory 51 = .ok (.getfield 55, 3) := by decide +kernel
theorem dX1_directory_54 : decode cX1_directory 54 = .ok (.getfield 146, 3) := by decide +kernel
theorem dX1_directory_57 : decode cX1_directory 57 = .ok (.iconst 1, 1) := by decide +kernel
theorem dX1_directory_58 : decode cX1_directory 58 = .ok (.isub, 1) := by decide +kernel
theorem dX1_directory_59 : decode cX1_directory 59 = .ok (.ireturn, 1) := by decide +kernel
/-- WriteOnceDisc.directory(IJ)I -/
def wX1_directory (x0 : Nat) (x1 : Int32) (x2 : Int64) (σ : Hp) (post : Int32 → Hp → Prop) : Prop :=
(∃ mc1 ms2 : Nat, (mc1 ≤ bc_ σ ∧ (ms2 ≤ bs_ σ ∧ (wX1_nameOf x2 (bu_ σ mc1 ms2) (fun r5 σ6 => (∀ σ7, σ7 = bu_ σ6 (bc_ σ - mc1) (bs_ σ - ms2) → (tg_ σ7 x0 = 1 ∧ (wX1_hindrance x0 x1 r5 (1 : Int32) (1 : Int32) σ7 (fun r9 => ((r9 = 0 →
  (1 ≤ bc_ σ7 ∧ (12 ≤ bs_ σ7 ∧ (∀ σ13, σ13 = mO_ σ7 5 12 → (tg_ σ13 x0 = 1 ∧ (tg_ σ13 (fR_ σ13 0 4 x0) = 5 ∧ (tg_ σ13 (nx_ σ7) = 6 ∧ (∃ mc17 ms18 : Nat, (mc17 ≤ bc_ σ13 ∧ (ms18 ≤ bs_ σ13 ∧ (wX6_init (nx_ σ7) (fI_ σ13 4 1 (fR_ σ13 0 4 x0)) x1 (1 : Int32) r5 (bu_ σ13 mc17 ms18) (fun σ21 => (∀ σ22, σ22 = bu_ σ21 (bc_ σ13 - mc17) (bs_ σ13 - ms18) → (tg_ σ22 (fR_ σ7 0 4 x0) = 5 ∧ (∃ mc24 ms25 : Nat, (mc24 ≤ bc_ σ22 ∧ (ms25 ≤ bs_ σ22 ∧ (wX5_add (fR_ σ7 0 4 x0) (nx_ σ7) (bu_ σ22 mc24 ms25) (fun σ28 => (∀ σ29, σ29 = bu_ σ28 (bc_ σ22 - mc24) (bs_ σ22 - ms25) → (tg_ σ29 x0 = 1 ∧ (tg_ σ29 (fR_ σ29 0 4 x0) = 5 ∧ post ((fI_ σ29 4 1 (fR_ σ29 0 4 x0)) - (1 : Int32)) σ29)))))))))))))))))))))) ∧
 (¬ r9 = 0 →
  post r9 σ7)))))))))))
set_option maxHeartbeats 4000000 in
theorem sX1_directory {G : GG_} {p : Program} {l : Launch} {e : Env} {R : Room} {s : State} {m : MethodId} {args : Array Value} {below : List Frame} {meth : Method} {c : Code} {mc ms : Nat} (Y : MX_ G p R s m args meth c cX1_directory 6 RX1 (some Jvm.ClassFile.FieldType.int) 9 204 mc ms "directory") {post : Int32 → Hp → Prop} {x0 : Nat} {x1 : Int32} {x2 : Int64} {σ : Hp} (hf : wX1_directory x0 x1 x2 σ post) : WG_ G p l e R s m args below meth c (MQ below (QI_ G post) args s mc ms (FR_ G)) (BU_ R) 6 0 [(0, rv_ x0), (1, .int x1), (2, .long x2)] [] σ := by
  have ⟨X, hlk, hr, hRf, hRl, hRc, hnm⟩ := Y
  have ⟨⟨hx, hb, _, hown, hts⟩, _, _⟩ := X
  intro H locs cells slots ls hP hL hB hl
  unfold wX1_directory at hf
  refine lv_lload_n hx hb dX1_directory_0 rfl (lv_at hl 2 rfl) ?_
  obtain ⟨mc1, ms2, hf⟩ := hf
  obtain ⟨hb3, hf⟩ := hf
  obtain ⟨hb4, hf⟩ := hf
  refine p_callr hL (p_runS X (Pic_bu hP mc1 ms2) (metX1_nameOf l G _ _ _ _ _ X.2.2 hf) (va_cwS 1 hts (lw_S q675 q676 q85 q677) rfl rfl rfl (by decide +kernel) ⟨Nat.le_trans (Nat.le_of_ble_eq_true rfl) hRf, Nat.le_trans (Nat.le_of_ble_eq_true rfl) hRl⟩) rfl hl.1 rfl (by decide) dX1_directory_1 (BU_call hB hb3 hb4)) (fun r5 σ6 H locs hf hP hL => ?_)
  have hB := BU_back (τ := σ6) hB hb3 hb4
  have hP := Pic_bu hP (bc_ σ - mc1) (bs_ σ - ms2)
  refine p_nmPB hP hB (fun σ7 hσ7 hP hB => ?_)
  have hf := hf σ7 hσ7
  have hl := lv_sub hl [0, 1] rfl
  refine p_astore (i := 4) hx hb dX1_directory_4 hl (by decide) ⟨⟨ne_ rfl, Or.inl (ne_ rfl)⟩, ⟨⟨ne_ rfl, Or.inl (ne_ rfl)⟩, trivial⟩⟩ (fun ls hl => ?_)
  refine p_aload_n hx hb dX1_directory_6 rfl (lv_at hl 1 rfl) ?_
  refine lv_iload_n hx hb dX1_directory_7 rfl (lv_at hl 2 rfl) ?_
  refine p_aload hx hb dX1_directory_8 (lv_at hl 0 rfl) ?_
  refine lv_iconst (v := 1) hx hb dX1_directory_10 (by decide) ?_
  refine lv_iconst (v := 1) hx hb dX1_directory_11 (by decide) ?_
  obtain ⟨ht8, hf⟩ := hf
  refine p_calli hL (p_runV X cf0_ hP ht8 (metX1_hindrance l G _ _ _ _ _ _ _ X.2.2 hf) (cwV 4 hts (lw_V q707 q709 qs3 q85 q710) rfl rfl rfl (by decide +kernel) ⟨Nat.le_trans (Nat.le_of_ble_eq_true rfl) hRf, Nat.le_trans (Nat.le_of_ble_eq_true rfl) hRl⟩) rfl hl.1 rfl (by decide) dX1_directory_12 (BU_call hB (Nat.zero_le _) (Nat.zero_le _))) (fun r9 σ₁ H locs hf hP hL => ?_)
  obtain ⟨e₁, hf⟩ := hf
  rw [e₁] at hP
  refine p_istore (i := 5) hx hb dX1_directory_15 hl (by decide) ⟨⟨ne_ rfl, Or.inr (rv_cat _)⟩, ⟨⟨ne_ rfl, Or.inl (ne_ rfl)⟩, ⟨⟨ne_ rfl, Or.inl (ne_ rfl)⟩, trivial⟩⟩⟩ (fun ls hl => ?_)
  refine lv_iload hx hb dX1_directory_17 (lv_at hl 0 rfl) ?_
  refine lv_if_eq (tgt := 25) hx hb dX1_directory_19 (by decide) (fun c10 => ?_) (fun c10 => ?_)
  · have hf := hf.1 c10
    refine p_aload_n hx hb dX1_directory_25 rfl (lv_at hl 2 rfl) ?_
    refine p_gR X cf0_ (k := 4) (by decide) rfl hP ht8 q630 (fun _ h => h) dX1_directory_26 ?_
    obtain ⟨hb11, hf⟩ := hf
    obtain ⟨hb12, hf⟩ := hf
    refine p_new X cf5_ (by decide +kernel) hP hB q754 q213 q93 hb11 hb12 dX1_directory_29 (fun H hP hB => ?_)
    refine p_nmPB hP hB (fun σ13 hσ13 hP hB => ?_)
    have hf := hf σ13 hσ13
    refine lv_dup hx hb dX1_directory_32 (rv_cat _) ?_
    refine p_aload_n hx hb dX1_directory_33 rfl (lv_at hl 2 rfl) ?_
    obtain ⟨ht14, hf⟩ := hf
    refine p_gR X cf0_ (k := 4) (by decide) rfl hP ht14 q630 (fun _ h => h) dX1_directory_34 ?_
    obtain ⟨ht15, hf⟩ := hf
    refine p_gI X cf4_ (k := 1) (by decide) rfl hP ht15 q545 (fun _ h => h) dX1_directory_37 ?_
    refine lv_iload_n hx hb dX1_directory_40 rfl (lv_at hl 3 rfl) ?_
    refine lv_iconst (v := 1) hx hb dX1_directory_41 (by decide) ?_
    refine p_aload hx hb dX1_directory_42 (lv_at hl 1 rfl) ?_
    obtain ⟨ht16, hf⟩ := hf
    obtain ⟨mc17, ms18, hf⟩ := hf
    obtain ⟨hb19, hf⟩ := hf
    obtain ⟨hb20, hf⟩ := hf
    refine p_callv hL (p_runI X (Pic_bu hP mc17 ms18) ht16 (metX6_init l G _ _ _ _ _ _ _ _ _ X.2.2 hf) (cwI 4 hts (lw_meth q217) rfl rfl rfl (hts _ q93) (hts _ q755) (hts _ q216) rfl (by decide +kernel) ⟨Nat.le_trans (Nat.le_of_ble_eq_true rfl) hRf, Nat.le_trans (Nat.le_of_ble_eq_true rfl) hRl⟩) rfl hl.1 rfl (by rw [(ca_r (ca_r ca_n))]; decide) dX1_directory_44 (BU_call hB hb19 hb20)) (fun σ21 H locs hf hP hL => ?_)
    have hB := BU_back (τ := σ21) hB hb19 hb20
    have hP := Pic_bu hP (bc_ σ13 - mc17) (bs_ σ13 - ms18)
    refine p_nmPB hP hB (fun σ22 hσ22 hP hB => ?_)
    have hf := hf σ22 hσ22
    obtain ⟨ht23, hf⟩ := hf
    obtain ⟨mc24, ms25, hf⟩ := hf
    obtain ⟨hb26, hf⟩ := hf
    obtain ⟨hb27, hf⟩ := hf
    refine p_callv hL (p_runV X cf4_ (Pic_bu hP mc24 ms25) ht23 (metX5_add l G _ _ _ _ _ _ X.2.2 hf) (cwV 1 hts (lw_V q756 q492 q493 q92 q494) rfl rfl rfl (by decide +kernel) ⟨Nat.le_trans (Nat.le_of_ble_eq_true rfl) hRf, Nat.le_trans (Nat.le_of_ble_eq_true rfl) hRl⟩) rfl hl.1 rfl (by decide) dX1_directory_47 (BU_call hB hb26 hb27)) (fun σ28 H locs hf hP hL => ?_)
    have hB := BU_back (τ := σ28) hB hb26 hb27
    have hP := Pic_bu hP (bc_ σ22 - mc24) (bs_ σ22 - ms25)
    refine p_nmPB hP hB (fun σ29 hσ29 hP hB => ?_)
    have hf := hf σ29 hσ29
    refine p_aload_n hx hb dX1_directory_50 rfl (lv_at hl 2 rfl) ?_
    obtain ⟨ht30, hf⟩ := hf
    refine p_gR X cf0_ (k := 4) (by decide) rfl hP ht30 q630 (fun _ h => h) dX1_directory_51 ?_
    obtain ⟨ht31, hf⟩ := hf
    refine p_gI X cf4_ (k := 1) (by decide) rfl hP ht31 q545 (fun _ h => h) dX1_directory_54 ?_
    refine lv_iconst (v := 1) hx hb dX1_directory_57 (by decide) ?_
    refine lv_isub hx hb dX1_directory_58 ?_
    exact p_iret X hlk hP hL (BU_le hB hRc).1 (BU_le hB hRc).2 hr dX1_directory_59 hf
  · have hf := hf.2 c10
    refine lv_iload hx hb dX1_directory_22 (lv_at hl 0 rfl) ?_
    exact p_iret X hlk hP hL (BU_le hB hRc).1 (BU_le hB hRc).2 hr dX1_directory_24 hf
set_option maxHeartbeats 4000000 in
theorem metX1_directory (l : Launch) (G : GG_) (mc ms : Nat) (x0 : Nat) (x1 : Int32) (x2 : Int64) (σ : Hp) (post : Int32 → Hp → Prop) (hG : GOK_ G) (hf : wX1_directory x0 x1 x2 (bu_ σ mc ms) post) : Met l yX1_directory (ws_ yX1_directory cX1_directory 6 (some Jvm.ClassFile.FieldType.int)) { frames := 9, cells := mc, slots := ms, locals := 204 } (PC_ G [rv_ x0, .int x1, .long x2] (bu_ σ mc ms)) (QI_ G post) mc ms (FR_ G) := by
  refine Met.ofW (cc := cX1_directory) (maxL := 6) (ret := (some Jvm.ClassFile.FieldType.int)) (by decide) rfl ?_
  intro p e s m args below meth c s₁ B hml hv
  obtain ⟨rfl, hP, hW⟩ := hv
  have hts := atoms_spec (ws := ws_ yX1_directory cX1_directory 6 (some Jvm.ClassFile.FieldType.int)) B.pre
  have hts : ∀ w ∈ lw_all, w.before _ s = true := fun w h => hts w (List.mem_cons_of_mem _ h)
  rw [lg_entry_eq]
  have hl := en_entry [rv_ x0, .int x1, .long x2] [1, 1, 2] (n := 6) (ca_r (ca_i (ca_l ca_n))) (by decide)
  exact sX1_directory ⟨⟨⟨B.exec, B.bytes, hml, findClass_of_methodNamed B.named, hts⟩, hW, hG⟩, B.notSynchronized, B.returns, Nat.le_refl _, Nat.le_refl _, ⟨rfl, rfl⟩, (name_of_methodNamed B.named B.method).1⟩ hf _ _ _ _ _ hP (LO_nil G) (BU_in ⟨rfl, rfl⟩) hl
abbrev cX1_isContent : ByteArray := prog_1_method_10_code
def yX1_isContent : MethodName := ⟨RX1, "isContent", "(II)Z"⟩
theorem dX1_isContent_0 : decode cX1_isContent 0 = .ok (.iload_n 0, 1) := by decide +kernel
theorem dX1_isContent_1 : decode cX1_isContent 1 = .ok (.iconst 0, 1) := by decide +kernel
theorem dX1_isContent_2 : decode cX1_isContent 2 = .ok (.sipush 6000, 3) := by decide +kernel
theorem dX1_isContent_5 : decode cX1_isContent 5 = .ok (.invokestatic 94, 3) := by decide +kernel
theorem dX1_isContent_8 : decode cX1_isContent 8 = .ok (.ifCond .eq 18, 3) := by decide +kernel
theorem dX1_isContent_11 : decode cX1_isContent 11 = .ok (.iload_n 1, 1) := by decide +kernel
theorem dX1_isContent_12 : decode cX1_isContent 12 = .ok (.iconst 0, 1) := by decide +kernel
theorem dX1_isContent_13 : decode cX1_isContent 13 = .ok (.sipush 255, 3) := by decide +kernel
theorem dX1_isContent_16 : decode cX1_isContent 16 = .ok (.invokestatic 94, 3) := by decide +kernel
theorem dX1_isContent_19 : decode cX1_isContent 19 = .ok (.ifCond .eq 7, 3) := by decide +kernel
theorem dX1_isContent_22 : decode cX1_isContent 22 = .ok (.iconst 1, 1) := by decide +kernel
theorem dX1_isContent_23 : decode cX1_isContent 23 = .ok (.goto 4, 3) := by decide +kernel
theorem dX1_isContent_26 : decode cX1_isContent 26 = .ok (.iconst 0, 1) := by decide +kernel
theorem dX1_isContent_27 : decode cX1_isContent 27 = .ok (.ireturn, 1) := by decide +kernel
/-- WriteOnceDisc.isContent(II)Z -/
def wX1_isContent (x0 : Int32) (x1 : Int32) (σ : Hp) (post : Int32 → Prop) : Prop :=
(wX1_in x0 (0 : Int32) (6000 : Int32) σ (fun r1 => ((r1 = 0 →
  post (0 : Int32)) ∧
 (¬ r1 = 0 →
  (wX1_in x1 (0 : Int32) (255 : Int32) σ (fun r3 => ((r3 = 0 →
   post (0 : Int32)) ∧
  (¬ r3 = 0 →
   post (1 : Int32)))))))))
set_option maxHeartbeats 4000000 in
theorem sX1_isContent {G : GG_} {p : Program} {l : Launch} {e : Env} {R : Room} {s : State} {m : MethodId} {args : Array Value} {below : List Frame} {meth : Method} {c : Code} (Y : MX_ G p R s m args meth c cX1_isContent 2 RX1 (some Jvm.ClassFile.FieldType.boolean) 2 42 0 0 "isContent") {post : Int32 → Prop} {x0 : Int32} {x1 : Int32} {σ : Hp} (hf : wX1_isContent x0 x1 σ post) : WG_ G p l e R s m args below meth c (MQ below (QI_ G (fun r τ => τ = σ ∧ post r)) args s 0 0 (FR_ G)) BN_ 2 0 [(0, .int x0), (1, .int x1)] [] σ := by
  have ⟨X, hlk, hr, hRf, hRl, hRc, hnm⟩ := Y
  have ⟨⟨hx, hb, _, hown, hts⟩, _, _⟩ := X
  intro H locs cells slots ls hP hL hB hl
  obtain ⟨rfl, rfl⟩ := hB
  unfold wX1_isContent at hf
  refine lv_iload_n hx hb dX1_isContent_0 rfl (lv_at hl 0 rfl) ?_
  refine lv_iconst (v := 0) hx hb dX1_isContent_1 (by decide) ?_
  refine lv_sipush (v := 6000) hx hb dX1_isContent_2 (by decide) ?_
  refine p_calli hL (p_runS X hP (metX1_in l G _ _ _ _ _ X.2.2 hf) (va_cwS 3 hts (lw_S q664 q665 q85 q666) rfl rfl rfl (by decide +kernel) ⟨Nat.le_trans (Nat.le_of_ble_eq_true rfl) hRf, Nat.le_trans (Nat.le_of_ble_eq_true rfl) hRl⟩) rfl hl.1 rfl (by decide) dX1_isContent_5 ⟨Nat.zero_le _, Nat.zero_le _⟩) (fun r1 σ₁ H locs hf hP hL => ?_)
  obtain ⟨e₁, hf⟩ := hf
  rw [e₁] at hP
  refine lv_if_eq (tgt := 26) hx hb dX1_isContent_8 (by decide) (fun c2 => ?_) (fun c2 => ?_)
  · have hf := hf.1 c2
    refine lv_iconst (v := 0) hx hb dX1_isContent_26 (by decide) ?_
    exact p_zret X hlk hP hL (Nat.le_refl _) (Nat.le_refl _) hr nr_0 dX1_isContent_27 ⟨rfl, hf⟩
  · have hf := hf.2 c2
    refine lv_iload_n hx hb dX1_isContent_11 rfl (lv_at hl 1 rfl) ?_
    refine lv_iconst (v := 0) hx hb dX1_isContent_12 (by decide) ?_
    refine lv_sipush (v := 255) hx hb dX1_isContent_13 (by decide) ?_
    refine p_calli hL (p_runS X hP (metX1_in l G _ _ _ _ _ X.2.2 hf) (va_cwS 3 hts (lw_S q664 q665 q85 q666) rfl rfl rfl (by decide +kernel) ⟨Nat.le_trans (Nat.le_of_ble_eq_true rfl) hRf, Nat.le_trans (Nat.le_of_ble_eq_true rfl) hRl⟩) rfl hl.1 rfl (by decide) dX1_isContent_16 ⟨Nat.zero_le _, Nat.zero_le _⟩) (fun r3 σ₁ H locs hf hP hL => ?_)
    obtain ⟨e₁, hf⟩ := hf
    rw [e₁] at hP
    refine lv_if_eq (tgt := 26) hx hb dX1_isContent_19 (by decide) (fun c4 => ?_) (fun c4 => ?_)
    · have hf := hf.1 c4
      refine lv_iconst (v := 0) hx hb dX1_isContent_26 (by decide) ?_
      exact p_zret X hlk hP hL (Nat.le_refl _) (Nat.le_refl _) hr nr_0 dX1_isContent_27 ⟨rfl, hf⟩
    · have hf := hf.2 c4
      refine lv_iconst (v := 1) hx hb dX1_isContent_22 (by decide) ?_
      refine lv_goto (tgt := 27) hx hb dX1_isContent_23 (by decide) ?_
      exact p_zret X hlk hP hL (Nat.le_refl _) (Nat.le_refl _) hr nr_1 dX1_isContent_27 ⟨rfl, hf⟩
set_option maxHeartbeats 4000000 in
theorem metX1_isContent (l : Launch) (G : GG_) (x0 : Int32) (x1 : Int32) (σ : Hp) (post : Int32 → Prop) (hG : GOK_ G) (hf : wX1_isContent x0 x1 σ post) : Met l yX1_isContent (ws_ yX1_isContent cX1_isContent 2 (some Jvm.ClassFile.FieldType.boolean)) { frames := 2, cells := 0, slots := 0, locals := 42 } (PC_ G [.int x0, .int x1] σ) (QI_ G (fun r τ => τ = σ ∧ post r)) 0 0 (FR_ G) := by
  refine Met.ofW (cc := cX1_isContent) (maxL := 2) (ret := (some Jvm.ClassFile.FieldType.boolean)) (by decide) rfl ?_
  intro p e s m args below meth c s₁ B hml hv
  obtain ⟨rfl, hP, hW⟩ := hv
  have hts := atoms_spec (ws := ws_ yX1_isContent cX1_isContent 2 (some Jvm.ClassFile.FieldType.boolean)) B.pre
  have hts : ∀ w ∈ lw_all, w.before _ s = true := fun w h => hts w (List.mem_cons_of_mem _ h)
  rw [lg_entry_eq]
  have hl := en_entry [.int x0, .int x1] [1, 1] (n := 2) (ca_i (ca_i ca_n)) (by decide)
  exact sX1_isContent ⟨⟨⟨B.exec, B.bytes, hml, findClass_of_methodNamed B.named, hts⟩, hW, hG⟩, B.notSynchronized, B.returns, Nat.le_refl _, Nat.le_refl _, ⟨rfl, rfl⟩, (name_of_methodNamed B.named B.method).1⟩ hf _ _ _ _ _ hP (LO_nil G) ⟨rfl, rfl⟩ hl
abbrev cX1_file : ByteArray := prog_1_method_12_code
def yX1_file : MethodName := ⟨RX1, "file", "(IJII)I"⟩
theorem dX1_file_0 : decode cX1_file 0 = .ok (.lload_n 2, 1) := by decide +kernel
theorem dX1_file_1 : decode cX1_file 1 = .ok (.invokestatic 138, 3) := by decide +kernel
theorem dX1_file_4 : decode cX1_file 4 = .ok (.astore 6, 2) := by decide +kernel
theorem dX1_file_6 : decode cX1_file 6 = .ok (.aload_n 0, 1) := by decide +kernel
theorem dX1_file_7 : decode cX1_file 7 = .ok (.iload_n 1, 1) := by decide +kernel
theorem dX1_file_8 : decode cX1_file 8 = .ok (.aload 6, 2) := by decide +kernel
theorem dX1_file_10 : decode cX1_file 10 = .ok (.iconst 0, 1) := by decide +kernel
theorem dX1_file_11 : decode cX1_file 11 = .ok (.iload 4, 2) := by decide +kernel
theorem dX1_file_13 : decode cX1_file 13 = .ok (.iload 5, 2) := by decide +kernel
theorem dX1_file_15 : decode cX1_file 15 = .ok (.invokestatic 156, 3) := by decide +kernel
theorem dX1_file_18 : decode cX1_file 18 = .ok (.invokevirtual 142, 3) := by decide +kernel
theorem dX1_file_21 : decode cX1_file 21 = .ok (.istore 7, 2) := by decide +kernel
theorem dX1_file_23 : decode cX1_file 23 = .ok (.iload 7, 2) := by decide +kernel
theorem dX1_file_25 : decode cX1_file 25 = .ok (.ifCond .eq 6, 3) := by decide +kernel
theorem dX1_file_28 : decode cX1_file 28 = .ok (.iload 7, 2) := by decide +kernel
theorem dX1_file_30 : decode cX1_file 30 = .ok (.ireturn, 1) := by decide +kernel
theorem dX1_file_31 : decode cX1_file 31 = .ok (.new 110, 3) := by decide +kernel
theorem dX1_file_34 : decode cX1_file 34 = .ok (.dup, 1) := by decide +kernel
theorem dX1_file_35 : decode cX1_file 35 = .ok (.aload_n 0, 1) := by decide +kernel
theorem dX1_file_36 : decode cX1_file 36 = .ok (.getfield 55, 3) := by decide +kernel
theorem dX1_file_39 : decode cX1_file 39 = .ok (.getfield 146, 3) := by decide +kernel
theorem dX1_file_42 : decode cX1_file 42 = .ok (.iload_n 1, 1) := by decide +kernel
theorem dX1_file_43 : decode cX1_file 43 = .ok (.iconst 0, 1) := by decide +kernel
theorem dX1_file_44 : decode cX1_file 44 = .ok (.aload 6, 2) := by decide +kernel
theorem dX1_file_46 : decode cX1_file 46 = .ok (.invokespecial 149, 3) := by decide +kernel
theorem dX1_file_49 : decode cX1_file 49 = .ok (.astore 8, 2) := by decide +kernel
theorem dX1_file_51 : decode cX1_file 51 = .ok (.aload 8, 2) := by decide +kernel
theorem dX1_file_53 : decode cX1_file 53 = .ok (.iload 4, 2) := by decide +kernel
theorem dX1_file_55 : decode cX1_file 55 = .ok (.putfield 160, 3) := by decide +kernel
theorem dX1_file_58 : decode cX1_file 58 = .ok (.aload 8, 2) := by decide +kernel
theorem dX1_file_60 : decode cX1_file 60 = .ok (.iload 5, 2) := by decide +kernel
theorem dX1_file_62 : decode cX1_file 62 = .ok (.putfield 162, 3) := by decide +kernel
theorem dX1_file_65 : decode cX1_file 65 = .ok (.aload_n 0, 1) := by decide +kernel
theorem dX1_file_66 : decode cX1_file 66 = .ok (.getfield 55, 3) := by decide +kernel
theorem dX1_file_69 : decode cX1_file 69 = .ok (.aload 8, 2) := by decide +kernel
theorem dX1_file_71 : decode cX1_file 71 = .ok (.invokevirtual 152, 3) := by decide +kernel
theorem dX1_file_74 : decode cX1_file 74 = .ok (.aload 8, 2) := by decide +kernel
theorem dX1_file_76 : decode cX1_file 76 = .ok (.getfield 165, 3) := by decide +kernel
theorem dX1_file_79 : decode cX1_file 79 = .ok (.ireturn, 1) := by decide +kernel
/-- WriteOnceDisc.file(IJII)I -/
def wX1_file (x0 : Nat) (x1 : Int32) (x2 : Int64) (x4 : Int32) (x5 : Int32) (σ : Hp) (post : Int32 → Hp → Prop) : Prop :=
(∃ mc1 ms2 : Nat, (mc1 ≤ bc_ σ ∧ (ms2 ≤ bs_ σ ∧ (wX1_nameOf x2 (bu_ σ mc1 ms2) (fun r5 σ6 => (∀ σ7, σ7 = bu_ σ6 (bc_ σ - mc1) (bs_ σ - ms2) → (wX1_isContent x4 x5 σ7 (fun r8 => (tg_ σ7 x0 = 1 ∧ (wX1_hindrance x0 x1 r5 (0 : Int32) r8 σ7 (fun r10 => ((r10 = 0 →
  (1 ≤ bc_ σ7 ∧ (12 ≤ bs_ σ7 ∧ (∀ σ14, σ14 = mO_ σ7 5 12 → (tg_ σ14 x0 = 1 ∧ (tg_ σ14 (fR_ σ14 0 4 x0) = 5 ∧ (tg_ σ14 (nx_ σ7) = 6 ∧ (∃ mc18 ms19 : Nat, (mc18 ≤ bc_ σ14 ∧ (ms19 ≤ bs_ σ14 ∧ (wX6_init (nx_ σ7) (fI_ σ14 4 1 (fR_ σ14 0 4 x0)) x1 (0 : Int32) r5 (bu_ σ14 mc18 ms19) (fun σ22 => (∀ σ23, σ23 = bu_ σ22 (bc_ σ14 - mc18) (bs_ σ14 - ms19) → (∀ y24 : Nat, y24 = (nx_ σ7) → (tg_ σ23 y24 = 6 ∧ (∀ σ26, σ26 = sI_ σ23 5 3 y24 x4 → (∀ σ27, σ27 = sI_ σ26 5 4 y24 x5 → (tg_ σ27 x0 = 1 ∧ (tg_ σ27 (fR_ σ27 0 4 x0) = 5 ∧ (∃ mc30 ms31 : Nat, (mc30 ≤ bc_ σ27 ∧ (ms31 ≤ bs_ σ27 ∧ (wX5_add (fR_ σ27 0 4 x0) y24 (bu_ σ27 mc30 ms31) (fun σ34 => (∀ σ35, σ35 = bu_ σ34 (bc_ σ27 - mc30) (bs_ σ27 - ms31) → (tg_ σ35 y24 = 6 ∧ post (fI_ σ35 5 0 y24) σ35)))))))))))))))))))))))))) ∧
 (¬ r10 = 0 →
  post r10 σ7)))))))))))))
set_option maxHeartbeats 4000000 in
theorem sX1_file {G : GG_} {p : Program} {l : Launch} {e : Env} {R : Room} {s : State} {m : MethodId} {args : Array Value} {below : List Frame} {meth : Method} {c : Code} {mc ms : Nat} (Y : MX_ G p R s m args meth c cX1_file 9 RX1 (some Jvm.ClassFile.FieldType.int) 9 204 mc ms "file") {post : Int32 → Hp → Prop} {x0 : Nat} {x1 : Int32} {x2 : Int64} {x4 : Int32} {x5 : Int32} {σ : Hp} (hf : wX1_file x0 x1 x2 x4 x5 σ post) : WG_ G p l e R s m args below meth c (MQ below (QI_ G post) args s mc ms (FR_ G)) (BU_ R) 9 0 [(0, rv_ x0), (1, .int x1), (2, .long x2), (4, .int x4), (5, .int x5)] [] σ := by
  have ⟨X, hlk, hr, hRf, hRl, hRc, hnm⟩ := Y
  have ⟨⟨hx, hb, _, hown, hts⟩, _, _⟩ := X
  intro H locs cells slots ls hP hL hB hl
  unfold wX1_file at hf
  refine lv_lload_n hx hb dX1_file_0 rfl (lv_at hl 2 rfl) ?_
  obtain ⟨mc1, ms2, hf⟩ := hf
  obtain ⟨hb3, hf⟩ := hf
  obtain ⟨hb4, hf⟩ := hf
  refine p_callr hL (p_runS X (Pic_bu hP mc1 ms2) (metX1_nameOf l G _ _ _ _ _ X.2.2 hf) (va_cwS 1 hts (lw_S q675 q676 q85 q677) rfl rfl rfl (by decide +kernel) ⟨Nat.le_trans (Nat.le_of_ble_eq_true rfl) hRf, Nat.le_trans (Nat.le_of_ble_eq_true rfl) hRl⟩) rfl hl.1 rfl (by decide) dX1_file_1 (BU_call hB hb3 hb4)) (fun r5 σ6 H locs hf hP hL => ?_)
  have hB := BU_back (τ := σ6) hB hb3 hb4
  have hP := Pic_bu hP (bc_ σ - mc1) (bs_ σ - ms2)
  refine p_nmPB hP hB (fun σ7 hσ7 hP hB => ?_)
  have hf := hf σ7 hσ7
  have hl := lv_sub hl [0, 1, 3, 4] rfl
  refine p_astore (i := 6) hx hb dX1_file_4 hl (by decide) ⟨⟨ne_ rfl, Or.inl (ne_ rfl)⟩, ⟨⟨ne_ rfl, Or.inl (ne_ rfl)⟩, ⟨⟨ne_ rfl, Or.inl (ne_ rfl)⟩, ⟨⟨ne_ rfl, Or.inr rfl⟩, trivial⟩⟩⟩⟩ (fun ls hl => ?_)
  refine p_aload_n hx hb dX1_file_6 rfl (lv_at hl 1 rfl) ?_
  refine lv_iload_n hx hb dX1_file_7 rfl (lv_at hl 2 rfl) ?_
  refine p_aload hx hb dX1_file_8 (lv_at hl 0 rfl) ?_
  refine lv_iconst (v := 0) hx hb dX1_file_10 (by decide) ?_
  refine lv_iload hx hb dX1_file_11 (lv_at hl 3 rfl) ?_
  refine lv_iload hx hb dX1_file_13 (lv_at hl 4 rfl) ?_
  refine p_calli hL (p_runS X hP (metX1_isContent l G _ _ _ _ X.2.2 hf) (va_cwS 2 hts (lw_S q761 q762 q85 q763) rfl rfl rfl (by decide +kernel) ⟨Nat.le_trans (Nat.le_of_ble_eq_true rfl) hRf, Nat.le_trans (Nat.le_of_ble_eq_true rfl) hRl⟩) rfl hl.1 rfl (by rw [(ca_i (ca_r (ca_i (ca_r ca_n))))]; decide) dX1_file_15 (BU_call hB (Nat.zero_le _) (Nat.zero_le _))) (fun r8 σ₁ H locs hf hP hL => ?_)
  obtain ⟨e₁, hf⟩ := hf
  rw [e₁] at hP
  obtain ⟨ht9, hf⟩ := hf
  refine p_calli hL (p_runV X cf0_ hP ht9 (metX1_hindrance l G _ _ _ _ _ _ _ X.2.2 hf) (cwV 4 hts (lw_V q707 q709 qs3 q85 q710) rfl rfl rfl (by decide +kernel) ⟨Nat.le_trans (Nat.le_of_ble_eq_true rfl) hRf, Nat.le_trans (Nat.le_of_ble_eq_true rfl) hRl⟩) rfl hl.1 rfl (by decide) dX1_file_18 (BU_call hB (Nat.zero_le _) (Nat.zero_le _))) (fun r10 σ₁ H locs hf hP hL => ?_)
  obtain ⟨e₁, hf⟩ := hf
  rw [e₁] at hP
  refine p_istore (i := 7) hx hb dX1_file_21 hl (by decide) ⟨⟨ne_ rfl, Or.inr (rv_cat _)⟩, ⟨⟨ne_ rfl, Or.inl (ne_ rfl)⟩, ⟨⟨ne_ rfl, Or.inl (ne_ rfl)⟩, ⟨⟨ne_ rfl, Or.inl (ne_ rfl)⟩, ⟨⟨ne_ rfl, Or.inl (ne_ rfl)⟩, trivial⟩⟩⟩⟩⟩ (fun ls hl => ?_)
  refine lv_iload hx hb dX1_file_23 (lv_at hl 0 rfl) ?_
  refine lv_if_eq (tgt := 31) hx hb dX1_file_25 (by decide) (fun c11 => ?_) (fun c11 => ?_)
  · have hf := hf.1 c11
    obtain ⟨hb12, hf⟩ := hf
    obtain ⟨hb13, hf⟩ := hf
    refine p_new X cf5_ (by decide +kernel) hP hB q754 q213 q93 hb12 hb13 dX1_file_31 (fun H hP hB => ?_)
    refine p_nmPB hP hB (fun σ14 hσ14 hP hB => ?_)
    have hf := hf σ14 hσ14
    refine lv_dup hx hb dX1_file_34 (rv_cat _) ?_
    refine p_aload_n hx hb dX1_file_35 rfl (lv_at hl 2 rfl) ?_
    obtain ⟨ht15, hf⟩ := hf
    refine p_gR X cf0_ (k := 4) (by decide) rfl hP ht15 q630 (fun _ h => h) dX1_file_36 ?_
    obtain ⟨ht16, hf⟩ := hf
    refine p_gI X cf4_ (k := 1) (by decide) rfl hP ht16 q545 (fun _ h => h) dX1_file_39 ?_
    refine lv_iload_n hx hb dX1_file_42 rfl (lv_at hl 3 rfl) ?_
    refine lv_iconst (v := 0) hx hb dX1_file_43 (by decide) ?_
    refine p_aload hx hb dX1_file_44 (lv_at hl 1 rfl) ?_
    obtain ⟨ht17, hf⟩ := hf
    obtain ⟨mc18, ms19, hf⟩ := hf
    obtain ⟨hb20, hf⟩ := hf
    obtain ⟨hb21, hf⟩ := hf
    refine p_callv hL (p_runI X (Pic_bu hP mc18 ms19) ht17 (metX6_init l G _ _ _ _ _ _ _ _ _ X.2.2 hf) (cwI 4 hts (lw_meth q217) rfl rfl rfl (hts _ q93) (hts _ q755) (hts _ q216) rfl (by decide +kernel) ⟨Nat.le_trans (Nat.le_of_ble_eq_true rfl) hRf, Nat.le_trans (Nat.le_of_ble_eq_true rfl) hRl⟩) rfl hl.1 rfl (by rw [(ca_r ca_n)]; decide) dX1_file_46 (BU_call hB hb20 hb21)) (fun σ22 H locs hf hP hL => ?_)
    have hB := BU_back (τ := σ22) hB hb20 hb21
    have hP := Pic_bu hP (bc_ σ14 - mc18) (bs_ σ14 - ms19)
    refine p_nmPB hP hB (fun σ23 hσ23 hP hB => ?_)
    have hf := hf σ23 hσ23
    have hl := lv_sub hl [2, 4, 5] rfl
    refine p_topr (fun y24 hy24 => ?_)
    have hf := hf y24 hy24
    refine p_astore (i := 8) hx hb dX1_file_49 hl (by decide) ⟨⟨ne_ rfl, Or.inl (ne_ rfl)⟩, ⟨⟨ne_ rfl, Or.inl (ne_ rfl)⟩, ⟨⟨ne_ rfl, Or.inl (ne_ rfl)⟩, trivial⟩⟩⟩ (fun ls hl => ?_)
    refine p_aload hx hb dX1_file_51 (lv_at hl 0 rfl) ?_
    refine lv_iload hx hb dX1_file_53 (lv_at hl 2 rfl) ?_
    obtain ⟨ht25, hf⟩ := hf
    refine p_pI X cf5_ (k := 3) (by decide) rfl hP hL ht25 (p_ow hP ht25 rfl) q449 (fun _ h => h) (Or.inl rfl) rfl rfl dX1_file_55 (fun H locs hP hL => ?_)
    refine p_nmPB hP hB (fun σ26 hσ26 hP hB => ?_)
    have hf := hf σ26 hσ26
    have ht25 : tg_ σ26 y24 = 6 := by rw [hσ26]; exact ht25
    refine p_aload hx hb dX1_file_58 (lv_at hl 0 rfl) ?_
    refine lv_iload hx hb dX1_file_60 (lv_at hl 3 rfl) ?_
    refine p_pI X cf5_ (k := 4) (by decide) rfl hP hL ht25 (p_ow hP ht25 rfl) q451 (fun _ h => h) (Or.inl rfl) rfl rfl dX1_file_62 (fun H locs hP hL => ?_)
    refine p_nmPB hP hB (fun σ27 hσ27 hP hB => ?_)
    have hf := hf σ27 hσ27
    have ht25 : tg_ σ27 y24 = 6 := by rw [hσ27]; exact ht25
    refine p_aload_n hx hb dX1_file_65 rfl (lv_at hl 1 rfl) ?_
    obtain ⟨ht28, hf⟩ := hf
    refine p_gR X cf0_ (k := 4) (by decide) rfl hP ht28 q630 (fun _ h => h) dX1_file_66 ?_
    refine p_aload hx hb dX1_file_69 (lv_at hl 0 rfl) ?_
    obtain ⟨ht29, hf⟩ := hf
    obtain ⟨mc30, ms31, hf⟩ := hf
    obtain ⟨hb32, hf⟩ := hf
    obtain ⟨hb33, hf⟩ := hf
    refine p_callv hL (p_runV X cf4_ (Pic_bu hP mc30 ms31) ht29 (metX5_add l G _ _ _ _ _ _ X.2.2 hf) (cwV 1 hts (lw_V q756 q492 q493 q92 q494) rfl rfl rfl (by decide +kernel) ⟨Nat.le_trans (Nat.le_of_ble_eq_true rfl) hRf, Nat.le_trans (Nat.le_of_ble_eq_true rfl) hRl⟩) rfl hl.1 rfl (by decide) dX1_file_71 (BU_call hB hb32 hb33)) (fun σ34 H locs hf hP hL => ?_)
    have hB := BU_back (τ := σ34) hB hb32 hb33
    have hP := Pic_bu hP (bc_ σ27 - mc30) (bs_ σ27 - ms31)
    refine p_nmPB hP hB (fun σ35 hσ35 hP hB => ?_)
    have hf := hf σ35 hσ35
    refine p_aload hx hb dX1_file_74 (lv_at hl 0 rfl) ?_
    obtain ⟨ht36, hf⟩ := hf
    refine p_gI X cf5_ (k := 0) (by decide) rfl hP ht36 q438 (fun _ h => h) dX1_file_76 ?_
    exact p_iret X hlk hP hL (BU_le hB hRc).1 (BU_le hB hRc).2 hr dX1_file_79 hf
  · have hf := hf.2 c11
    refine lv_iload hx hb dX1_file_28 (lv_at hl 0 rfl) ?_
    exact p_iret X hlk hP hL (BU_le hB hRc).1 (BU_le hB hRc).2 hr dX1_file_30 hf
set_option maxHeartbeats 4000000 in
theorem metX1_file (l : Launch) (G : GG_) (mc ms : Nat) (x0 : Nat) (x1 : Int32) (x2 : Int64) (x4 : Int32) (x5 : Int32) (σ : Hp) (post : Int32 → Hp → Prop) (hG : GOK_ G) (hf : wX1_file x0 x1 x2 x4 x5 (bu_ σ mc ms) post) : Met l yX1_file (ws_ yX1_file cX1_file 9 (some Jvm.ClassFile.FieldType.int)) { frames := 9, cells := mc, slots := ms, locals := 204 } (PC_ G [rv_ x0, .int x1, .long x2, .int x4, .int x5] (bu_ σ mc ms)) (QI_ G post) mc ms (FR_ G) := by
  refine Met.ofW (cc := cX1_file) (maxL := 9) (ret := (some Jvm.ClassFile.FieldType.int)) (by decide) rfl ?_
  intro p e s m args below meth c s₁ B hml hv
  obtain ⟨rfl, hP, hW⟩ := hv
  have hts := atoms_spec (ws := ws_ yX1_file cX1_file 9 (some Jvm.ClassFile.FieldType.int)) B.pre
  have hts : ∀ w ∈ lw_all, w.before _ s = true := fun w h => hts w (List.mem_cons_of_mem _ h)
  rw [lg_entry_eq]
  have hl := en_entry [rv_ x0, .int x1, .long x2, .int x4, .int x5] [1, 1, 2, 1, 1] (n := 9) (ca_r (ca_i (ca_l (ca_i (ca_i ca_n))))) (by decide)
  exact sX1_file ⟨⟨⟨B.exec, B.bytes, hml, findClass_of_methodNamed B.named, hts⟩, hW, hG⟩, B.notSynchronized, B.returns, Nat.le_refl _, Nat.le_refl _, ⟨rfl, rfl⟩, (name_of_methodNamed B.named B.method).1⟩ hf _ _ _ _ _ hP (LO_nil G) (BU_in ⟨rfl, rfl⟩) hl
abbrev cX1_replace : ByteArray := prog_1_method_13_code
def yX1_replace : MethodName := ⟨RX1, "replace", "(III)I"⟩
theorem dX1_replace_0 : decode cX1_replace 0 = .ok (.aload_n 0, 1) := by decide +kernel
theorem dX1_replace_1 : decode cX1_replace 1 = .ok (.getfield 39, 3) := by decide +kernel
theorem dX1_replace_4 : decode cX1_replace 4 = .ok (.getfield 115, 3) := by decide +kernel
theorem dX1_replace_7 : decode cX1_replace 7 = .ok (.ifCond .eq 6, 3) := by decide +kernel
theorem dX1_replace_10 : decode cX1_replace 10 = .ok (.bipush (-4), 2) := by decide +kernel
theorem dX1_replace_12 : decode cX1_replace 12 = .ok (.ireturn, 1) := by decide +kernel
theorem dX1_replace_13 : decode cX1_replace 13 = .ok (.aload_n 0, 1) := by decide +kernel
theorem dX1_replace_14 : decode cX1_replace 14 = .ok (.getfield 55, 3) := by decide +kernel
theorem dX1_replace_17 : decode cX1_replace 17 = .ok (.iload_n 1, 1) := by decide +kernel
theorem dX1_replace_18 : decode cX1_replace 18 = .ok (.invokevirtual 105, 3) := by decide +kernel
theorem dX1_replace_21 : decode cX1_replace 21 = .ok (.astore 4, 2) := by decide +kernel
theorem dX1_replace_23 : decode cX1_replace 23 = .ok (.aload 4, 2) := by decide +kernel
theorem dX1_replace_25 : decode cX1_replace 25 = .ok (.ifnull 19, 3) := by decide +kernel
theorem dX1_replace_28 : decode cX1_replace 28 = .ok (.aload 4, 2) := by decide +kernel
theorem dX1_replace_30 : decode cX1_replace 30 = .ok (.getfield 109, 3) := by decide +kernel
theorem dX1_replace_33 : decode cX1_replace 33 = .ok (.ifCond .ne 11, 3) := by decide +kernel
theorem dX1_replace_36 : decode cX1_replace 36 = .ok (.iload_n 2, 1) := by decide +kernel
theorem dX1_replace_37 : decode cX1_replace 37 = .ok (.iload_n 3, 1) := by decide +kernel
theorem dX1_replace_38 : decode cX1_replace 38 = .ok (.invokestatic 156, 3) := by decide +kernel
theorem dX1_replace_41 : decode cX1_replace 41 = .ok (.ifCond .ne 6, 3) := by decide +kernel
theorem dX1_replace_44 : decode cX1_replace 44 = .ok (.bipush (-2), 2) := by decide +kernel
theorem dX1_replace_46 : decode cX1_replace 46 = .ok (.ireturn, 1) := by decide +kernel
theorem dX1_replace_47 : decode cX1_replace 47 = .ok (.aload 4, 2) := by decide +kernel
theorem dX1_replace_49 : decode cX1_replace 49 = .ok (.iload_n 2, 1) := by decide +kernel
theorem dX1_replace_50 : decode cX1_replace 50 = .ok (.putfield 160, 3) := by decide +kernel
theorem dX1_replace_53 : decode cX1_replace 53 = .ok (.aload 4, 2) := by decide +kernel
theorem dX1_replace_55 : decode cX1_replace 55 = .ok (.iload_n 3, 1) := by decide +kernel
theorem dX1_replace_56 : decode cX1_replace 56 = .ok (.putfield 162, 3) := by decide +kernel
theorem dX1_replace_59 : decode cX1_replace 59 = .ok (.aload 4, 2) := by decide +kernel
theorem dX1_replace_61 : decode cX1_replace 61 = .ok (.iconst 0, 1) := by decide +kernel
theorem dX1_replace_62 : decode cX1_replace 62 = .ok (.putfield 168, 3) := by decide +kernel
theorem dX1_replace_65 : decode cX1_replace 65 = .ok (.aload 4, 2) := by decide +kernel
theorem dX1_replace_67 : decode cX1_replace 67 = .ok (.iconst 0, 1) := by decide +kernel
theorem dX1_replace_68 : decode cX1_replace 68 = .ok (.putfield 171, 3) := by decide +kernel
theorem dX1_replace_71 : decode cX1_replace 71 = .ok (.iconst 0, 1) := by decide +kernel
theorem dX1_replace_72 : decode cX1_replace 72 = .ok (.ireturn, 1) := by decide +kernel
/-- WriteOnceDisc.replace(III)I -/
def wX1_replace (x0 : Nat) (x1 : Int32) (x2 : Int32) (x3 : Int32) (σ : Hp) (post : Int32 → Hp → Prop) : Prop :=
(tg_ σ x0 = 1 ∧ (tg_ σ (fR_ σ 0 0 x0) = 2 ∧ (((fI_ σ 1 2 (fR_ σ 0 0 x0)) = 0 →
  (tg_ σ (fR_ σ 0 4 x0) = 5 ∧ (wX5_find (fR_ σ 0 4 x0) x1 σ (fun r5 => ((r5 = 0 →
   post (-2 : Int32) σ) ∧
  (¬ r5 = 0 →
   (tg_ σ r5 = 6 ∧ ((¬ (fI_ σ 5 1 r5) = 0 →
    post (-2 : Int32) σ) ∧
   ((fI_ σ 5 1 r5) = 0 →
    (wX1_isContent x2 x3 σ (fun r9 => ((¬ r9 = 0 →
     (∀ σ11, σ11 = sI_ σ 5 3 r5 x2 → (∀ σ12, σ12 = sI_ σ11 5 4 r5 x3 → (∀ σ13, σ13 = sI_ σ12 5 5 r5 (0 : Int32) → (∀ σ14, σ14 = sI_ σ13 5 8 r5 (0 : Int32) → post (0 : Int32) σ14))))) ∧
    (r9 = 0 →
     post (-2 : Int32) σ))))))))))))) ∧
 (¬ (fI_ σ 1 2 (fR_ σ 0 0 x0)) = 0 →
  post (-4 : Int32) σ))))
set_option maxHeartbeats 4000000 in
theorem sX1_replace {G : GG_} {p : Program} {l : Launch} {e : Env} {R : Room} {s : State} {m : MethodId} {args : Array Value} {below : List Frame} {meth : Method} {c : Code} (Y : MX_ G p R s m args meth c cX1_replace 5 RX1 (some Jvm.ClassFile.FieldType.int) 5 106 0 0 "replace") {post : Int32 → Hp → Prop} {x0 : Nat} {x1 : Int32} {x2 : Int32} {x3 : Int32} {σ : Hp} (hf : wX1_replace x0 x1 x2 x3 σ post) : WG_ G p l e R s m args below meth c (MQ below (QI_ G post) args s 0 0 (FR_ G)) BN_ 5 0 [(0, rv_ x0), (1, .int x1), (2, .int x2), (3, .int x3)] [] σ := by
  have ⟨X, hlk, hr, hRf, hRl, hRc, hnm⟩ := Y
  have ⟨⟨hx, hb, _, hown, hts⟩, _, _⟩ := X
  intro H locs cells slots ls hP hL hB hl
  obtain ⟨rfl, rfl⟩ := hB
  unfold wX1_replace at hf
  refine p_aload_n hx hb dX1_replace_0 rfl (lv_at hl 0 rfl) ?_
  obtain ⟨ht1, hf⟩ := hf
  refine p_gR X cf0_ (k := 0) (by decide) rfl hP ht1 q626 (fun _ h => h) dX1_replace_1 ?_
  obtain ⟨ht2, hf⟩ := hf
  refine p_gI X cf1_ (k := 2) (by decide) rfl hP ht2 q133 (fun _ h => h) dX1_replace_4 ?_
  refine lv_if_eq (tgt := 13) hx hb dX1_replace_7 (by decide) (fun c3 => ?_) (fun c3 => ?_)
  · have hf := hf.1 c3
    refine p_aload_n hx hb dX1_replace_13 rfl (lv_at hl 0 rfl) ?_
    refine p_gR X cf0_ (k := 4) (by decide) rfl hP ht1 q630 (fun _ h => h) dX1_replace_14 ?_
    refine lv_iload_n hx hb dX1_replace_17 rfl (lv_at hl 1 rfl) ?_
    obtain ⟨ht4, hf⟩ := hf
    refine p_callr hL (p_runV X cf4_ hP ht4 (metX5_find l G _ _ _ _ X.2.2 hf) (cwV 1 hts (lw_V q715 q716 q717 q92 q718) rfl rfl rfl (by decide +kernel) ⟨Nat.le_trans (Nat.le_of_ble_eq_true rfl) hRf, Nat.le_trans (Nat.le_of_ble_eq_true rfl) hRl⟩) rfl hl.1 rfl (by decide) dX1_replace_18 ⟨Nat.zero_le _, Nat.zero_le _⟩) (fun r5 σ₁ H locs hf hP hL => ?_)
    obtain ⟨e₁, hf⟩ := hf
    rw [e₁] at hP
    have hl := lv_sub hl [2, 3] rfl
    refine p_astore (i := 4) hx hb dX1_replace_21 hl (by decide) ⟨⟨ne_ rfl, Or.inl (ne_ rfl)⟩, ⟨⟨ne_ rfl, Or.inr rfl⟩, trivial⟩⟩ (fun ls hl => ?_)
    refine p_aload hx hb dX1_replace_23 (lv_at hl 0 rfl) ?_
    refine p_ifnull (tgt := 44) hx hb dX1_replace_25 (by decide) (fun c6 => ?_) (fun c6 => ?_)
    · have hf := hf.1 c6
      refine lv_bipush (v := (-2)) hx hb dX1_replace_44 (by decide) ?_
      exact p_iret X hlk hP hL (Nat.le_refl _) (Nat.le_refl _) hr dX1_replace_46 hf
    · have hf := hf.2 c6
      refine p_aload hx hb dX1_replace_28 (lv_at hl 0 rfl) ?_
      obtain ⟨ht7, hf⟩ := hf
      refine p_gI X cf5_ (k := 1) (by decide) rfl hP ht7 q441 (fun _ h => h) dX1_replace_30 ?_
      refine lv_if_ne (tgt := 44) hx hb dX1_replace_33 (by decide) (fun c8 => ?_) (fun c8 => ?_)
      · have hf := hf.1 c8
        refine lv_bipush (v := (-2)) hx hb dX1_replace_44 (by decide) ?_
        exact p_iret X hlk hP hL (Nat.le_refl _) (Nat.le_refl _) hr dX1_replace_46 hf
      · have hf := hf.2 c8
        refine lv_iload_n hx hb dX1_replace_36 rfl (lv_at hl 1 rfl) ?_
        refine lv_iload_n hx hb dX1_replace_37 rfl (lv_at hl 2 rfl) ?_
        refine p_calli hL (p_runS X hP (metX1_isContent l G _ _ _ _ X.2.2 hf) (va_cwS 2 hts (lw_S q761 q762 q85 q763) rfl rfl rfl (by decide +kernel) ⟨Nat.le_trans (Nat.le_of_ble_eq_true rfl) hRf, Nat.le_trans (Nat.le_of_ble_eq_true rfl) hRl⟩) rfl hl.1 rfl (by decide) dX1_replace_38 ⟨Nat.zero_le _, Nat.zero_le _⟩) (fun r9 σ₁ H locs hf hP hL => ?_)
        obtain ⟨e₁, hf⟩ := hf
        rw [e₁] at hP
        refine lv_if_ne (tgt := 47) hx hb dX1_replace_41 (by decide) (fun c10 => ?_) (fun c10 => ?_)
        · have hf := hf.1 c10
          refine p_aload hx hb dX1_replace_47 (lv_at hl 0 rfl) ?_
          refine lv_iload_n hx hb dX1_replace_49 rfl (lv_at hl 1 rfl) ?_
          refine p_pI X cf5_ (k := 3) (by decide) rfl hP hL ht7 (p_ow hP ht7 rfl) q449 (fun _ h => h) (Or.inl rfl) rfl rfl dX1_replace_50 (fun H locs hP hL => ?_)
          refine p_nmP hP (fun σ11 hσ11 hP => ?_)
          have hf := hf σ11 hσ11
          have ht1 : tg_ σ11 x0 = 1 := by rw [hσ11]; exact ht1
          have ht7 : tg_ σ11 r5 = 6 := by rw [hσ11]; exact ht7
          refine p_aload hx hb dX1_replace_53 (lv_at hl 0 rfl) ?_
          refine lv_iload_n hx hb dX1_replace_55 rfl (lv_at hl 2 rfl) ?_
          refine p_pI X cf5_ (k := 4) (by decide) rfl hP hL ht7 (p_ow hP ht7 rfl) q451 (fun _ h => h) (Or.inl rfl) rfl rfl dX1_replace_56 (fun H locs hP hL => ?_)
          refine p_nmP hP (fun σ12 hσ12 hP => ?_)
          have hf := hf σ12 hσ12
          have ht1 : tg_ σ12 x0 = 1 := by rw [hσ12]; exact ht1
          have ht7 : tg_ σ12 r5 = 6 := by rw [hσ12]; exact ht7
          refine p_aload hx hb dX1_replace_59 (lv_at hl 0 rfl) ?_
          refine lv_iconst (v := 0) hx hb dX1_replace_61 (by decide) ?_
          refine p_pI X cf5_ (k := 5) (by decide) rfl hP hL ht7 (p_ow hP ht7 rfl) q453 (fun _ h => h) (Or.inl rfl) rfl rfl dX1_replace_62 (fun H locs hP hL => ?_)
          refine p_nmP hP (fun σ13 hσ13 hP => ?_)
          have hf := hf σ13 hσ13
          have ht1 : tg_ σ13 x0 = 1 := by rw [hσ13]; exact ht1
          have ht7 : tg_ σ13 r5 = 6 := by rw [hσ13]; exact ht7
          refine p_aload hx hb dX1_replace_65 (lv_at hl 0 rfl) ?_
          refine lv_iconst (v := 0) hx hb dX1_replace_67 (by decide) ?_
          refine p_pI X cf5_ (k := 8) (by decide) rfl hP hL ht7 (p_ow hP ht7 rfl) q462 (fun _ h => h) (Or.inl rfl) rfl (by decide) dX1_replace_68 (fun H locs hP hL => ?_)
          refine p_nmP hP (fun σ14 hσ14 hP => ?_)
          have hf := hf σ14 hσ14
          have ht1 : tg_ σ14 x0 = 1 := by rw [hσ14]; exact ht1
          have ht7 : tg_ σ14 r5 = 6 := by rw [hσ14]; exact ht7
          refine lv_iconst (v := 0) hx hb dX1_replace_71 (by decide) ?_
          exact p_iret X hlk hP hL (Nat.le_refl _) (Nat.le_refl _) hr dX1_replace_72 hf
        · have hf := hf.2 c10
          refine lv_bipush (v := (-2)) hx hb dX1_replace_44 (by decide) ?_
          exact p_iret X hlk hP hL (Nat.le_refl _) (Nat.le_refl _) hr dX1_replace_46 hf
  · have hf := hf.2 c3
    refine lv_bipush (v := (-4)) hx hb dX1_replace_10 (by decide) ?_
    exact p_iret X hlk hP hL (Nat.le_refl _) (Nat.le_refl _) hr dX1_replace_12 hf
set_option maxHeartbeats 4000000 in
theorem metX1_replace (l : Launch) (G : GG_) (x0 : Nat) (x1 : Int32) (x2 : Int32) (x3 : Int32) (σ : Hp) (post : Int32 → Hp → Prop) (hG : GOK_ G) (hf : wX1_replace x0 x1 x2 x3 σ post) : Met l yX1_replace (ws_ yX1_replace cX1_replace 5 (some Jvm.ClassFile.FieldType.int)) { frames := 5, cells := 0, slots := 0, locals := 106 } (PC_ G [rv_ x0, .int x1, .int x2, .int x3] σ) (QI_ G post) 0 0 (FR_ G) := by
  refine Met.ofW (cc := cX1_replace) (maxL := 5) (ret := (some Jvm.ClassFile.FieldType.int)) (by decide) rfl ?_
  intro p e s m args below meth c s₁ B hml hv
  obtain ⟨rfl, hP, hW⟩ := hv
  have hts := atoms_spec (ws := ws_ yX1_replace cX1_replace 5 (some Jvm.ClassFile.FieldType.int)) B.pre
  have hts : ∀ w ∈ lw_all, w.before _ s = true := fun w h => hts w (List.mem_cons_of_mem _ h)
  rw [lg_entry_eq]
  have hl := en_entry [rv_ x0, .int x1, .int x2, .int x3] [1, 1, 1, 1] (n := 5) (ca_r (ca_i (ca_i (ca_i ca_n)))) (by decide)
  exact sX1_replace ⟨⟨⟨B.exec, B.bytes, hml, findClass_of_methodNamed B.named, hts⟩, hW, hG⟩, B.notSynchronized, B.returns, Nat.le_refl _, Nat.le_refl _, ⟨rfl, rfl⟩, (name_of_methodNamed B.named B.method).1⟩ hf _ _ _ _ _ hP (LO_nil G) ⟨rfl, rfl⟩ hl
abbrev cX5_isEmpty : ByteArray := prog_9_method_6_code
def yX5_isEmpty : MethodName := ⟨RX5, "isEmpty", "(I)Z"⟩
theorem dX5_isEmpty_0 : decode cX5_isEmpty 0 = .ok (.iconst 1, 1) := by decide +kernel
theorem dX5_isEmpty_1 : decode cX5_isEmpty 1 = .ok (.istore_n 2, 1) := by decide +kernel
theorem dX5_isEmpty_2 : decode cX5_isEmpty 2 = .ok (.iconst 0, 1) := by decide +kernel
theorem dX5_isEmpty_3 : decode cX5_isEmpty 3 = .ok (.istore_n 3, 1) := by decide +kernel
theorem dX5_isEmpty_4 : decode cX5_isEmpty 4 = .ok (.iload_n 3, 1) := by decide +kernel
theorem dX5_isEmpty_5 : decode cX5_isEmpty 5 = .ok (.aload_n 0, 1) := by decide +kernel
theorem dX5_isEmpty_6 : decode cX5_isEmpty 6 = .ok (.getfield 12, 3) := by decide +kernel
theorem dX5_isEmpty_9 : decode cX5_isEmpty 9 = .ok (.invokevirtual 39, 3) := by decide +kernel
theorem dX5_isEmpty_12 : decode cX5_isEmpty 12 = .ok (.if_icmp .ge 37, 3) := by decide +kernel
theorem dX5_isEmpty_15 : decode cX5_isEmpty 15 = .ok (.iload_n 2, 1) := by decide +kernel
theorem dX5_isEmpty_16 : decode cX5_isEmpty 16 = .ok (.ifCond .eq 25, 3) := by decide +kernel
theorem dX5_isEmpty_19 : decode cX5_isEmpty 19 = .ok (.aload_n 0, 1) := by decide +kernel
theorem dX5_isEmpty_20 : decode cX5_isEmpty 20 = .ok (.getfield 12, 3) := by decide +kernel
theorem dX5_isEmpty_23 : decode cX5_isEmpty 23 = .ok (.iload_n 3, 1) := by decide +kernel
theorem dX5_isEmpty_24 : decode cX5_isEmpty 24 = .ok (.invokevirtual 43, 3) := by decide +kernel
theorem dX5_isEmpty_27 : decode cX5_isEmpty 27 = .ok (.checkcast 18, 3) := by decide +kernel
theorem dX5_isEmpty_30 : decode cX5_isEmpty 30 = .ok (.getfield 51, 3) := by decide +kernel
theorem dX5_isEmpty_33 : decode cX5_isEmpty 33 = .ok (.iload_n 1, 1) := by decide +kernel
theorem dX5_isEmpty_34 : decode cX5_isEmpty 34 = .ok (.if_icmp .eq 7, 3) := by decide +kernel
theorem dX5_isEmpty_37 : decode cX5_isEmpty 37 = .ok (.iconst 1, 1) := by decide +kernel
theorem dX5_isEmpty_38 : decode cX5_isEmpty 38 = .ok (.goto 4, 3) := by decide +kernel
theorem dX5_isEmpty_41 : decode cX5_isEmpty 41 = .ok (.iconst 0, 1) := by decide +kernel
theorem dX5_isEmpty_42 : decode cX5_isEmpty 42 = .ok (.istore_n 2, 1) := by decide +kernel
theorem dX5_isEmpty_43 : decode cX5_isEmpty 43 = .ok (.iinc 3 1, 3) := by decide +kernel
theorem dX5_isEmpty_46 : decode cX5_isEmpty 46 = .ok (.goto (-42), 3) := by decide +kernel
theorem dX5_isEmpty_49 : decode cX5_isEmpty 49 = .ok (.iload_n 2, 1) := by decide +kernel
theorem dX5_isEmpty_50 : decode cX5_isEmpty 50 = .ok (.ireturn, 1) := by decide +kernel
/-- WriteOnceDisc$Tree.isEmpty(I)Z -/
def wX5_isEmpty_L42 (post : Int32 → Prop) (rc4 : Int32 → Int32 → Prop) (x0 : Nat) (x1 : Int32) (x3 : Int32) (s0 : Int32) (σ : Hp) : Prop :=
(∀ y1 : Int32, y1 = x3 + 1 → rc4 s0 y1)
def wX5_isEmpty_L41 (post : Int32 → Prop) (rc4 : Int32 → Int32 → Prop) (x0 : Nat) (x1 : Int32) (x3 : Int32) (σ : Hp) : Prop :=
wX5_isEmpty_L42 post rc4 x0 x1 x3 (0 : Int32) σ
def wX5_isEmpty_B4 (post : Int32 → Prop) (rc4 : Int32 → Int32 → Prop) (x0 : Nat) (x1 : Int32) (x2 : Int32) (x3 : Int32) (σ : Hp) : Prop :=
(tg_ σ x0 = 5 ∧ (tg_ σ (fR_ σ 4 0 x0) = 11 ∧ (wJ2_size (fR_ σ 4 0 x0)  σ (fun r4 => ((r4 ≤ x3 →
  (nr_ .boolean x2 ∧ post x2)) ∧
 (¬ r4 ≤ x3 →
  ((x2 = 0 →
   wX5_isEmpty_L41 post rc4 x0 x1 x3 σ) ∧
  (¬ x2 = 0 →
   (wJ2_get (fR_ σ 4 0 x0) x3 σ (fun r8 => ((r8 = 0 ∨ tg_ σ r8 = 6) ∧ (tg_ σ r8 = 6 ∧ (((fI_ σ 5 2 r8) = x1 →
    wX5_isEmpty_L41 post rc4 x0 x1 x3 σ) ∧
   (¬ (fI_ σ 5 2 r8) = x1 →
    wX5_isEmpty_L42 post rc4 x0 x1 x3 (1 : Int32) σ))))))))))))))
def wX5_isEmpty_L4 (post : Int32 → Prop) (x0 : Nat) (x1 : Int32) (x2 : Int32) (x3 : Int32) (σ : Hp) : Prop :=
 ∃ (I : Int32 → Int32 → Prop) (μ : Int32 → Int32 → Nat), I x2 x3 ∧ ∀ (x2 : Int32) (x3 : Int32), I x2 x3 → wX5_isEmpty_B4 post (fun x2' x3' => I x2' x3' ∧ μ x2' x3' < μ x2 x3) x0 x1 x2 x3 σ
def wX5_isEmpty (x0 : Nat) (x1 : Int32) (σ : Hp) (post : Int32 → Prop) : Prop :=
wX5_isEmpty_L4 post x0 x1 (1 : Int32) (0 : Int32) σ
set_option maxHeartbeats 4000000 in
theorem sX5_isEmpty_L42 {G : GG_} {p : Program} {l : Launch} {e : Env} {R : Room} {s : State} {m : MethodId} {args : Array Value} {below : List Frame} {meth : Method} {c : Code} (Y : MX_ G p R s m args meth c cX5_isEmpty 4 RX5 (some Jvm.ClassFile.FieldType.boolean) 4 84 0 0 "isEmpty") {post : Int32 → Prop} {rc4 : Int32 → Int32 → Prop} {x0 : Nat} {x1 : Int32} {x3 : Int32} {s0 : Int32} {σ : Hp} (hrc4 : ∀ (x2 : Int32) (x3 : Int32), rc4 x2 x3 → WG_ G p l e R s m args below meth c (MQ below (QI_ G (fun r τ => τ = σ ∧ post r)) args s 0 0 (FR_ G)) BN_ 4 4 [(0, rv_ x0), (1, .int x1), (2, .int x2), (3, .int x3)] [] σ) (hf : wX5_isEmpty_L42 post rc4 x0 x1 x3 s0 σ) : WG_ G p l e R s m args below meth c (MQ below (QI_ G (fun r τ => τ = σ ∧ post r)) args s 0 0 (FR_ G)) BN_ 4 42 [(0, rv_ x0), (1, .int x1), (3, .int x3)] [.int s0] σ := by
  have ⟨X, hlk, hr, hRf, hRl, hRc, hnm⟩ := Y
  have ⟨⟨hx, hb, _, hown, hts⟩, _, _⟩ := X
  intro H locs cells slots ls hP hL hB hl
  obtain ⟨rfl, rfl⟩ := hB
  unfold wX5_isEmpty_L42 at hf
  refine p_istore_n (i := 2) hx hb dX5_isEmpty_42 rfl hl (by decide) ⟨⟨ne_ rfl, Or.inl (ne_ rfl)⟩, ⟨⟨ne_ rfl, Or.inr rfl⟩, ⟨⟨ne_ rfl, Or.inl (ne_ rfl)⟩, trivial⟩⟩⟩ (fun ls hl => ?_)
  have hl := lv_sub hl [3, 0, 1, 2] rfl
  refine p_iincc (i := 3) (k := 1) hx hb (by decide) dX5_isEmpty_43 hl (by decide) ⟨⟨ne_ rfl, Or.inr rfl⟩, ⟨⟨ne_ rfl, Or.inl (ne_ rfl)⟩, ⟨⟨ne_ rfl, Or.inl (ne_ rfl)⟩, trivial⟩⟩⟩ (fun y1 hy1 ls hl => ?_)
  have hf := hf y1 hy1
  refine lv_goto (tgt := 4) hx hb dX5_isEmpty_46 (by decide) ?_
  exact hrc4 _ _ hf _ _ _ _ _ hP hL ⟨rfl, rfl⟩ (lv_sub hl [2, 3, 1, 0] rfl)
set_option maxHeartbeats 4000000 in
theorem sX5_isEmpty_L41 {G : GG_} {p : Program} {l : Launch} {e : Env} {R : Room} {s : State} {m : MethodId} {args : Array Value} {below : List Frame} {meth : Method} {c : Code} (Y : MX_ G p R s m args meth c cX5_isEmpty 4 RX5 (some Jvm.ClassFile.FieldType.boolean) 4 84 0 0 "isEmpty") {post : Int32 → Prop} {rc4 : Int32 → Int32 → Prop} {x0 : Nat} {x1 : Int32} {x3 : Int32} {σ : Hp} (hrc4 : ∀ (x2 : Int32) (x3 : Int32), rc4 x2 x3 → WG_ G p l e R s m args below meth c (MQ below (QI_ G (fun r τ => τ = σ ∧ post r)) args s 0 0 (FR_ G)) BN_ 4 4 [(0, rv_ x0), (1, .int x1), (2, .int x2), (3, .int x3)] [] σ) (hf : wX5_isEmpty_L41 post rc4 x0 x1 x3 σ) : WG_ G p l e R s m args below meth c (MQ below (QI_ G (fun r τ => τ = σ ∧ post r)) args s 0 0 (FR_ G)) BN_ 4 41 [(0, rv_ x0), (1, .int x1), (3, .int x3)] [] σ := by
  have ⟨X, hlk, hr, hRf, hRl, hRc, hnm⟩ := Y
  have ⟨⟨hx, hb, _, hown, hts⟩, _, _⟩ := X
  intro H locs cells slots ls hP hL hB hl
  obtain ⟨rfl, rfl⟩ := hB
  unfold wX5_isEmpty_L41 at hf
  refine lv_iconst (v := 0) hx hb dX5_isEmpty_41 (by decide) ?_
  exact sX5_isEmpty_L42 Y hrc4 hf _ _ _ _ _ hP hL ⟨rfl, rfl⟩ (lv_sub hl [0, 1, 2] rfl)
set_option maxHeartbeats 4000000 in
theorem sX5_isEmpty_B4 {G : GG_} {p : Program} {l : Launch} {e : Env} {R : Room} {s : State} {m : MethodId} {args : Array Value} {below : List Frame} {meth : Method} {c : Code} (Y : MX_ G p R s m args meth c cX5_isEmpty 4 RX5 (some Jvm.ClassFile.FieldType.boolean) 4 84 0 0 "isEmpty") {post : Int32 → Prop} {rc4 : Int32 → Int32 → Prop} {x0 : Nat} {x1 : Int32} {x2 : Int32} {x3 : Int32} {σ : Hp} (hrc4 : ∀ (x2 : Int32) (x3 : Int32), rc4 x2 x3 → WG_ G p l e R s m args below meth c (MQ below (QI_ G (fun r τ => τ = σ ∧ post r)) args s 0 0 (FR_ G)) BN_ 4 4 [(0, rv_ x0), (1, .int x1), (2, .int x2), (3, .int x3)] [] σ) (hf : wX5_isEmpty_B4 post rc4 x0 x1 x2 x3 σ) : WG_ G p l e R s m args below meth c (MQ below (QI_ G (fun r τ => τ = σ ∧ post r)) args s 0 0 (FR_ G)) BN_ 4 4 [(0, rv_ x0), (1, .int x1), (2, .int x2), (3, .int x3)] [] σ := by
  have ⟨X, hlk, hr, hRf, hRl, hRc, hnm⟩ := Y
  have ⟨⟨hx, hb, _, hown, hts⟩, _, _⟩ := X
  intro H locs cells slots ls hP hL hB hl
  obtain ⟨rfl, rfl⟩ := hB
  unfold wX5_isEmpty_B4 at hf
  refine lv_iload_n hx hb dX5_isEmpty_4 rfl (lv_at hl 3 rfl) ?_
  refine p_aload_n hx hb dX5_isEmpty_5 rfl (lv_at hl 0 rfl) ?_
  obtain ⟨ht2, hf⟩ := hf
  refine p_gR X cf4_ (k := 0) (by decide) rfl hP ht2 q541 (fun _ h => h) dX5_isEmpty_6 ?_
  obtain ⟨ht3, hf⟩ := hf
  refine p_calli hL (p_runV X cf10_ hP ht3 (metJ2_size l G _ _ _ X.2.2 hf) (cwV 0 hts (lw_V q719 q720 q721 q90 q722) rfl rfl rfl (by decide +kernel) ⟨Nat.le_trans (Nat.le_of_ble_eq_true rfl) hRf, Nat.le_trans (Nat.le_of_ble_eq_true rfl) hRl⟩) rfl hl.1 rfl (by rw [(ca_i ca_n)]; decide) dX5_isEmpty_9 ⟨Nat.zero_le _, Nat.zero_le _⟩) (fun r4 σ₁ H locs hf hP hL => ?_)
  obtain ⟨e₁, hf⟩ := hf
  rw [e₁] at hP
  refine lv_icmp_ge (tgt := 49) hx hb dX5_isEmpty_12 (by decide) (fun c5 => ?_) (fun c5 => ?_)
  · have hf := hf.1 c5
    refine lv_iload_n hx hb dX5_isEmpty_49 rfl (lv_at hl 2 rfl) ?_
    obtain ⟨hn6, hf⟩ := hf
    exact p_zret X hlk hP hL (Nat.le_refl _) (Nat.le_refl _) hr hn6 dX5_isEmpty_50 ⟨rfl, hf⟩
  · have hf := hf.2 c5
    refine lv_iload_n hx hb dX5_isEmpty_15 rfl (lv_at hl 2 rfl) ?_
    refine lv_if_eq (tgt := 41) hx hb dX5_isEmpty_16 (by decide) (fun c7 => ?_) (fun c7 => ?_)
    · have hf := hf.1 c7
      exact sX5_isEmpty_L41 Y hrc4 hf _ _ _ _ _ hP hL ⟨rfl, rfl⟩ (lv_sub hl [0, 1, 3] rfl)
    · have hf := hf.2 c7
      refine p_aload_n hx hb dX5_isEmpty_19 rfl (lv_at hl 0 rfl) ?_
      refine p_gR X cf4_ (k := 0) (by decide) rfl hP ht2 q541 (fun _ h => h) dX5_isEmpty_20 ?_
      refine lv_iload_n hx hb dX5_isEmpty_23 rfl (lv_at hl 3 rfl) ?_
      refine p_callr hL (p_runV X cf10_ hP ht3 (metJ2_get l G _ _ _ _ X.2.2 hf) (cwV 1 hts (lw_V q723 q724 q725 q90 q726) rfl rfl rfl (by decide +kernel) ⟨Nat.le_trans (Nat.le_of_ble_eq_true rfl) hRf, Nat.le_trans (Nat.le_of_ble_eq_true rfl) hRl⟩) rfl hl.1 rfl (by decide) dX5_isEmpty_24 ⟨Nat.zero_le _, Nat.zero_le _⟩) (fun r8 σ₁ H locs hf hP hL => ?_)
      obtain ⟨e₁, hf⟩ := hf
      rw [e₁] at hP
      obtain ⟨hc9, hf⟩ := hf
      refine p_cast X cf5_ hP hc9 q212 dX5_isEmpty_27 ?_
      obtain ⟨ht10, hf⟩ := hf
      refine p_gI X cf5_ (k := 2) (by decide) rfl hP ht10 q444 (fun _ h => h) dX5_isEmpty_30 ?_
      refine lv_iload_n hx hb dX5_isEmpty_33 rfl (lv_at hl 1 rfl) ?_
      refine lv_icmp_eq (tgt := 41) hx hb dX5_isEmpty_34 (by decide) (fun c11 => ?_) (fun c11 => ?_)
      · have hf := hf.1 c11
        exact sX5_isEmpty_L41 Y hrc4 hf _ _ _ _ _ hP hL ⟨rfl, rfl⟩ (lv_sub hl [0, 1, 3] rfl)
      · have hf := hf.2 c11
        refine lv_iconst (v := 1) hx hb dX5_isEmpty_37 (by decide) ?_
        refine lv_goto (tgt := 42) hx hb dX5_isEmpty_38 (by decide) ?_
        exact sX5_isEmpty_L42 Y hrc4 hf _ _ _ _ _ hP hL ⟨rfl, rfl⟩ (lv_sub hl [0, 1, 3] rfl)
set_option maxHeartbeats 4000000 in
theorem sX5_isEmpty_L4 {G : GG_} {p : Program} {l : Launch} {e : Env} {R : Room} {s : State} {m : MethodId} {args : Array Value} {below : List Frame} {meth : Method} {c : Code} (Y : MX_ G p R s m args meth c cX5_isEmpty 4 RX5 (some Jvm.ClassFile.FieldType.boolean) 4 84 0 0 "isEmpty") {post : Int32 → Prop} {x0 : Nat} {x1 : Int32} {x2 : Int32} {x3 : Int32} {σ : Hp} (hf : wX5_isEmpty_L4 post x0 x1 x2 x3 σ) : WG_ G p l e R s m args below meth c (MQ below (QI_ G (fun r τ => τ = σ ∧ post r)) args s 0 0 (FR_ G)) BN_ 4 4 [(0, rv_ x0), (1, .int x1), (2, .int x2), (3, .int x3)] [] σ := by
  unfold wX5_isEmpty_L4 at hf
  obtain ⟨I, μ, h0, hI⟩ := hf
  have key : ∀ (n : Nat) (x2 : Int32) (x3 : Int32), I x2 x3 → μ x2 x3 < n → WG_ G p l e R s m args below meth c (MQ below (QI_ G (fun r τ => τ = σ ∧ post r)) args s 0 0 (FR_ G)) BN_ 4 4 [(0, rv_ x0), (1, .int x1), (2, .int x2), (3, .int x3)] [] σ := by
    intro n
    induction n with
    | zero => intro x2 x3 _ h; exact absurd h (Nat.not_lt_zero _)
    | succ n ih => intro x2 x3 hi hn; exact sX5_isEmpty_B4 Y (fun x2' x3' h => ih x2' x3' h.1 (Nat.lt_of_lt_of_le h.2 (Nat.le_of_lt_succ hn))) (hI x2 x3 hi)
  exact key _ _ _ h0 (Nat.lt_succ_self _)
set_option maxHeartbeats 4000000 in
theorem sX5_isEmpty {G : GG_} {p : Program} {l : Launch} {e : Env} {R : Room} {s : State} {m : MethodId} {args : Array Value} {below : List Frame} {meth : Method} {c : Code} (Y : MX_ G p R s m args meth c cX5_isEmpty 4 RX5 (some Jvm.ClassFile.FieldType.boolean) 4 84 0 0 "isEmpty") {post : Int32 → Prop} {x0 : Nat} {x1 : Int32} {σ : Hp} (hf : wX5_isEmpty x0 x1 σ post) : WG_ G p l e R s m args below meth c (MQ below (QI_ G (fun r τ => τ = σ ∧ post r)) args s 0 0 (FR_ G)) BN_ 4 0 [(0, rv_ x0), (1, .int x1)] [] σ := by
  have ⟨X, hlk, hr, hRf, hRl, hRc, hnm⟩ := Y
  have ⟨⟨hx, hb, _, hown, hts⟩, _, _⟩ := X
  intro H locs cells slots ls hP hL hB hl
  obtain ⟨rfl, rfl⟩ := hB
  unfold wX5_isEmpty at hf
  refine lv_iconst (v := 1) hx hb dX5_isEmpty_0 (by decide) ?_
  refine p_istore_n (i := 2) hx hb dX5_isEmpty_1 rfl hl (by decide) ⟨⟨ne_ rfl, Or.inl (ne_ rfl)⟩, ⟨⟨ne_ rfl, Or.inr rfl⟩, trivial⟩⟩ (fun ls hl => ?_)
  refine lv_iconst (v := 0) hx hb dX5_isEmpty_2 (by decide) ?_
  refine p_istore_n (i := 3) hx hb dX5_isEmpty_3 rfl hl (by decide) ⟨⟨ne_ rfl, Or.inr rfl⟩, ⟨⟨ne_ rfl, Or.inl (ne_ rfl)⟩, ⟨⟨ne_ rfl, Or.inl (ne_ rfl)⟩, trivial⟩⟩⟩ (fun ls hl => ?_)
  exact sX5_isEmpty_L4 Y hf _ _ _ _ _ hP hL ⟨rfl, rfl⟩ (lv_sub hl [2, 3, 1, 0] rfl)
set_option maxHeartbeats 4000000 in
theorem metX5_isEmpty (l : Launch) (G : GG_) (x0 : Nat) (x1 : Int32) (σ : Hp) (post : Int32 → Prop) (hG : GOK_ G) (hf : wX5_isEmpty x0 x1 σ post) : Met l yX5_isEmpty (ws_ yX5_isEmpty cX5_isEmpty 4 (some Jvm.ClassFile.FieldType.boolean)) { frames := 4, cells := 0, slots := 0, locals := 84 } (PC_ G [rv_ x0, .int x1] σ) (QI_ G (fun r τ => τ = σ ∧ post r)) 0 0 (FR_ G) := by
  refine Met.ofW (cc := cX5_isEmpty) (maxL := 4) (ret := (some Jvm.ClassFile.FieldType.boolean)) (by decide) rfl ?_
  intro p e s m args below meth c s₁ B hml hv
  obtain ⟨rfl, hP, hW⟩ := hv
  have hts := atoms_spec (ws := ws_ yX5_isEmpty cX5_isEmpty 4 (some Jvm.ClassFile.FieldType.boolean)) B.pre
  have hts : ∀ w ∈ lw_all, w.before _ s = true := fun w h => hts w (List.mem_cons_of_mem _ h)
  rw [lg_entry_eq]
  have hl := en_entry [rv_ x0, .int x1] [1, 1] (n := 4) (ca_r (ca_i ca_n)) (by decide)
  exact sX5_isEmpty ⟨⟨⟨B.exec, B.bytes, hml, findClass_of_methodNamed B.named, hts⟩, hW, hG⟩, B.notSynchronized, B.returns, Nat.le_refl _, Nat.le_refl _, ⟨rfl, rfl⟩, (name_of_methodNamed B.named B.method).1⟩ hf _ _ _ _ _ hP (LO_nil G) ⟨rfl, rfl⟩ hl
abbrev cX1_remove : ByteArray := prog_1_method_14_code
def yX1_remove : MethodName := ⟨RX1, "remove", "(I)I"⟩
theorem dX1_remove_0 : decode cX1_remove 0 = .ok (.aload_n 0, 1) := by decide +kernel
theorem dX1_remove_1 : decode cX1_remove 1 = .ok (.getfield 39, 3) := by decide +kernel
theorem dX1_remove_4 : decode cX1_remove 4 = .ok (.getfield 115, 3) := by decide +kernel
theorem dX1_remove_7 : decode cX1_remove 7 = .ok (.ifCond .eq 6, 3) := by decide +kernel
theorem dX1_remove_10 : decode cX1_remove 10 = .ok (.bipush (-4), 2) := by decide +kernel
theorem dX1_remove_12 : decode cX1_remove 12 = .ok (.ireturn, 1) := by decide +kernel
theorem dX1_remove_13 : decode cX1_remove 13 = .ok (.aload_n 0, 1) := by decide +kernel
theorem dX1_remove_14 : decode cX1_remove 14 = .ok (.getfield 55, 3) := by decide +kernel
theorem dX1_remove_17 : decode cX1_remove 17 = .ok (.iload_n 1, 1) := by decide +kernel
theorem dX1_remove_18 : decode cX1_remove 18 = .ok (.invokevirtual 105, 3) := by decide +kernel
theorem dX1_remove_21 : decode cX1_remove 21 = .ok (.astore_n 2, 1) := by decide +kernel
theorem dX1_remove_22 : decode cX1_remove 22 = .ok (.aload_n 2, 1) := by decide +kernel
theorem dX1_remove_23 : decode cX1_remove 23 = .ok (.ifnull 18, 3) := by decide +kernel
theorem dX1_remove_26 : decode cX1_remove 26 = .ok (.iload_n 1, 1) := by decide +kernel
theorem dX1_remove_27 : decode cX1_remove 27 = .ok (.ifCond .eq 14, 3) := by decide +kernel
theorem dX1_remove_30 : decode cX1_remove 30 = .ok (.aload_n 0, 1) := by decide +kernel
theorem dX1_remove_31 : decode cX1_remove 31 = .ok (.getfield 55, 3) := by decide +kernel
theorem dX1_remove_34 : decode cX1_remove 34 = .ok (.iload_n 1, 1) := by decide +kernel
theorem dX1_remove_35 : decode cX1_remove 35 = .ok (.invokevirtual 174, 3) := by decide +kernel
theorem dX1_remove_38 : decode cX1_remove 38 = .ok (.ifCond .ne 6, 3) := by decide +kernel
theorem dX1_remove_41 : decode cX1_remove 41 = .ok (.bipush (-2), 2) := by decide +kernel
theorem dX1_remove_43 : decode cX1_remove 43 = .ok (.ireturn, 1) := by decide +kernel
theorem dX1_remove_44 : decode cX1_remove 44 = .ok (.aload_n 0, 1) := by decide +kernel
theorem dX1_remove_45 : decode cX1_remove 45 = .ok (.getfield 55, 3) := by decide +kernel
theorem dX1_remove_48 : decode cX1_remove 48 = .ok (.getfield 129, 3) := by decide +kernel
theorem dX1_remove_51 : decode cX1_remove 51 = .ok (.invokevirtual 133, 3) := by decide +kernel
theorem dX1_remove_54 : decode cX1_remove 54 = .ok (.iconst 1, 1) := by decide +kernel
theorem dX1_remove_55 : decode cX1_remove 55 = .ok (.isub, 1) := by decide +kernel
theorem dX1_remove_56 : decode cX1_remove 56 = .ok (.istore_n 3, 1) := by decide +kernel
theorem dX1_remove_57 : decode cX1_remove 57 = .ok (.iload_n 3, 1) := by decide +kernel
theorem dX1_remove_58 : decode cX1_remove 58 = .ok (.ifCond .le 42, 3) := by decide +kernel
theorem dX1_remove_61 : decode cX1_remove 61 = .ok (.aload_n 0, 1) := by decide +kernel
theorem dX1_remove_62 : decode cX1_remove 62 = .ok (.getfield 55, 3) := by decide +kernel
theorem dX1_remove_65 : decode cX1_remove 65 = .ok (.getfield 129, 3) := by decide +kernel
theorem dX1_remove_68 : decode cX1_remove 68 = .ok (.iload_n 3, 1) := by decide +kernel
theorem dX1_remove_69 : decode cX1_remove 69 = .ok (.invokevirtual 177, 3) := by decide +kernel
theorem dX1_remove_72 : decode cX1_remove 72 = .ok (.checkcast 110, 3) := by decide +kernel
theorem dX1_remove_75 : decode cX1_remove 75 = .ok (.getfield 165, 3) := by decide +kernel
theorem dX1_remove_78 : decode cX1_remove 78 = .ok (.iload_n 1, 1) := by decide +kernel
theorem dX1_remove_79 : decode cX1_remove 79 = .ok (.if_icmp .ne 15, 3) := by decide +kernel
theorem dX1_remove_82 : decode cX1_remove 82 = .ok (.aload_n 0, 1) := by decide +kernel
theorem dX1_remove_83 : decode cX1_remove 83 = .ok (.getfield 55, 3) := by decide +kernel
theorem dX1_remove_86 : decode cX1_remove 86 = .ok (.getfield 129, 3) := by decide +kernel
theorem dX1_remove_89 : decode cX1_remove 89 = .ok (.iload_n 3, 1) := by decide +kernel
theorem dX1_remove_90 : decode cX1_remove 90 = .ok (.invokevirtual 181, 3) := by decide +kernel
theorem dX1_remove_93 : decode cX1_remove 93 = .ok (.pop, 1) := by decide +kernel
theorem dX1_remove_94 : decode cX1_remove 94 = .ok (.iinc 3 (-1), 3) := by decide +kernel
theorem dX1_remove_97 : decode cX1_remove 97 = .ok (.goto (-40), 3) := by decide +kernel
theorem dX1_remove_100 : decode cX1_remove 100 = .ok (.iconst 0, 1) := by decide +kernel
theorem dX1_remove_101 : decode cX1_remove 101 = .ok (.ireturn, 1) := by decide +kernel
/-- WriteOnceDisc.remove(I)I -/
def wX1_remove_L94 (post : Int32 → Hp → Prop) (rc57 : Int32 → Hp → Prop) (x0 : Nat) (x1 : Int32) (x3 : Int32) (σ : Hp) : Prop :=
(∀ y1 : Int32, y1 = x3 + (-1) → rc57 y1 σ)
def wX1_remove_B57 (post : Int32 → Hp → Prop) (rc57 : Int32 → Hp → Prop) (x0 : Nat) (x1 : Int32) (x3 : Int32) (σ : Hp) : Prop :=
((x3 ≤ 0 →
  post (0 : Int32) σ) ∧
 (¬ x3 ≤ 0 →
  (tg_ σ x0 = 1 ∧ (tg_ σ (fR_ σ 0 4 x0) = 5 ∧ (tg_ σ (fR_ σ 4 0 (fR_ σ 0 4 x0)) = 11 ∧ (wJ2_get (fR_ σ 4 0 (fR_ σ 0 4 x0)) x3 σ (fun r6 => ((r6 = 0 ∨ tg_ σ r6 = 6) ∧ (tg_ σ r6 = 6 ∧ ((¬ (fI_ σ 5 0 r6) = x1 →
   wX1_remove_L94 post rc57 x0 x1 x3 σ) ∧
  ((fI_ σ 5 0 r6) = x1 →
   (wJ2_remove (fR_ σ 4 0 (fR_ σ 0 4 x0)) x3 σ (fun r10 σ11 => wX1_remove_L94 post rc57 x0 x1 x3 σ11)))))))))))))
def wX1_remove_L57 (post : Int32 → Hp → Prop) (x0 : Nat) (x1 : Int32) (x3 : Int32) (σ : Hp) : Prop :=
 ∃ (I : Int32 → Hp → Prop) (μ : Int32 → Hp → Nat), I x3 σ ∧ ∀ (x3 : Int32) (σ : Hp), I x3 σ → wX1_remove_B57 post (fun x3' σ' => I x3' σ' ∧ μ x3' σ' < μ x3 σ) x0 x1 x3 σ
def wX1_remove (x0 : Nat) (x1 : Int32) (σ : Hp) (post : Int32 → Hp → Prop) : Prop :=
(tg_ σ x0 = 1 ∧ (tg_ σ (fR_ σ 0 0 x0) = 2 ∧ (((fI_ σ 1 2 (fR_ σ 0 0 x0)) = 0 →
  (tg_ σ (fR_ σ 0 4 x0) = 5 ∧ (wX5_find (fR_ σ 0 4 x0) x1 σ (fun r16 => ((r16 = 0 →
   post (-2 : Int32) σ) ∧
  (¬ r16 = 0 →
   ((x1 = 0 →
    post (-2 : Int32) σ) ∧
   (¬ x1 = 0 →
    (wX5_isEmpty (fR_ σ 0 4 x0) x1 σ (fun r19 => ((¬ r19 = 0 →
     (tg_ σ (fR_ σ 4 0 (fR_ σ 0 4 x0)) = 11 ∧ (wJ2_size (fR_ σ 4 0 (fR_ σ 0 4 x0))  σ (fun r22 => (∀ y23 : Int32, y23 = (r22 - (1 : Int32)) → wX1_remove_L57 post x0 x1 y23 σ))))) ∧
    (r19 = 0 →
     post (-2 : Int32) σ)))))))))))) ∧
 (¬ (fI_ σ 1 2 (fR_ σ 0 0 x0)) = 0 →
  post (-4 : Int32) σ))))
set_option maxHeartbeats 4000000 in
theorem sX1_remove_L94 {G : GG_} {p : Program} {l : Launch} {e : Env} {R : Room} {s : State} {m : MethodId} {args : Array Value} {below : List Frame} {meth : Method} {c : Code} (Y : MX_ G p R s m args meth c cX1_remove 4 RX1 (some Jvm.ClassFile.FieldType.int) 5 107 0 0 "remove") {post : Int32 → Hp → Prop} {rc57 : Int32 → Hp → Prop} {x0 : Nat} {x1 : Int32} {x3 : Int32} {σ : Hp} (hrc57 : ∀ (x3 : Int32) (σ : Hp), rc57 x3 σ → WG_ G p l e R s m args below meth c (MQ below (QI_ G post) args s 0 0 (FR_ G)) BN_ 4 57 [(0, rv_ x0), (1, .int x1), (3, .int x3)] [] σ) (hf : wX1_remove_L94 post rc57 x0 x1 x3 σ) : WG_ G p l e R s m args below meth c (MQ below (QI_ G post) args s 0 0 (FR_ G)) BN_ 4 94 [(0, rv_ x0), (1, .int x1), (3, .int x3)] [] σ := by
  have ⟨X, hlk, hr, hRf, hRl, hRc, hnm⟩ := Y
  have ⟨⟨hx, hb, _, hown, hts⟩, _, _⟩ := X
  intro H locs cells slots ls hP hL hB hl
  obtain ⟨rfl, rfl⟩ := hB
  unfold wX1_remove_L94 at hf
  have hl := lv_sub hl [2, 0, 1] rfl
  refine p_iincc (i := 3) (k := (-1)) hx hb (by decide) dX1_remove_94 hl (by decide) ⟨⟨ne_ rfl, Or.inl (ne_ rfl)⟩, ⟨⟨ne_ rfl, Or.inl (ne_ rfl)⟩, trivial⟩⟩ (fun y1 hy1 ls hl => ?_)
  have hf := hf y1 hy1
  refine lv_goto (tgt := 57) hx hb dX1_remove_97 (by decide) ?_
  exact hrc57 _ _ hf _ _ _ _ _ hP hL ⟨rfl, rfl⟩ (lv_sub hl [1, 2, 0] rfl)
set_option maxHeartbeats 4000000 in
theorem sX1_remove_B57 {G : GG_} {p : Program} {l : Launch} {e : Env} {R : Room} {s : State} {m : MethodId} {args : Array Value} {below : List Frame} {meth : Method} {c : Code} (Y : MX_ G p R s m args meth c cX1_remove 4 RX1 (some Jvm.ClassFile.FieldType.int) 5 107 0 0 "remove") {post : Int32 → Hp → Prop} {rc57 : Int32 → Hp → Prop} {x0 : Nat} {x1 : Int32} {x3 : Int32} {σ : Hp} (hrc57 : ∀ (x3 : Int32) (σ : Hp), rc57 x3 σ → WG_ G p l e R s m args below meth c (MQ below (QI_ G post) args s 0 0 (FR_ G)) BN_ 4 57 [(0, rv_ x0), (1, .int x1), (3, .int x3)] [] σ) (hf : wX1_remove_B57 post rc57 x0 x1 x3 σ) : WG_ G p l e R s m args below meth c (MQ below (QI_ G post) args s 0 0 (FR_ G)) BN_ 4 57 [(0, rv_ x0), (1, .int x1), (3, .int x3)] [] σ := by
  have ⟨X, hlk, hr, hRf, hRl, hRc, hnm⟩ := Y
  have ⟨⟨hx, hb, _, hown, hts⟩, _, _⟩ := X
  intro H locs cells slots ls hP hL hB hl
  obtain ⟨rfl, rfl⟩ := hB
  unfold wX1_remove_B57 at hf
  refine lv_iload_n hx hb dX1_remove_57 rfl (lv_at hl 2 rfl) ?_
  refine lv_if_le (tgt := 100) hx hb dX1_remove_58 (by decide) (fun c2 => ?_) (fun c2 => ?_)
  · have hf := hf.1 c2
    refine lv_iconst (v := 0) hx hb dX1_remove_100 (by decide) ?_
    exact p_iret X hlk hP hL (Nat.le_refl _) (Nat.le_refl _) hr dX1_remove_101 hf
  · have hf := hf.2 c2
    refine p_aload_n hx hb dX1_remove_61 rfl (lv_at hl 0 rfl) ?_
    obtain ⟨ht3, hf⟩ := hf
    refine p_gR X cf0_ (k := 4) (by decide) rfl hP ht3 q630 (fun _ h => h) dX1_remove_62 ?_
    obtain ⟨ht4, hf⟩ := hf
    refine p_gR X cf4_ (k := 0) (by decide) rfl hP ht4 q542 (fun _ h => h) dX1_remove_65 ?_
    refine lv_iload_n hx hb dX1_remove_68 rfl (lv_at hl 2 rfl) ?_
    obtain ⟨ht5, hf⟩ := hf
    refine p_callr hL (p_runV X cf10_ hP ht5 (metJ2_get l G _ _ _ _ X.2.2 hf) (cwV 1 hts (lw_V q776 q724 q725 q90 q726) rfl rfl rfl (by decide +kernel) ⟨Nat.le_trans (Nat.le_of_ble_eq_true rfl) hRf, Nat.le_trans (Nat.le_of_ble_eq_true rfl) hRl⟩) rfl hl.1 rfl (by decide) dX1_remove_69 ⟨Nat.zero_le _, Nat.zero_le _⟩) (fun r6 σ₁ H locs hf hP hL => ?_)
    obtain ⟨e₁, hf⟩ := hf
    rw [e₁] at hP
    obtain ⟨hc7, hf⟩ := hf
    refine p_cast X cf5_ hP hc7 q754 dX1_remove_72 ?_
    obtain ⟨ht8, hf⟩ := hf
    refine p_gI X cf5_ (k := 0) (by decide) rfl hP ht8 q438 (fun _ h => h) dX1_remove_75 ?_
    refine lv_iload_n hx hb dX1_remove_78 rfl (lv_at hl 1 rfl) ?_
    refine lv_icmp_ne (tgt := 94) hx hb dX1_remove_79 (by decide) (fun c9 => ?_) (fun c9 => ?_)
    · have hf := hf.1 c9
      exact sX1_remove_L94 Y hrc57 hf _ _ _ _ _ hP hL ⟨rfl, rfl⟩ (lv_sub hl [0, 1, 2] rfl)
    · have hf := hf.2 c9
      refine p_aload_n hx hb dX1_remove_82 rfl (lv_at hl 0 rfl) ?_
      refine p_gR X cf0_ (k := 4) (by decide) rfl hP ht3 q630 (fun _ h => h) dX1_remove_83 ?_
      refine p_gR X cf4_ (k := 0) (by decide) rfl hP ht4 q542 (fun _ h => h) dX1_remove_86 ?_
      refine lv_iload_n hx hb dX1_remove_89 rfl (lv_at hl 2 rfl) ?_
      refine p_callr hL (p_runV X cf10_ hP ht5 (metJ2_remove l G _ _ _ _ X.2.2 hf) (cwV 1 hts (lw_V q777 q778 q779 q90 q780) rfl rfl rfl (by decide +kernel) ⟨Nat.le_trans (Nat.le_of_ble_eq_true rfl) hRf, Nat.le_trans (Nat.le_of_ble_eq_true rfl) hRl⟩) rfl hl.1 rfl (by decide) dX1_remove_90 ⟨Nat.zero_le _, Nat.zero_le _⟩) (fun r10 σ11 H locs hf hP hL => ?_)
      refine lv_pop hx hb dX1_remove_93 (rv_cat _) ?_
      exact sX1_remove_L94 Y hrc57 hf _ _ _ _ _ hP hL ⟨rfl, rfl⟩ (lv_sub hl [0, 1, 2] rfl)
set_option maxHeartbeats 4000000 in
theorem sX1_remove_L57 {G : GG_} {p : Program} {l : Launch} {e : Env} {R : Room} {s : State} {m : MethodId} {args : Array Value} {below : List Frame} {meth : Method} {c : Code} (Y : MX_ G p R s m args meth c cX1_remove 4 RX1 (some Jvm.ClassFile.FieldType.int) 5 107 0 0 "remove") {post : Int32 → Hp → Prop} {x0 : Nat} {x1 : Int32} {x3 : Int32} {σ : Hp} (hf : wX1_remove_L57 post x0 x1 x3 σ) : WG_ G p l e R s m args below meth c (MQ below (QI_ G post) args s 0 0 (FR_ G)) BN_ 4 57 [(0, rv_ x0), (1, .int x1), (3, .int x3)] [] σ := by
  unfold wX1_remove_L57 at hf
  obtain ⟨I, μ, h0, hI⟩ := hf
  have key : ∀ (n : Nat) (x3 : Int32) (σ : Hp), I x3 σ → μ x3 σ < n → WG_ G p l e R s m args below meth c (MQ below (QI_ G post) args s 0 0 (FR_ G)) BN_ 4 57 [(0, rv_ x0), (1, .int x1), (3, .int x3)] [] σ := by
    intro n
    induction n with
    | zero => intro x3 σ _ h; exact absurd h (Nat.not_lt_zero _)
    | succ n ih => intro x3 σ hi hn; exact sX1_remove_B57 Y (fun x3' σ' h => ih x3' σ' h.1 (Nat.lt_of_lt_of_le h.2 (Nat.le_of_lt_succ hn))) (hI x3 σ hi)
  exact key _ _ _ h0 (Nat.lt_succ_self _)
set_option maxHeartbeats 4000000 in
theorem sX1_remove {G : GG_} {p : Program} {l : Launch} {e : Env} {R : Room} {s : State} {m : MethodId} {args : Array Value} {below : List Frame} {meth : Method} {c : Code} (Y : MX_ G p R s m args meth c cX1_remove 4 RX1 (some Jvm.ClassFile.FieldType.int) 5 107 0 0 "remove") {post : Int32 → Hp → Prop} {x0 : Nat} {x1 : Int32} {σ : Hp} (hf : wX1_remove x0 x1 σ post) : WG_ G p l e R s m args below meth c (MQ below (QI_ G post) args s 0 0 (FR_ G)) BN_ 4 0 [(0, rv_ x0), (1, .int x1)] [] σ := by
  have ⟨X, hlk, hr, hRf, hRl, hRc, hnm⟩ := Y
  have ⟨⟨hx, hb, _, hown, hts⟩, _, _⟩ := X
  intro H locs cells slots ls hP hL hB hl
  obtain ⟨rfl, rfl⟩ := hB
  unfold wX1_remove at hf
  refine p_aload_n hx hb dX1_remove_0 rfl (lv_at hl 0 rfl) ?_
  obtain ⟨ht12, hf⟩ := hf
  refine p_gR X cf0_ (k := 0) (by decide) rfl hP ht12 q626 (fun _ h => h) dX1_remove_1 ?_
  obtain ⟨ht13, hf⟩ := hf
  refine p_gI X cf1_ (k := 2) (by decide) rfl hP ht13 q133 (fun _ h => h) dX1_remove_4 ?_
  refine lv_if_eq (tgt := 13) hx hb dX1_remove_7 (by decide) (fun c14 => ?_) (fun c14 => ?_)
  · have hf := hf.1 c14
    refine p_aload_n hx hb dX1_remove_13 rfl (lv_at hl 0 rfl) ?_
    refine p_gR X cf0_ (k := 4) (by decide) rfl hP ht12 q630 (fun _ h => h) dX1_remove_14 ?_
    refine lv_iload_n hx hb dX1_remove_17 rfl (lv_at hl 1 rfl) ?_
    obtain ⟨ht15, hf⟩ := hf
    refine p_callr hL (p_runV X cf4_ hP ht15 (metX5_find l G _ _ _ _ X.2.2 hf) (cwV 1 hts (lw_V q715 q716 q717 q92 q718) rfl rfl rfl (by decide +kernel) ⟨Nat.le_trans (Nat.le_of_ble_eq_true rfl) hRf, Nat.le_trans (Nat.le_of_ble_eq_true rfl) hRl⟩) rfl hl.1 rfl (by decide) dX1_remove_18 ⟨Nat.zero_le _, Nat.zero_le _⟩) (fun r16 σ₁ H locs hf hP hL => ?_)
    obtain ⟨e₁, hf⟩ := hf
    rw [e₁] at hP
    refine p_astore_n (i := 2) hx hb dX1_remove_21 rfl hl (by decide) ⟨⟨ne_ rfl, Or.inl (ne_ rfl)⟩, ⟨⟨ne_ rfl, Or.inr rfl⟩, trivial⟩⟩ (fun ls hl => ?_)
    refine p_aload_n hx hb dX1_remove_22 rfl (lv_at hl 0 rfl) ?_
    refine p_ifnull (tgt := 41) hx hb dX1_remove_23 (by decide) (fun c17 => ?_) (fun c17 => ?_)
    · have hf := hf.1 c17
      refine lv_bipush (v := (-2)) hx hb dX1_remove_41 (by decide) ?_
      exact p_iret X hlk hP hL (Nat.le_refl _) (Nat.le_refl _) hr dX1_remove_43 hf
    · have hf := hf.2 c17
      refine lv_iload_n hx hb dX1_remove_26 rfl (lv_at hl 2 rfl) ?_
      refine lv_if_eq (tgt := 41) hx hb dX1_remove_27 (by decide) (fun c18 => ?_) (fun c18 => ?_)
      · have hf := hf.1 c18
        refine lv_bipush (v := (-2)) hx hb dX1_remove_41 (by decide) ?_
        exact p_iret X hlk hP hL (Nat.le_refl _) (Nat.le_refl _) hr dX1_remove_43 hf
      · have hf := hf.2 c18
        refine p_aload_n hx hb dX1_remove_30 rfl (lv_at hl 1 rfl) ?_
        refine p_gR X cf0_ (k := 4) (by decide) rfl hP ht12 q630 (fun _ h => h) dX1_remove_31 ?_
        refine lv_iload_n hx hb dX1_remove_34 rfl (lv_at hl 2 rfl) ?_
        refine p_calli hL (p_runV X cf4_ hP ht15 (metX5_isEmpty l G _ _ _ _ X.2.2 hf) (cwV 1 hts (lw_V q772 q773 q774 q92 q775) rfl rfl rfl (by decide +kernel) ⟨Nat.le_trans (Nat.le_of_ble_eq_true rfl) hRf, Nat.le_trans (Nat.le_of_ble_eq_true rfl) hRl⟩) rfl hl.1 rfl (by decide) dX1_remove_35 ⟨Nat.zero_le _, Nat.zero_le _⟩) (fun r19 σ₁ H locs hf hP hL => ?_)
        obtain ⟨e₁, hf⟩ := hf
        rw [e₁] at hP
        refine lv_if_ne (tgt := 44) hx hb dX1_remove_38 (by decide) (fun c20 => ?_) (fun c20 => ?_)
        · have hf := hf.1 c20
          refine p_aload_n hx hb dX1_remove_44 rfl (lv_at hl 1 rfl) ?_
          refine p_gR X cf0_ (k := 4) (by decide) rfl hP ht12 q630 (fun _ h => h) dX1_remove_45 ?_
          refine p_gR X cf4_ (k := 0) (by decide) rfl hP ht15 q542 (fun _ h => h) dX1_remove_48 ?_
          obtain ⟨ht21, hf⟩ := hf
          refine p_calli hL (p_runV X cf10_ hP ht21 (metJ2_size l G _ _ _ X.2.2 hf) (cwV 0 hts (lw_V q753 q720 q721 q90 q722) rfl rfl rfl (by decide +kernel) ⟨Nat.le_trans (Nat.le_of_ble_eq_true rfl) hRf, Nat.le_trans (Nat.le_of_ble_eq_true rfl) hRl⟩) rfl hl.1 rfl (by decide) dX1_remove_51 ⟨Nat.zero_le _, Nat.zero_le _⟩) (fun r22 σ₁ H locs hf hP hL => ?_)
          obtain ⟨e₁, hf⟩ := hf
          rw [e₁] at hP
          refine lv_iconst (v := 1) hx hb dX1_remove_54 (by decide) ?_
          refine lv_isub hx hb dX1_remove_55 ?_
          have hl := lv_sub hl [1, 2] rfl
          refine lv_topi (fun y23 hy23 => ?_)
          have hf := hf y23 hy23
          refine p_istore_n (i := 3) hx hb dX1_remove_56 rfl hl (by decide) ⟨⟨ne_ rfl, Or.inl (ne_ rfl)⟩, ⟨⟨ne_ rfl, Or.inl (ne_ rfl)⟩, trivial⟩⟩ (fun ls hl => ?_)
          exact sX1_remove_L57 Y hf _ _ _ _ _ hP hL ⟨rfl, rfl⟩ (lv_sub hl [1, 2, 0] rfl)
        · have hf := hf.2 c20
          refine lv_bipush (v := (-2)) hx hb dX1_remove_41 (by decide) ?_
          exact p_iret X hlk hP hL (Nat.le_refl _) (Nat.le_refl _) hr dX1_remove_43 hf
  · have hf := hf.2 c14
    refine lv_bipush (v := (-4)) hx hb dX1_remove_10 (by decide) ?_
    exact p_iret X hlk hP hL (Nat.le_refl _) (Nat.le_refl _) hr dX1_remove_12 hf
set_option maxHeartbeats 4000000 in
theorem metX1_remove (l : Launch) (G : GG_) (x0 : Nat) (x1 : Int32) (σ : Hp) (post : Int32 → Hp → Prop) (hG : GOK_ G) (hf : wX1_remove x0 x1 σ post) : Met l yX1_remove (ws_ yX1_remove cX1_remove 4 (some Jvm.ClassFile.FieldType.int)) { frames := 5, cells := 0, slots := 0, locals := 107 } (PC_ G [rv_ x0, .int x1] σ) (QI_ G post) 0 0 (FR_ G) := by
  refine Met.ofW (cc := cX1_remove) (maxL := 4) (ret := (some Jvm.ClassFile.FieldType.int)) (by decide) rfl ?_
  intro p e s m args below meth c s₁ B hml hv
  obtain ⟨rfl, hP, hW⟩ := hv
  have hts := atoms_spec (ws := ws_ yX1_remove cX1_remove 4 (some Jvm.ClassFile.FieldType.int)) B.pre
  have hts : ∀ w ∈ lw_all, w.before _ s = true := fun w h => hts w (List.mem_cons_of_mem _ h)
  rw [lg_entry_eq]
  have hl := en_entry [rv_ x0, .int x1] [1, 1] (n := 4) (ca_r (ca_i ca_n)) (by decide)
  exact sX1_remove ⟨⟨⟨B.exec, B.bytes, hml, findClass_of_methodNamed B.named, hts⟩, hW, hG⟩, B.notSynchronized, B.returns, Nat.le_refl _, Nat.le_refl _, ⟨rfl, rfl⟩, (name_of_methodNamed B.named B.method).1⟩ hf _ _ _ _ _ hP (LO_nil G) ⟨rfl, rfl⟩ hl
abbrev cX5_isIn : ByteArray := prog_9_method_7_code
def yX5_isIn : MethodName := ⟨RX5, "isIn", "(II)Z"⟩
theorem dX5_isIn_0 : decode cX5_isIn 0 = .ok (.iload_n 1, 1) := by decide +kernel
theorem dX5_isIn_1 : decode cX5_isIn 1 = .ok (.iload_n 2, 1) := by decide +kernel
theorem dX5_isIn_2 : decode cX5_isIn 2 = .ok (.if_icmp .ne 7, 3) := by decide +kernel
theorem dX5_isIn_5 : decode cX5_isIn 5 = .ok (.iconst 1, 1) := by decide +kernel
theorem dX5_isIn_6 : decode cX5_isIn 6 = .ok (.goto 4, 3) := by decide +kernel
theorem dX5_isIn_9 : decode cX5_isIn 9 = .ok (.iconst 0, 1) := by decide +kernel
theorem dX5_isIn_10 : decode cX5_isIn 10 = .ok (.istore_n 3, 1) := by decide +kernel
theorem dX5_isIn_11 : decode cX5_isIn 11 = .ok (.iload_n 1, 1) := by decide +kernel
theorem dX5_isIn_12 : decode cX5_isIn 12 = .ok (.istore 4, 2) := by decide +kernel
theorem dX5_isIn_14 : decode cX5_isIn 14 = .ok (.iload 4, 2) := by decide +kernel
theorem dX5_isIn_16 : decode cX5_isIn 16 = .ok (.ifCond .le 40, 3) := by decide +kernel
theorem dX5_isIn_19 : decode cX5_isIn 19 = .ok (.iload_n 3, 1) := by decide +kernel
theorem dX5_isIn_20 : decode cX5_isIn 20 = .ok (.ifCond .ne 36, 3) := by decide +kernel
theorem dX5_isIn_23 : decode cX5_isIn 23 = .ok (.aload_n 0, 1) := by decide +kernel
theorem dX5_isIn_24 : decode cX5_isIn 24 = .ok (.iload 4, 2) := by decide +kernel
theorem dX5_isIn_26 : decode cX5_isIn 26 = .ok (.invokevirtual 47, 3) := by decide +kernel
theorem dX5_isIn_29 : decode cX5_isIn 29 = .ok (.getfield 51, 3) := by decide +kernel
theorem dX5_isIn_32 : decode cX5_isIn 32 = .ok (.iload_n 2, 1) := by decide +kernel
theorem dX5_isIn_33 : decode cX5_isIn 33 = .ok (.if_icmp .ne 7, 3) := by decide +kernel
theorem dX5_isIn_36 : decode cX5_isIn 36 = .ok (.iconst 1, 1) := by decide +kernel
theorem dX5_isIn_37 : decode cX5_isIn 37 = .ok (.goto 4, 3) := by decide +kernel
theorem dX5_isIn_40 : decode cX5_isIn 40 = .ok (.iconst 0, 1) := by decide +kernel
theorem dX5_isIn_41 : decode cX5_isIn 41 = .ok (.istore_n 3, 1) := by decide +kernel
theorem dX5_isIn_42 : decode cX5_isIn 42 = .ok (.aload_n 0, 1) := by decide +kernel
theorem dX5_isIn_43 : decode cX5_isIn 43 = .ok (.iload 4, 2) := by decide +kernel
theorem dX5_isIn_45 : decode cX5_isIn 45 = .ok (.invokevirtual 47, 3) := by decide +kernel
theorem dX5_isIn_48 : decode cX5_isIn 48 = .ok (.getfield 51, 3) := by decide +kernel
theorem dX5_isIn_51 : decode cX5_isIn 51 = .ok (.istore 4, 2) := by decide +kernel
theorem dX5_isIn_53 : decode cX5_isIn 53 = .ok (.goto (-39), 3) := by decide +kernel
theorem dX5_isIn_56 : decode cX5_isIn 56 = .ok (.iload_n 3, 1) := by decide +kernel
theorem dX5_isIn_57 : decode cX5_isIn 57 = .ok (.ireturn, 1) := by decide +kernel
/-- WriteOnceDisc$Tree.isIn(II)Z -/
def wX5_isIn_L41 (post : Int32 → Prop) (rc14 : Int32 → Int32 → Prop) (x0 : Nat) (x2 : Int32) (x4 : Int32) (s0 : Int32) (σ : Hp) : Prop :=
(tg_ σ x0 = 5 ∧ (wX5_find x0 x4 σ (fun r2 => (tg_ σ r2 = 6 ∧ (∀ y4 : Int32, y4 = (fI_ σ 5 2 r2) → rc14 s0 y4)))))
def wX5_isIn_B14 (post : Int32 → Prop) (rc14 : Int32 → Int32 → Prop) (x0 : Nat) (x2 : Int32) (x3 : Int32) (x4 : Int32) (σ : Hp) : Prop :=
((x4 ≤ 0 →
  (nr_ .boolean x3 ∧ post x3)) ∧
 (¬ x4 ≤ 0 →
  ((¬ x3 = 0 →
   (nr_ .boolean x3 ∧ post x3)) ∧
  (x3 = 0 →
   (tg_ σ x0 = 5 ∧ (wX5_find x0 x4 σ (fun r10 => (tg_ σ r10 = 6 ∧ ((¬ (fI_ σ 5 2 r10) = x2 →
    wX5_isIn_L41 post rc14 x0 x2 x4 (0 : Int32) σ) ∧
   ((fI_ σ 5 2 r10) = x2 →
    wX5_isIn_L41 post rc14 x0 x2 x4 (1 : Int32) σ))))))))))
def wX5_isIn_L14 (post : Int32 → Prop) (x0 : Nat) (x2 : Int32) (x3 : Int32) (x4 : Int32) (σ : Hp) : Prop :=
 ∃ (I : Int32 → Int32 → Prop) (μ : Int32 → Int32 → Nat), I x3 x4 ∧ ∀ (x3 : Int32) (x4 : Int32), I x3 x4 → wX5_isIn_B14 post (fun x3' x4' => I x3' x4' ∧ μ x3' x4' < μ x3 x4) x0 x2 x3 x4 σ
def wX5_isIn_L10 (post : Int32 → Prop) (x0 : Nat) (x1 : Int32) (x2 : Int32) (s0 : Int32) (σ : Hp) : Prop :=
wX5_isIn_L14 post x0 x2 s0 x1 σ
def wX5_isIn (x0 : Nat) (x1 : Int32) (x2 : Int32) (σ : Hp) (post : Int32 → Prop) : Prop :=
((¬ x1 = x2 →
  wX5_isIn_L10 post x0 x1 x2 (0 : Int32) σ) ∧
 (x1 = x2 →
  wX5_isIn_L10 post x0 x1 x2 (1 : Int32) σ))
set_option maxHeartbeats 4000000 in
theorem sX5_isIn_L41 {G : GG_} {p : Program} {l : Launch} {e : Env} {R : Room} {s : State} {m : MethodId} {args : Array Value} {below : List Frame} {meth : Method} {c : Code} (Y : MX_ G p R s m args meth c cX5_isIn 5 RX5 (some Jvm.ClassFile.FieldType.boolean) 5 106 0 0 "isIn") {post : Int32 → Prop} {rc14 : Int32 → Int32 → Prop} {x0 : Nat} {x2 : Int32} {x4 : Int32} {s0 : Int32} {σ : Hp} (hrc14 : ∀ (x3 : Int32) (x4 : Int32), rc14 x3 x4 → WG_ G p l e R s m args below meth c (MQ below (QI_ G (fun r τ => τ = σ ∧ post r)) args s 0 0 (FR_ G)) BN_ 5 14 [(0, rv_ x0), (2, .int x2), (3, .int x3), (4, .int x4)] [] σ) (hf : wX5_isIn_L41 post rc14 x0 x2 x4 s0 σ) : WG_ G p l e R s m args below meth c (MQ below (QI_ G (fun r τ => τ = σ ∧ post r)) args s 0 0 (FR_ G)) BN_ 5 41 [(0, rv_ x0), (2, .int x2), (4, .int x4)] [.int s0] σ := by
  have ⟨X, hlk, hr, hRf, hRl, hRc, hnm⟩ := Y
  have ⟨⟨hx, hb, _, hown, hts⟩, _, _⟩ := X
  intro H locs cells slots ls hP hL hB hl
  obtain ⟨rfl, rfl⟩ := hB
  unfold wX5_isIn_L41 at hf
  refine p_istore_n (i := 3) hx hb dX5_isIn_41 rfl hl (by decide) ⟨⟨ne_ rfl, Or.inl (ne_ rfl)⟩, ⟨⟨ne_ rfl, Or.inr rfl⟩, ⟨⟨ne_ rfl, Or.inl (ne_ rfl)⟩, trivial⟩⟩⟩ (fun ls hl => ?_)
  refine p_aload_n hx hb dX5_isIn_42 rfl (lv_at hl 1 rfl) ?_
  refine lv_iload hx hb dX5_isIn_43 (lv_at hl 3 rfl) ?_
  obtain ⟨ht1, hf⟩ := hf
  refine p_callr hL (p_runV X cf4_ hP ht1 (metX5_find l G _ _ _ _ X.2.2 hf) (cwV 1 hts (lw_V q740 q716 q717 q92 q718) rfl rfl rfl (by decide +kernel) ⟨Nat.le_trans (Nat.le_of_ble_eq_true rfl) hRf, Nat.le_trans (Nat.le_of_ble_eq_true rfl) hRl⟩) rfl hl.1 rfl (by decide) dX5_isIn_45 ⟨Nat.zero_le _, Nat.zero_le _⟩) (fun r2 σ₁ H locs hf hP hL => ?_)
  obtain ⟨e₁, hf⟩ := hf
  rw [e₁] at hP
  obtain ⟨ht3, hf⟩ := hf
  refine p_gI X cf5_ (k := 2) (by decide) rfl hP ht3 q444 (fun _ h => h) dX5_isIn_48 ?_
  have hl := lv_sub hl [0, 1, 2] rfl
  refine lv_topi (fun y4 hy4 => ?_)
  have hf := hf y4 hy4
  refine p_istore (i := 4) hx hb dX5_isIn_51 hl (by decide) ⟨⟨ne_ rfl, Or.inr rfl⟩, ⟨⟨ne_ rfl, Or.inl (ne_ rfl)⟩, ⟨⟨ne_ rfl, Or.inl (ne_ rfl)⟩, trivial⟩⟩⟩ (fun ls hl => ?_)
  refine lv_goto (tgt := 14) hx hb dX5_isIn_53 (by decide) ?_
  exact hrc14 _ _ hf _ _ _ _ _ hP hL ⟨rfl, rfl⟩ (lv_sub hl [2, 3, 1, 0] rfl)
set_option maxHeartbeats 4000000 in
theorem sX5_isIn_B14 {G : GG_} {p : Program} {l : Launch} {e : Env} {R : Room} {s : State} {m : MethodId} {args : Array Value} {below : List Frame} {meth : Method} {c : Code} (Y : MX_ G p R s m args meth c cX5_isIn 5 RX5 (some Jvm.ClassFile.FieldType.boolean) 5 106 0 0 "isIn") {post : Int32 → Prop} {rc14 : Int32 → Int32 → Prop} {x0 : Nat} {x2 : Int32} {x3 : Int32} {x4 : Int32} {σ : Hp} (hrc14 : ∀ (x3 : Int32) (x4 : Int32), rc14 x3 x4 → WG_ G p l e R s m args below meth c (MQ below (QI_ G (fun r τ => τ = σ ∧ post r)) args s 0 0 (FR_ G)) BN_ 5 14 [(0, rv_ x0), (2, .int x2), (3, .int x3), (4, .int x4)] [] σ) (hf : wX5_isIn_B14 post rc14 x0 x2 x3 x4 σ) : WG_ G p l e R s m args below meth c (MQ below (QI_ G (fun r τ => τ = σ ∧ post r)) args s 0 0 (FR_ G)) BN_ 5 14 [(0, rv_ x0), (2, .int x2), (3, .int x3), (4, .int x4)] [] σ := by
  have ⟨X, hlk, hr, hRf, hRl, hRc, hnm⟩ := Y
  have ⟨⟨hx, hb, _, hown, hts⟩, _, _⟩ := X
  intro H locs cells slots ls hP hL hB hl
  obtain ⟨rfl, rfl⟩ := hB
  unfold wX5_isIn_B14 at hf
  refine lv_iload hx hb dX5_isIn_14 (lv_at hl 3 rfl) ?_
  refine lv_if_le (tgt := 56) hx hb dX5_isIn_16 (by decide) (fun c5 => ?_) (fun c5 => ?_)
  · have hf := hf.1 c5
    refine lv_iload_n hx hb dX5_isIn_56 rfl (lv_at hl 2 rfl) ?_
    obtain ⟨hn6, hf⟩ := hf
    exact p_zret X hlk hP hL (Nat.le_refl _) (Nat.le_refl _) hr hn6 dX5_isIn_57 ⟨rfl, hf⟩
  · have hf := hf.2 c5
    refine lv_iload_n hx hb dX5_isIn_19 rfl (lv_at hl 2 rfl) ?_
    refine lv_if_ne (tgt := 56) hx hb dX5_isIn_20 (by decide) (fun c7 => ?_) (fun c7 => ?_)
    · have hf := hf.1 c7
      refine lv_iload_n hx hb dX5_isIn_56 rfl (lv_at hl 2 rfl) ?_
      obtain ⟨hn8, hf⟩ := hf
      exact p_zret X hlk hP hL (Nat.le_refl _) (Nat.le_refl _) hr hn8 dX5_isIn_57 ⟨rfl, hf⟩
    · have hf := hf.2 c7
      refine p_aload_n hx hb dX5_isIn_23 rfl (lv_at hl 0 rfl) ?_
      refine lv_iload hx hb dX5_isIn_24 (lv_at hl 3 rfl) ?_
      obtain ⟨ht9, hf⟩ := hf
      refine p_callr hL (p_runV X cf4_ hP ht9 (metX5_find l G _ _ _ _ X.2.2 hf) (cwV 1 hts (lw_V q740 q716 q717 q92 q718) rfl rfl rfl (by decide +kernel) ⟨Nat.le_trans (Nat.le_of_ble_eq_true rfl) hRf, Nat.le_trans (Nat.le_of_ble_eq_true rfl) hRl⟩) rfl hl.1 rfl (by decide) dX5_isIn_26 ⟨Nat.zero_le _, Nat.zero_le _⟩) (fun r10 σ₁ H locs hf hP hL => ?_)
      obtain ⟨e₁, hf⟩ := hf
      rw [e₁] at hP
      obtain ⟨ht11, hf⟩ := hf
      refine p_gI X cf5_ (k := 2) (by decide) rfl hP ht11 q444 (fun _ h => h) dX5_isIn_29 ?_
      refine lv_iload_n hx hb dX5_isIn_32 rfl (lv_at hl 1 rfl) ?_
      refine lv_icmp_ne (tgt := 40) hx hb dX5_isIn_33 (by decide) (fun c12 => ?_) (fun c12 => ?_)
      · have hf := hf.1 c12
        refine lv_iconst (v := 0) hx hb dX5_isIn_40 (by decide) ?_
        exact sX5_isIn_L41 Y hrc14 hf _ _ _ _ _ hP hL ⟨rfl, rfl⟩ (lv_sub hl [0, 1, 3] rfl)
      · have hf := hf.2 c12
        refine lv_iconst (v := 1) hx hb dX5_isIn_36 (by decide) ?_
        refine lv_goto (tgt := 41) hx hb dX5_isIn_37 (by decide) ?_
        exact sX5_isIn_L41 Y hrc14 hf _ _ _ _ _ hP hL ⟨rfl, rfl⟩ (lv_sub hl [0, 1, 3] rfl)
set_option maxHeartbeats 4000000 in
theorem sX5_isIn_L14 {G : GG_} {p : Program} {l : Launch} {e : Env} {R : Room} {s : State} {m : MethodId} {args : Array Value} {below : List Frame} {meth : Method} {c : Code} (Y : MX_ G p R s m args meth c cX5_isIn 5 RX5 (some Jvm.ClassFile.FieldType.boolean) 5 106 0 0 "isIn") {post : Int32 → Prop} {x0 : Nat} {x2 : Int32} {x3 : Int32} {x4 : Int32} {σ : Hp} (hf : wX5_isIn_L14 post x0 x2 x3 x4 σ) : WG_ G p l e R s m args below meth c (MQ below (QI_ G (fun r τ => τ = σ ∧ post r)) args s 0 0 (FR_ G)) BN_ 5 14 [(0, rv_ x0), (2, .int x2), (3, .int x3), (4, .int x4)] [] σ := by
  unfold wX5_isIn_L14 at hf
  obtain ⟨I, μ, h0, hI⟩ := hf
  have key : ∀ (n : Nat) (x3 : Int32) (x4 : Int32), I x3 x4 → μ x3 x4 < n → WG_ G p l e R s m args below meth c (MQ below (QI_ G (fun r τ => τ = σ ∧ post r)) args s 0 0 (FR_ G)) BN_ 5 14 [(0, rv_ x0), (2, .int x2), (3, .int x3), (4, .int x4)] [] σ := by
    intro n
    induction n with
    | zero => intro x3 x4 _ h; exact absurd h (Nat.not_lt_zero _)
    | succ n ih => intro x3 x4 hi hn; exact sX5_isIn_B14 Y (fun x3' x4' h => ih x3' x4' h.1 (Nat.lt_of_lt_of_le h.2 (Nat.le_of_lt_succ hn))) (hI x3 x4 hi)
  exact key _ _ _ h0 (Nat.lt_succ_self _)
set_option maxHeartbeats 4000000 in
theorem sX5_isIn_L10 {G : GG_} {p : Program} {l : Launch} {e : Env} {R : Room} {s : State} {m : MethodId} {args : Array Value} {below : List Frame} {meth : Method} {c : Code} (Y : MX_ G p R s m args meth c cX5_isIn 5 RX5 (some Jvm.ClassFile.FieldType.boolean) 5 106 0 0 "isIn") {post : Int32 → Prop} {x0 : Nat} {x1 : Int32} {x2 : Int32} {s0 : Int32} {σ : Hp} (hf : wX5_isIn_L10 post x0 x1 x2 s0 σ) : WG_ G p l e R s m args below meth c (MQ below (QI_ G (fun r τ => τ = σ ∧ post r)) args s 0 0 (FR_ G)) BN_ 5 10 [(0, rv_ x0), (1, .int x1), (2, .int x2)] [.int s0] σ := by
  have ⟨X, hlk, hr, hRf, hRl, hRc, hnm⟩ := Y
  have ⟨⟨hx, hb, _, hown, hts⟩, _, _⟩ := X
  intro H locs cells slots ls hP hL hB hl
  obtain ⟨rfl, rfl⟩ := hB
  unfold wX5_isIn_L10 at hf
  refine p_istore_n (i := 3) hx hb dX5_isIn_10 rfl hl (by decide) ⟨⟨ne_ rfl, Or.inl (ne_ rfl)⟩, ⟨⟨ne_ rfl, Or.inl (ne_ rfl)⟩, ⟨⟨ne_ rfl, Or.inr rfl⟩, trivial⟩⟩⟩ (fun ls hl => ?_)
  refine lv_iload_n hx hb dX5_isIn_11 rfl (lv_at hl 2 rfl) ?_
  have hl := lv_sub hl [0, 1, 3] rfl
  refine p_istore (i := 4) hx hb dX5_isIn_12 hl (by decide) ⟨⟨ne_ rfl, Or.inr rfl⟩, ⟨⟨ne_ rfl, Or.inl (ne_ rfl)⟩, ⟨⟨ne_ rfl, Or.inl (ne_ rfl)⟩, trivial⟩⟩⟩ (fun ls hl => ?_)
  exact sX5_isIn_L14 Y hf _ _ _ _ _ hP hL ⟨rfl, rfl⟩ (lv_sub hl [2, 3, 1, 0] rfl)
set_option maxHeartbeats 4000000 in
theorem sX5_isIn {G : GG_} {p : Program} {l : Launch} {e : Env} {R : Room} {s : State} {m : MethodId} {args : Array Value} {below : List Frame} {meth : Method} {c : Code} (Y : MX_ G p R s m args meth c cX5_isIn 5 RX5 (some Jvm.ClassFile.FieldType.boolean) 5 106 0 0 "isIn") {post : Int32 → Prop} {x0 : Nat} {x1 : Int32} {x2 : Int32} {σ : Hp} (hf : wX5_isIn x0 x1 x2 σ post) : WG_ G p l e R s m args below meth c (MQ below (QI_ G (fun r τ => τ = σ ∧ post r)) args s 0 0 (FR_ G)) BN_ 5 0 [(0, rv_ x0), (1, .int x1), (2, .int x2)] [] σ := by
  have ⟨X, hlk, hr, hRf, hRl, hRc, hnm⟩ := Y
  have ⟨⟨hx, hb, _, hown, hts⟩, _, _⟩ := X
  intro H locs cells slots ls hP hL hB hl
  obtain ⟨rfl, rfl⟩ := hB
  unfold wX5_isIn at hf
  refine lv_iload_n hx hb dX5_isIn_0 rfl (lv_at hl 1 rfl) ?_
  refine lv_iload_n hx hb dX5_isIn_1 rfl (lv_at hl 2 rfl) ?_
  refine lv_icmp_ne (tgt := 9) hx hb dX5_isIn_2 (by decide) (fun c13 => ?_) (fun c13 => ?_)
  · have hf := hf.1 c13
    refine lv_iconst (v := 0) hx hb dX5_isIn_9 (by decide) ?_
    exact sX5_isIn_L10 Y hf _ _ _ _ _ hP hL ⟨rfl, rfl⟩ (lv_sub hl [0, 1, 2] rfl)
  · have hf := hf.2 c13
    refine lv_iconst (v := 1) hx hb dX5_isIn_5 (by decide) ?_
    refine lv_goto (tgt := 10) hx hb dX5_isIn_6 (by decide) ?_
    exact sX5_isIn_L10 Y hf _ _ _ _ _ hP hL ⟨rfl, rfl⟩ (lv_sub hl [0, 1, 2] rfl)
set_option maxHeartbeats 4000000 in
theorem metX5_isIn (l : Launch) (G : GG_) (x0 : Nat) (x1 : Int32) (x2 : Int32) (σ : Hp) (post : Int32 → Prop) (hG : GOK_ G) (hf : wX5_isIn x0 x1 x2 σ post) : Met l yX5_isIn (ws_ yX5_isIn cX5_isIn 5 (some Jvm.ClassFile.FieldType.boolean)) { frames := 5, cells := 0, slots := 0, locals := 106 } (PC_ G [rv_ x0, .int x1, .int x2] σ) (QI_ G (fun r τ => τ = σ ∧ post r)) 0 0 (FR_ G) := by
  refine Met.ofW (cc := cX5_isIn) (maxL := 5) (ret := (some Jvm.ClassFile.FieldType.boolean)) (by decide) rfl ?_
  intro p e s m args below meth c s₁ B hml hv
  obtain ⟨rfl, hP, hW⟩ := hv
  have hts := atoms_spec (ws := ws_ yX5_isIn cX5_isIn 5 (some Jvm.ClassFile.FieldType.boolean)) B.pre
  have hts : ∀ w ∈ lw_all, w.before _ s = true := fun w h => hts w (List.mem_cons_of_mem _ h)
  rw [lg_entry_eq]
  have hl := en_entry [rv_ x0, .int x1, .int x2] [1, 1, 1] (n := 5) (ca_r (ca_i (ca_i ca_n))) (by decide)
  exact sX5_isIn ⟨⟨⟨B.exec, B.bytes, hml, findClass_of_methodNamed B.named, hts⟩, hW, hG⟩, B.notSynchronized, B.returns, Nat.le_refl _, Nat.le_refl _, ⟨rfl, rfl⟩, (name_of_methodNamed B.named B.method).1⟩ hf _ _ _ _ _ hP (LO_nil G) ⟨rfl, rfl⟩ hl
abbrev cX5_height : ByteArray := prog_9_method_8_code
def yX5_height : MethodName := ⟨RX5, "height", "(I)I"⟩
theorem dX5_height_0 : decode cX5_height 0 = .ok (.aload_n 0, 1) := by decide +kernel
theorem dX5_height_1 : decode cX5_height 1 = .ok (.iload_n 1, 1) := by decide +kernel
theorem dX5_height_2 : decode cX5_height 2 = .ok (.invokevirtual 47, 3) := by decide +kernel
theorem dX5_height_5 : decode cX5_height 5 = .ok (.getfield 63, 3) := by decide +kernel
theorem dX5_height_8 : decode cX5_height 8 = .ok (.ifCond .ne 5, 3) := by decide +kernel
theorem dX5_height_11 : decode cX5_height 11 = .ok (.iconst 0, 1) := by decide +kernel
theorem dX5_height_12 : decode cX5_height 12 = .ok (.ireturn, 1) := by decide +kernel
theorem dX5_height_13 : decode cX5_height 13 = .ok (.iconst 0, 1) := by decide +kernel
theorem dX5_height_14 : decode cX5_height 14 = .ok (.istore_n 2, 1) := by decide +kernel
theorem dX5_height_15 : decode cX5_height 15 = .ok (.aload_n 0, 1) := by decide +kernel
theorem dX5_height_16 : decode cX5_height 16 = .ok (.iload_n 1, 1) := by decide +kernel
theorem dX5_height_17 : decode cX5_height 17 = .ok (.invokevirtual 67, 3) := by decide +kernel
theorem dX5_height_20 : decode cX5_height 20 = .ok (.istore_n 3, 1) := by decide +kernel
theorem dX5_height_21 : decode cX5_height 21 = .ok (.iconst 0, 1) := by decide +kernel
theorem dX5_height_22 : decode cX5_height 22 = .ok (.istore 4, 2) := by decide +kernel
theorem dX5_height_24 : decode cX5_height 24 = .ok (.iload 4, 2) := by decide +kernel
theorem dX5_height_26 : decode cX5_height 26 = .ok (.aload_n 0, 1) := by decide +kernel
theorem dX5_height_27 : decode cX5_height 27 = .ok (.getfield 12, 3) := by decide +kernel
theorem dX5_height_30 : decode cX5_height 30 = .ok (.invokevirtual 39, 3) := by decide +kernel
theorem dX5_height_33 : decode cX5_height 33 = .ok (.if_icmp .ge 76, 3) := by decide +kernel
theorem dX5_height_36 : decode cX5_height 36 = .ok (.aload_n 0, 1) := by decide +kernel
theorem dX5_height_37 : decode cX5_height 37 = .ok (.getfield 12, 3) := by decide +kernel
theorem dX5_height_40 : decode cX5_height 40 = .ok (.iload 4, 2) := by decide +kernel
theorem dX5_height_42 : decode cX5_height 42 = .ok (.invokevirtual 43, 3) := by decide +kernel
theorem dX5_height_45 : decode cX5_height 45 = .ok (.checkcast 18, 3) := by decide +kernel
theorem dX5_height_48 : decode cX5_height 48 = .ok (.getfield 63, 3) := by decide +kernel
theorem dX5_height_51 : decode cX5_height 51 = .ok (.ifCond .eq 52, 3) := by decide +kernel
theorem dX5_height_54 : decode cX5_height 54 = .ok (.aload_n 0, 1) := by decide +kernel
theorem dX5_height_55 : decode cX5_height 55 = .ok (.aload_n 0, 1) := by decide +kernel
theorem dX5_height_56 : decode cX5_height 56 = .ok (.getfield 12, 3) := by decide +kernel
theorem dX5_height_59 : decode cX5_height 59 = .ok (.iload 4, 2) := by decide +kernel
theorem dX5_height_61 : decode cX5_height 61 = .ok (.invokevirtual 43, 3) := by decide +kernel
theorem dX5_height_64 : decode cX5_height 64 = .ok (.checkcast 18, 3) := by decide +kernel
theorem dX5_height_67 : decode cX5_height 67 = .ok (.getfield 32, 3) := by decide +kernel
theorem dX5_height_70 : decode cX5_height 70 = .ok (.iload_n 1, 1) := by decide +kernel
theorem dX5_height_71 : decode cX5_height 71 = .ok (.invokevirtual 71, 3) := by decide +kernel
theorem dX5_height_74 : decode cX5_height 74 = .ok (.ifCond .eq 29, 3) := by decide +kernel
theorem dX5_height_77 : decode cX5_height 77 = .ok (.iload_n 2, 1) := by decide +kernel
theorem dX5_height_78 : decode cX5_height 78 = .ok (.aload_n 0, 1) := by decide +kernel
theorem dX5_height_79 : decode cX5_height 79 = .ok (.aload_n 0, 1) := by decide +kernel
theorem dX5_height_80 : decode cX5_height 80 = .ok (.getfield 12, 3) := by decide +kernel
theorem dX5_height_83 : decode cX5_height 83 = .ok (.iload 4, 2) := by decide +kernel
theorem dX5_height_85 : decode cX5_height 85 = .ok (.invokevirtual 43, 3) := by decide +kernel
theorem dX5_height_88 : decode cX5_height 88 = .ok (.checkcast 18, 3) := by decide +kernel
theorem dX5_height_91 : decode cX5_height 91 = .ok (.getfield 32, 3) := by decide +kernel
theorem dX5_height_94 : decode cX5_height 94 = .ok (.invokevirtual 67, 3) := by decide +kernel
theorem dX5_height_97 : decode cX5_height 97 = .ok (.iload_n 3, 1) := by decide +kernel
theorem dX5_height_98 : decode cX5_height 98 = .ok (.isub, 1) := by decide +kernel
theorem dX5_height_99 : decode cX5_height 99 = .ok (.invokestatic 75, 3) := by decide +kernel
theorem dX5_height_102 : decode cX5_height 102 = .ok (.istore_n 2, 1) := by decide +kernel
theorem dX5_height_103 : decode cX5_height 103 = .ok (.iinc 4 1, 3) := by decide +kernel
theorem dX5_height_106 : decode cX5_height 106 = .ok (.goto (-82), 3) := by decide +kernel
theorem dX5_height_109 : decode cX5_height 109 = .ok (.iload_n 2, 1) := by decide +kernel
theorem dX5_height_110 : decode cX5_height 110 = .ok (.ireturn, 1) := by decide +kernel
/-- WriteOnceDisc$Tree.height(I)I -/
def wX5_height_L103 (post : Int32 → Prop) (rc24 : Int32 → Int32 → Prop) (x0 : Nat) (x1 : Int32) (x2 : Int32) (x3 : Int32) (x4 : Int32) (σ : Hp) : Prop :=
(∀ y1 : Int32, y1 = x4 + 1 → rc24 x2 y1)
def wX5_height_B24 (post : Int32 → Prop) (rc24 : Int32 → Int32 → Prop) (x0 : Nat) (x1 : Int32) (x2 : Int32) (x3 : Int32) (x4 : Int32) (σ : Hp) : Prop :=
(tg_ σ x0 = 5 ∧ (tg_ σ (fR_ σ 4 0 x0) = 11 ∧ (wJ2_size (fR_ σ 4 0 x0)  σ (fun r4 => ((r4 ≤ x4 →
  post x2) ∧
 (¬ r4 ≤ x4 →
  (wJ2_get (fR_ σ 4 0 x0) x4 σ (fun r6 => ((r6 = 0 ∨ tg_ σ r6 = 6) ∧ (tg_ σ r6 = 6 ∧ (((fI_ σ 5 1 r6) = 0 →
   wX5_height_L103 post rc24 x0 x1 x2 x3 x4 σ) ∧
  (¬ (fI_ σ 5 1 r6) = 0 →
   (wJ2_get (fR_ σ 4 0 x0) x4 σ (fun r10 => ((r10 = 0 ∨ tg_ σ r10 = 6) ∧ (tg_ σ r10 = 6 ∧ (wX5_isIn x0 (fI_ σ 5 0 r10) x1 σ (fun r13 => ((r13 = 0 →
    wX5_height_L103 post rc24 x0 x1 x2 x3 x4 σ) ∧
   (¬ r13 = 0 →
    (wJ2_get (fR_ σ 4 0 x0) x4 σ (fun r15 => ((r15 = 0 ∨ tg_ σ r15 = 6) ∧ (tg_ σ r15 = 6 ∧ (wX5_depth x0 (fI_ σ 5 0 r15) σ (fun r18 => (∀ y19 : Int32, y19 = (if x2 < (r18 - x3) then (r18 - x3) else x2) → wX5_height_L103 post rc24 x0 x1 y19 x3 x4 σ)))))))))))))))))))))))))))
def wX5_height_L24 (post : Int32 → Prop) (x0 : Nat) (x1 : Int32) (x2 : Int32) (x3 : Int32) (x4 : Int32) (σ : Hp) : Prop :=
 ∃ (I : Int32 → Int32 → Prop) (μ : Int32 → Int32 → Nat), I x2 x4 ∧ ∀ (x2 : Int32) (x4 : Int32), I x2 x4 → wX5_height_B24 post (fun x2' x4' => I x2' x4' ∧ μ x2' x4' < μ x2 x4) x0 x1 x2 x3 x4 σ
def wX5_height (x0 : Nat) (x1 : Int32) (σ : Hp) (post : Int32 → Prop) : Prop :=
(tg_ σ x0 = 5 ∧ (wX5_find x0 x1 σ (fun r21 => (tg_ σ r21 = 6 ∧ ((¬ (fI_ σ 5 1 r21) = 0 →
  (wX5_depth x0 x1 σ (fun r24 => wX5_height_L24 post x0 x1 (0 : Int32) r24 (0 : Int32) σ))) ∧
 ((fI_ σ 5 1 r21) = 0 →
  post (0 : Int32)))))))
set_option maxHeartbeats 4000000 in
theorem sX5_height_L103 {G : GG_} {p : Program} {l : Launch} {e : Env} {R : Room} {s : State} {m : MethodId} {args : Array Value} {below : List Frame} {meth : Method} {c : Code} (Y : MX_ G p R s m args meth c cX5_height 5 RX5 (some Jvm.ClassFile.FieldType.int) 6 130 0 0 "height") {post : Int32 → Prop} {rc24 : Int32 → Int32 → Prop} {x0 : Nat} {x1 : Int32} {x2 : Int32} {x3 : Int32} {x4 : Int32} {σ : Hp} (hrc24 : ∀ (x2 : Int32) (x4 : Int32), rc24 x2 x4 → WG_ G p l e R s m args below meth c (MQ below (QI_ G (fun r τ => τ = σ ∧ post r)) args s 0 0 (FR_ G)) BN_ 5 24 [(0, rv_ x0), (1, .int x1), (2, .int x2), (3, .int x3), (4, .int x4)] [] σ) (hf : wX5_height_L103 post rc24 x0 x1 x2 x3 x4 σ) : WG_ G p l e R s m args below meth c (MQ below (QI_ G (fun r τ => τ = σ ∧ post r)) args s 0 0 (FR_ G)) BN_ 5 103 [(0, rv_ x0), (1, .int x1), (2, .int x2), (3, .int x3), (4, .int x4)] [] σ := by
  have ⟨X, hlk, hr, hRf, hRl, hRc, hnm⟩ := Y
  have ⟨⟨hx, hb, _, hown, hts⟩, _, _⟩ := X
  intro H locs cells slots ls hP hL hB hl
  obtain ⟨rfl, rfl⟩ := hB
  unfold wX5_height_L103 at hf
  have hl := lv_sub hl [4, 0, 1, 2, 3] rfl
  refine p_iincc (i := 4) (k := 1) hx hb (by decide) dX5_height_103 hl (by decide) ⟨⟨ne_ rfl, Or.inl (ne_ rfl)⟩, ⟨⟨ne_ rfl, Or.inl (ne_ rfl)⟩, ⟨⟨ne_ rfl, Or.inl (ne_ rfl)⟩, ⟨⟨ne_ rfl, Or.inr rfl⟩, trivial⟩⟩⟩⟩ (fun y1 hy1 ls hl => ?_)
  have hf := hf y1 hy1
  refine lv_goto (tgt := 24) hx hb dX5_height_106 (by decide) ?_
  exact hrc24 _ _ hf _ _ _ _ _ hP hL ⟨rfl, rfl⟩ (lv_sub hl [1, 2, 3, 4, 0] rfl)
set_option maxHeartbeats 4000000 in
theorem sX5_height_B24 {G : GG_} {p : Program} {l : Launch} {e : Env} {R : Room} {s : State} {m : MethodId} {args : Array Value} {below : List Frame} {meth : Method} {c : Code} (Y : MX_ G p R s m args meth c cX5_height 5 RX5 (some Jvm.ClassFile.FieldType.int) 6 130 0 0 "height") {post : Int32 → Prop} {rc24 : Int32 → Int32 → Prop} {x0 : Nat} {x1 : Int32} {x2 : Int32} {x3 : Int32} {x4 : Int32} {σ : Hp} (hrc24 : ∀ (x2 : Int32) (x4 : Int32), rc24 x2 x4 → WG_ G p l e R s m args below meth c (MQ below (QI_ G (fun r τ => τ = σ ∧ post r)) args s 0 0 (FR_ G)) BN_ 5 24 [(0, rv_ x0), (1, .int x1), (2, .int x2), (3, .int x3), (4, .int x4)] [] σ) (hf : wX5_height_B24 post rc24 x0 x1 x2 x3 x4 σ) : WG_ G p l e R s m args below meth c (MQ below (QI_ G (fun r τ => τ = σ ∧ post r)) args s 0 0 (FR_ G)) BN_ 5 24 [(0, rv_ x0), (1, .int x1), (2, .int x2), (3, .int x3), (4, .int x4)] [] σ := by
  have ⟨X, hlk, hr, hRf, hRl, hRc, hnm⟩ := Y
  have ⟨⟨hx, hb, _, hown, hts⟩, _, _⟩ := X
  intro H locs cells slots ls hP hL hB hl
  obtain ⟨rfl, rfl⟩ := hB
  unfold wX5_height_B24 at hf
  refine lv_iload hx hb dX5_height_24 (lv_at hl 4 rfl) ?_
  refine p_aload_n hx hb dX5_height_26 rfl (lv_at hl 0 rfl) ?_
  obtain ⟨ht2, hf⟩ := hf
  refine p_gR X cf4_ (k := 0) (by decide) rfl hP ht2 q541 (fun _ h => h) dX5_height_27 ?_
  obtain ⟨ht3, hf⟩ := hf
  refine p_calli hL (p_runV X cf10_ hP ht3 (metJ2_size l G _ _ _ X.2.2 hf) (cwV 0 hts (lw_V q719 q720 q721 q90 q722) rfl rfl rfl (by decide +kernel) ⟨Nat.le_trans (Nat.le_of_ble_eq_true rfl) hRf, Nat.le_trans (Nat.le_of_ble_eq_true rfl) hRl⟩) rfl hl.1 rfl (by rw [(ca_i ca_n)]; decide) dX5_height_30 ⟨Nat.zero_le _, Nat.zero_le _⟩) (fun r4 σ₁ H locs hf hP hL => ?_)
  obtain ⟨e₁, hf⟩ := hf
  rw [e₁] at hP
  refine lv_icmp_ge (tgt := 109) hx hb dX5_height_33 (by decide) (fun c5 => ?_) (fun c5 => ?_)
  · have hf := hf.1 c5
    refine lv_iload_n hx hb dX5_height_109 rfl (lv_at hl 2 rfl) ?_
    exact p_iret X hlk hP hL (Nat.le_refl _) (Nat.le_refl _) hr dX5_height_110 ⟨rfl, hf⟩
  · have hf := hf.2 c5
    refine p_aload_n hx hb dX5_height_36 rfl (lv_at hl 0 rfl) ?_
    refine p_gR X cf4_ (k := 0) (by decide) rfl hP ht2 q541 (fun _ h => h) dX5_height_37 ?_
    refine lv_iload hx hb dX5_height_40 (lv_at hl 4 rfl) ?_
    refine p_callr hL (p_runV X cf10_ hP ht3 (metJ2_get l G _ _ _ _ X.2.2 hf) (cwV 1 hts (lw_V q723 q724 q725 q90 q726) rfl rfl rfl (by decide +kernel) ⟨Nat.le_trans (Nat.le_of_ble_eq_true rfl) hRf, Nat.le_trans (Nat.le_of_ble_eq_true rfl) hRl⟩) rfl hl.1 rfl (by decide) dX5_height_42 ⟨Nat.zero_le _, Nat.zero_le _⟩) (fun r6 σ₁ H locs hf hP hL => ?_)
    obtain ⟨e₁, hf⟩ := hf
    rw [e₁] at hP
    obtain ⟨hc7, hf⟩ := hf
    refine p_cast X cf5_ hP hc7 q212 dX5_height_45 ?_
    obtain ⟨ht8, hf⟩ := hf
    refine p_gI X cf5_ (k := 1) (by decide) rfl hP ht8 q440 (fun _ h => h) dX5_height_48 ?_
    refine lv_if_eq (tgt := 103) hx hb dX5_height_51 (by decide) (fun c9 => ?_) (fun c9 => ?_)
    · have hf := hf.1 c9
      exact sX5_height_L103 Y hrc24 hf _ _ _ _ _ hP hL ⟨rfl, rfl⟩ (lv_sub hl [0, 1, 2, 3, 4] rfl)
    · have hf := hf.2 c9
      refine p_aload_n hx hb dX5_height_54 rfl (lv_at hl 0 rfl) ?_
      refine p_aload_n hx hb dX5_height_55 rfl (lv_at hl 0 rfl) ?_
      refine p_gR X cf4_ (k := 0) (by decide) rfl hP ht2 q541 (fun _ h => h) dX5_height_56 ?_
      refine lv_iload hx hb dX5_height_59 (lv_at hl 4 rfl) ?_
      refine p_callr hL (p_runV X cf10_ hP ht3 (metJ2_get l G _ _ _ _ X.2.2 hf) (cwV 1 hts (lw_V q723 q724 q725 q90 q726) rfl rfl rfl (by decide +kernel) ⟨Nat.le_trans (Nat.le_of_ble_eq_true rfl) hRf, Nat.le_trans (Nat.le_of_ble_eq_true rfl) hRl⟩) rfl hl.1 rfl (by rw [(ca_r ca_n)]; decide) dX5_height_61 ⟨Nat.zero_le _, Nat.zero_le _⟩) (fun r10 σ₁ H locs hf hP hL => ?_)
      obtain ⟨e₁, hf⟩ := hf
      rw [e₁] at hP
      obtain ⟨hc11, hf⟩ := hf
      refine p_cast X cf5_ hP hc11 q212 dX5_height_64 ?_
      obtain ⟨ht12, hf⟩ := hf
      refine p_gI X cf5_ (k := 0) (by decide) rfl hP ht12 q436 (fun _ h => h) dX5_height_67 ?_
      refine lv_iload_n hx hb dX5_height_70 rfl (lv_at hl 1 rfl) ?_
      refine p_calli hL (p_runV X cf4_ hP ht2 (metX5_isIn l G _ _ _ _ _ X.2.2 hf) (cwV 2 hts (lw_V q799 q791 q792 q92 q793) rfl rfl rfl (by decide +kernel) ⟨Nat.le_trans (Nat.le_of_ble_eq_true rfl) hRf, Nat.le_trans (Nat.le_of_ble_eq_true rfl) hRl⟩) rfl hl.1 rfl (by decide) dX5_height_71 ⟨Nat.zero_le _, Nat.zero_le _⟩) (fun r13 σ₁ H locs hf hP hL => ?_)
      obtain ⟨e₁, hf⟩ := hf
      rw [e₁] at hP
      refine lv_if_eq (tgt := 103) hx hb dX5_height_74 (by decide) (fun c14 => ?_) (fun c14 => ?_)
      · have hf := hf.1 c14
        exact sX5_height_L103 Y hrc24 hf _ _ _ _ _ hP hL ⟨rfl, rfl⟩ (lv_sub hl [0, 1, 2, 3, 4] rfl)
      · have hf := hf.2 c14
        refine lv_iload_n hx hb dX5_height_77 rfl (lv_at hl 2 rfl) ?_
        refine p_aload_n hx hb dX5_height_78 rfl (lv_at hl 0 rfl) ?_
        refine p_aload_n hx hb dX5_height_79 rfl (lv_at hl 0 rfl) ?_
        refine p_gR X cf4_ (k := 0) (by decide) rfl hP ht2 q541 (fun _ h => h) dX5_height_80 ?_
        refine lv_iload hx hb dX5_height_83 (lv_at hl 4 rfl) ?_
        refine p_callr hL (p_runV X cf10_ hP ht3 (metJ2_get l G _ _ _ _ X.2.2 hf) (cwV 1 hts (lw_V q723 q724 q725 q90 q726) rfl rfl rfl (by decide +kernel) ⟨Nat.le_trans (Nat.le_of_ble_eq_true rfl) hRf, Nat.le_trans (Nat.le_of_ble_eq_true rfl) hRl⟩) rfl hl.1 rfl (by rw [(ca_r (ca_i ca_n))]; decide) dX5_height_85 ⟨Nat.zero_le _, Nat.zero_le _⟩) (fun r15 σ₁ H locs hf hP hL => ?_)
        obtain ⟨e₁, hf⟩ := hf
        rw [e₁] at hP
        obtain ⟨hc16, hf⟩ := hf
        refine p_cast X cf5_ hP hc16 q212 dX5_height_88 ?_
        obtain ⟨ht17, hf⟩ := hf
        refine p_gI X cf5_ (k := 0) (by decide) rfl hP ht17 q436 (fun _ h => h) dX5_height_91 ?_
        refine p_calli hL (p_runV X cf4_ hP ht2 (metX5_depth l G _ _ _ _ X.2.2 hf) (cwV 1 hts (lw_V q798 q737 q738 q92 q739) rfl rfl rfl (by decide +kernel) ⟨Nat.le_trans (Nat.le_of_ble_eq_true rfl) hRf, Nat.le_trans (Nat.le_of_ble_eq_true rfl) hRl⟩) rfl hl.1 rfl (by rw [(ca_i ca_n)]; decide) dX5_height_94 ⟨Nat.zero_le _, Nat.zero_le _⟩) (fun r18 σ₁ H locs hf hP hL => ?_)
        obtain ⟨e₁, hf⟩ := hf
        rw [e₁] at hP
        refine lv_iload_n hx hb dX5_height_97 rfl (lv_at hl 3 rfl) ?_
        refine lv_isub hx hb dX5_height_98 ?_
        refine p_max X q800 hl.1 (Nat.le_trans (by decide) hRf) (by decide) (Nat.le_trans (by decide) hRl) ⟨Nat.zero_le _, Nat.zero_le _⟩ dX5_height_99 ?_
        have hl := lv_sub hl [0, 1, 3, 4] rfl
        refine lv_topi (fun y19 hy19 => ?_)
        have hf := hf y19 hy19
        refine p_istore_n (i := 2) hx hb dX5_height_102 rfl hl (by decide) ⟨⟨ne_ rfl, Or.inl (ne_ rfl)⟩, ⟨⟨ne_ rfl, Or.inr rfl⟩, ⟨⟨ne_ rfl, Or.inl (ne_ rfl)⟩, ⟨⟨ne_ rfl, Or.inl (ne_ rfl)⟩, trivial⟩⟩⟩⟩ (fun ls hl => ?_)
        exact sX5_height_L103 Y hrc24 hf _ _ _ _ _ hP hL ⟨rfl, rfl⟩ (lv_sub hl [1, 2, 0, 3, 4] rfl)
set_option maxHeartbeats 4000000 in
theorem sX5_height_L24 {G : GG_} {p : Program} {l : Launch} {e : Env} {R : Room} {s : State} {m : MethodId} {args : Array Value} {below : List Frame} {meth : Method} {c : Code} (Y : MX_ G p R s m args meth c cX5_height 5 RX5 (some Jvm.ClassFile.FieldType.int) 6 130 0 0 "height") {post : Int32 → Prop} {x0 : Nat} {x1 : Int32} {x2 : Int32} {x3 : Int32} {x4 : Int32} {σ : Hp} (hf : wX5_height_L24 post x0 x1 x2 x3 x4 σ) : WG_ G p l e R s m args below meth c (MQ below (QI_ G (fun r τ => τ = σ ∧ post r)) args s 0 0 (FR_ G)) BN_ 5 24 [(0, rv_ x0), (1, .int x1), (2, .int x2), (3, .int x3), (4, .int x4)] [] σ := by
  unfold wX5_height_L24 at hf
  obtain ⟨I, μ, h0, hI⟩ := hf
  have key : ∀ (n : Nat) (x2 : Int32) (x4 : Int32), I x2 x4 → μ x2 x4 < n → WG_ G p l e R s m args below meth c (MQ below (QI_ G (fun r τ => τ = σ ∧ post r)) args s 0 0 (FR_ G)) BN_ 5 24 [(0, rv_ x0), (1, .int x1), (2, .int x2), (3, .int x3), (4, .int x4)] [] σ := by
    intro n
    induction n with
    | zero => intro x2 x4 _ h; exact absurd h (Nat.not_lt_zero _)
    | succ n ih => intro x2 x4 hi hn; exact sX5_height_B24 Y (fun x2' x4' h => ih x2' x4' h.1 (Nat.lt_of_lt_of_le h.2 (Nat.le_of_lt_succ hn))) (hI x2 x4 hi)
  exact key _ _ _ h0 (Nat.lt_succ_self _)
set_option maxHeartbeats 4000000 in
theorem sX5_height {G : GG_} {p : Program} {l : Launch} {e : Env} {R : Room} {s : State} {m : MethodId} {args : Array Value} {below : List Frame} {meth : Method} {c : Code} (Y : MX_ G p R s m args meth c cX5_height 5 RX5 (some Jvm.ClassFile.FieldType.int) 6 130 0 0 "height") {post : Int32 → Prop} {x0 : Nat} {x1 : Int32} {σ : Hp} (hf : wX5_height x0 x1 σ post) : WG_ G p l e R s m args below meth c (MQ below (QI_ G (fun r τ => τ = σ ∧ post r)) args s 0 0 (FR_ G)) BN_ 5 0 [(0, rv_ x0), (1, .int x1)] [] σ := by
  have ⟨X, hlk, hr, hRf, hRl, hRc, hnm⟩ := Y
  have ⟨⟨hx, hb, _, hown, hts⟩, _, _⟩ := X
  intro H locs cells slots ls hP hL hB hl
  obtain ⟨rfl, rfl⟩ := hB
  unfold wX5_height at hf
  refine p_aload_n hx hb dX5_height_0 rfl (lv_at hl 0 rfl) ?_
  refine lv_iload_n hx hb dX5_height_1 rfl (lv_at hl 1 rfl) ?_
  obtain ⟨ht20, hf⟩ := hf
  refine p_callr hL (p_runV X cf4_ hP ht20 (metX5_find l G _ _ _ _ X.2.2 hf) (cwV 1 hts (lw_V q740 q716 q717 q92 q718) rfl rfl rfl (by decide +kernel) ⟨Nat.le_trans (Nat.le_of_ble_eq_true rfl) hRf, Nat.le_trans (Nat.le_of_ble_eq_true rfl) hRl⟩) rfl hl.1 rfl (by decide) dX5_height_2 ⟨Nat.zero_le _, Nat.zero_le _⟩) (fun r21 σ₁ H locs hf hP hL => ?_)
  obtain ⟨e₁, hf⟩ := hf
  rw [e₁] at hP
  obtain ⟨ht22, hf⟩ := hf
  refine p_gI X cf5_ (k := 1) (by decide) rfl hP ht22 q440 (fun _ h => h) dX5_height_5 ?_
  refine lv_if_ne (tgt := 13) hx hb dX5_height_8 (by decide) (fun c23 => ?_) (fun c23 => ?_)
  · have hf := hf.1 c23
    refine lv_iconst (v := 0) hx hb dX5_height_13 (by decide) ?_
    refine p_istore_n (i := 2) hx hb dX5_height_14 rfl hl (by decide) ⟨⟨ne_ rfl, Or.inl (ne_ rfl)⟩, ⟨⟨ne_ rfl, Or.inr rfl⟩, trivial⟩⟩ (fun ls hl => ?_)
    refine p_aload_n hx hb dX5_height_15 rfl (lv_at hl 1 rfl) ?_
    refine lv_iload_n hx hb dX5_height_16 rfl (lv_at hl 2 rfl) ?_
    refine p_calli hL (p_runV X cf4_ hP ht20 (metX5_depth l G _ _ _ _ X.2.2 hf) (cwV 1 hts (lw_V q798 q737 q738 q92 q739) rfl rfl rfl (by decide +kernel) ⟨Nat.le_trans (Nat.le_of_ble_eq_true rfl) hRf, Nat.le_trans (Nat.le_of_ble_eq_true rfl) hRl⟩) rfl hl.1 rfl (by decide) dX5_height_17 ⟨Nat.zero_le _, Nat.zero_le _⟩) (fun r24 σ₁ H locs hf hP hL => ?_)
    obtain ⟨e₁, hf⟩ := hf
    rw [e₁] at hP
    refine p_istore_n (i := 3) hx hb dX5_height_20 rfl hl (by decide) ⟨⟨ne_ rfl, Or.inr rfl⟩, ⟨⟨ne_ rfl, Or.inl (ne_ rfl)⟩, ⟨⟨ne_ rfl, Or.inl (ne_ rfl)⟩, trivial⟩⟩⟩ (fun ls hl => ?_)
    refine lv_iconst (v := 0) hx hb dX5_height_21 (by decide) ?_
    refine p_istore (i := 4) hx hb dX5_height_22 hl (by decide) ⟨⟨ne_ rfl, Or.inr rfl⟩, ⟨⟨ne_ rfl, Or.inl (ne_ rfl)⟩, ⟨⟨ne_ rfl, Or.inl (ne_ rfl)⟩, ⟨⟨ne_ rfl, Or.inl (ne_ rfl)⟩, trivial⟩⟩⟩⟩ (fun ls hl => ?_)
    exact sX5_height_L24 Y hf _ _ _ _ _ hP hL ⟨rfl, rfl⟩ (lv_sub hl [3, 4, 2, 1, 0] rfl)
  · have hf := hf.2 c23
    refine lv_iconst (v := 0) hx hb dX5_height_11 (by decide) ?_
    exact p_iret X hlk hP hL (Nat.le_refl _) (Nat.le_refl _) hr dX5_height_12 ⟨rfl, hf⟩
set_option maxHeartbeats 4000000 in
theorem metX5_height (l : Launch) (G : GG_) (x0 : Nat) (x1 : Int32) (σ : Hp) (post : Int32 → Prop) (hG : GOK_ G) (hf : wX5_height x0 x1 σ post) : Met l yX5_height (ws_ yX5_height cX5_height 5 (some Jvm.ClassFile.FieldType.int)) { frames := 6, cells := 0, slots := 0, locals := 130 } (PC_ G [rv_ x0, .int x1] σ) (QI_ G (fun r τ => τ = σ ∧ post r)) 0 0 (FR_ G) := by
  refine Met.ofW (cc := cX5_height) (maxL := 5) (ret := (some Jvm.ClassFile.FieldType.int)) (by decide) rfl ?_
  intro p e s m args below meth c s₁ B hml hv
  obtain ⟨rfl, hP, hW⟩ := hv
  have hts := atoms_spec (ws := ws_ yX5_height cX5_height 5 (some Jvm.ClassFile.FieldType.int)) B.pre
  have hts : ∀ w ∈ lw_all, w.before _ s = true := fun w h => hts w (List.mem_cons_of_mem _ h)
  rw [lg_entry_eq]
  have hl := en_entry [rv_ x0, .int x1] [1, 1] (n := 5) (ca_r (ca_i ca_n)) (by decide)
  exact sX5_height ⟨⟨⟨B.exec, B.bytes, hml, findClass_of_methodNamed B.named, hts⟩, hW, hG⟩, B.notSynchronized, B.returns, Nat.le_refl _, Nat.le_refl _, ⟨rfl, rfl⟩, (name_of_methodNamed B.named B.method).1⟩ hf _ _ _ _ _ hP (LO_nil G) ⟨rfl, rfl⟩ hl
abbrev cX1_rename : ByteArray := prog_1_method_15_code
def yX1_rename : MethodName := ⟨RX1, "rename", "(IIJ)I"⟩
theorem dX1_rename_0 : decode cX1_rename 0 = .ok (.aload_n 0, 1) := by decide +kernel
theorem dX1_rename_1 : decode cX1_rename 1 = .ok (.getfield 39, 3) := by decide +kernel
theorem dX1_rename_4 : decode cX1_rename 4 = .ok (.getfield 115, 3) := by decide +kernel
theorem dX1_rename_7 : decode cX1_rename 7 = .ok (.ifCond .eq 6, 3) := by decide +kernel
theorem dX1_rename_10 : decode cX1_rename 10 = .ok (.bipush (-4), 2) := by decide +kernel
theorem dX1_rename_12 : decode cX1_rename 12 = .ok (.ireturn, 1) := by decide +kernel
theorem dX1_rename_13 : decode cX1_rename 13 = .ok (.aload_n 0, 1) := by decide +kernel
theorem dX1_rename_14 : decode cX1_rename 14 = .ok (.getfield 55, 3) := by decide +kernel
theorem dX1_rename_17 : decode cX1_rename 17 = .ok (.iload_n 1, 1) := by decide +kernel
theorem dX1_rename_18 : decode cX1_rename 18 = .ok (.invokevirtual 105, 3) := by decide +kernel
theorem dX1_rename_21 : decode cX1_rename 21 = .ok (.astore 5, 2) := by decide +kernel
theorem dX1_rename_23 : decode cX1_rename 23 = .ok (.lload_n 3, 1) := by decide +kernel
theorem dX1_rename_24 : decode cX1_rename 24 = .ok (.invokestatic 138, 3) := by decide +kernel
theorem dX1_rename_27 : decode cX1_rename 27 = .ok (.astore 6, 2) := by decide +kernel
theorem dX1_rename_29 : decode cX1_rename 29 = .ok (.aload 5, 2) := by decide +kernel
theorem dX1_rename_31 : decode cX1_rename 31 = .ok (.ifnull 35, 3) := by decide +kernel
theorem dX1_rename_34 : decode cX1_rename 34 = .ok (.iload_n 1, 1) := by decide +kernel
theorem dX1_rename_35 : decode cX1_rename 35 = .ok (.ifCond .eq 31, 3) := by decide +kernel
theorem dX1_rename_38 : decode cX1_rename 38 = .ok (.aload_n 0, 1) := by decide +kernel
theorem dX1_rename_39 : decode cX1_rename 39 = .ok (.iload_n 2, 1) := by decide +kernel
theorem dX1_rename_40 : decode cX1_rename 40 = .ok (.invokevirtual 118, 3) := by decide +kernel
theorem dX1_rename_43 : decode cX1_rename 43 = .ok (.ifCond .eq 23, 3) := by decide +kernel
theorem dX1_rename_46 : decode cX1_rename 46 = .ok (.aload 6, 2) := by decide +kernel
theorem dX1_rename_48 : decode cX1_rename 48 = .ok (.invokevirtual 23, 3) := by decide +kernel
theorem dX1_rename_51 : decode cX1_rename 51 = .ok (.ifCond .eq 15, 3) := by decide +kernel
theorem dX1_rename_54 : decode cX1_rename 54 = .ok (.aload_n 0, 1) := by decide +kernel
theorem dX1_rename_55 : decode cX1_rename 55 = .ok (.getfield 55, 3) := by decide +kernel
theorem dX1_rename_58 : decode cX1_rename 58 = .ok (.iload_n 2, 1) := by decide +kernel
theorem dX1_rename_59 : decode cX1_rename 59 = .ok (.iload_n 1, 1) := by decide +kernel
theorem dX1_rename_60 : decode cX1_rename 60 = .ok (.invokevirtual 184, 3) := by decide +kernel
theorem dX1_rename_63 : decode cX1_rename 63 = .ok (.ifCond .eq 6, 3) := by decide +kernel
theorem dX1_rename_66 : decode cX1_rename 66 = .ok (.bipush (-2), 2) := by decide +kernel
theorem dX1_rename_68 : decode cX1_rename 68 = .ok (.ireturn, 1) := by decide +kernel
theorem dX1_rename_69 : decode cX1_rename 69 = .ok (.aload 5, 2) := by decide +kernel
theorem dX1_rename_71 : decode cX1_rename 71 = .ok (.getfield 109, 3) := by decide +kernel
theorem dX1_rename_74 : decode cX1_rename 74 = .ok (.ifCond .eq 30, 3) := by decide +kernel
theorem dX1_rename_77 : decode cX1_rename 77 = .ok (.aload_n 0, 1) := by decide +kernel
theorem dX1_rename_78 : decode cX1_rename 78 = .ok (.getfield 55, 3) := by decide +kernel
theorem dX1_rename_81 : decode cX1_rename 81 = .ok (.iload_n 2, 1) := by decide +kernel
theorem dX1_rename_82 : decode cX1_rename 82 = .ok (.invokevirtual 121, 3) := by decide +kernel
theorem dX1_rename_85 : decode cX1_rename 85 = .ok (.iconst 1, 1) := by decide +kernel
theorem dX1_rename_86 : decode cX1_rename 86 = .ok (.iadd, 1) := by decide +kernel
theorem dX1_rename_87 : decode cX1_rename 87 = .ok (.aload_n 0, 1) := by decide +kernel
theorem dX1_rename_88 : decode cX1_rename 88 = .ok (.getfield 55, 3) := by decide +kernel
theorem dX1_rename_91 : decode cX1_rename 91 = .ok (.iload_n 1, 1) := by decide +kernel
theorem dX1_rename_92 : decode cX1_rename 92 = .ok (.invokevirtual 187, 3) := by decide +kernel
theorem dX1_rename_95 : decode cX1_rename 95 = .ok (.iadd, 1) := by decide +kernel
theorem dX1_rename_96 : decode cX1_rename 96 = .ok (.bipush 6, 2) := by decide +kernel
theorem dX1_rename_98 : decode cX1_rename 98 = .ok (.if_icmp .le 6, 3) := by decide +kernel
theorem dX1_rename_101 : decode cX1_rename 101 = .ok (.bipush (-2), 2) := by decide +kernel
theorem dX1_rename_103 : decode cX1_rename 103 = .ok (.ireturn, 1) := by decide +kernel
theorem dX1_rename_104 : decode cX1_rename 104 = .ok (.aload_n 0, 1) := by decide +kernel
theorem dX1_rename_105 : decode cX1_rename 105 = .ok (.getfield 55, 3) := by decide +kernel
theorem dX1_rename_108 : decode cX1_rename 108 = .ok (.iload_n 2, 1) := by decide +kernel
theorem dX1_rename_109 : decode cX1_rename 109 = .ok (.aload 6, 2) := by decide +kernel
theorem dX1_rename_111 : decode cX1_rename 111 = .ok (.iload_n 1, 1) := by decide +kernel
theorem dX1_rename_112 : decode cX1_rename 112 = .ok (.invokevirtual 125, 3) := by decide +kernel
theorem dX1_rename_115 : decode cX1_rename 115 = .ok (.ifCond .eq 6, 3) := by decide +kernel
theorem dX1_rename_118 : decode cX1_rename 118 = .ok (.bipush (-5), 2) := by decide +kernel
theorem dX1_rename_120 : decode cX1_rename 120 = .ok (.ireturn, 1) := by decide +kernel
theorem dX1_rename_121 : decode cX1_rename 121 = .ok (.aload 5, 2) := by decide +kernel
theorem dX1_rename_123 : decode cX1_rename 123 = .ok (.iload_n 2, 1) := by decide +kernel
theorem dX1_rename_124 : decode cX1_rename 124 = .ok (.putfield 190, 3) := by decide +kernel
theorem dX1_rename_127 : decode cX1_rename 127 = .ok (.aload 5, 2) := by decide +kernel
theorem dX1_rename_129 : decode cX1_rename 129 = .ok (.aload 6, 2) := by decide +kernel
theorem dX1_rename_131 : decode cX1_rename 131 = .ok (.invokevirtual 193, 3) := by decide +kernel
theorem dX1_rename_134 : decode cX1_rename 134 = .ok (.iconst 0, 1) := by decide +kernel
theorem dX1_rename_135 : decode cX1_rename 135 = .ok (.ireturn, 1) := by decide +kernel
/-- WriteOnceDisc.rename(IIJ)I -/
def wX1_rename_L104 (post : Int32 → Hp → Prop) (x0 : Nat) (x1 : Int32) (x2 : Int32) (x5 : Nat) (x6 : Nat) (σ : Hp) : Prop :=
(tg_ σ x0 = 1 ∧ (tg_ σ (fR_ σ 0 4 x0) = 5 ∧ (wX5_isNamed (fR_ σ 0 4 x0) x2 x6 x1 σ (fun r3 => ((r3 = 0 →
  (tg_ σ x5 = 6 ∧ (∀ σ6, σ6 = sI_ σ 5 2 x5 x2 → (∃ mc7 ms8 : Nat, (mc7 ≤ bc_ σ6 ∧ (ms8 ≤ bs_ σ6 ∧ (wX6_call x5 x6 (bu_ σ6 mc7 ms8) (fun σ11 => (∀ σ12, σ12 = bu_ σ11 (bc_ σ6 - mc7) (bs_ σ6 - ms8) → post (0 : Int32) σ12))))))))) ∧
 (¬ r3 = 0 →
  post (-5 : Int32) σ))))))
def wX1_rename (x0 : Nat) (x1 : Int32) (x2 : Int32) (x3 : Int64) (σ : Hp) (post : Int32 → Hp → Prop) : Prop :=
(tg_ σ x0 = 1 ∧ (tg_ σ (fR_ σ 0 0 x0) = 2 ∧ (((fI_ σ 1 2 (fR_ σ 0 0 x0)) = 0 →
  (tg_ σ (fR_ σ 0 4 x0) = 5 ∧ (wX5_find (fR_ σ 0 4 x0) x1 σ (fun r17 => (∃ mc18 ms19 : Nat, (mc18 ≤ bc_ σ ∧ (ms19 ≤ bs_ σ ∧ (wX1_nameOf x3 (bu_ σ mc18 ms19) (fun r22 σ23 => (∀ σ24, σ24 = bu_ σ23 (bc_ σ - mc18) (bs_ σ - ms19) → ((r17 = 0 →
   post (-2 : Int32) σ24) ∧
  (¬ r17 = 0 →
   ((x1 = 0 →
    post (-2 : Int32) σ24) ∧
   (¬ x1 = 0 →
    (tg_ σ24 x0 = 1 ∧ (wX1_isDirectory x0 x2 σ24 (fun r28 => ((r28 = 0 →
     post (-2 : Int32) σ24) ∧
    (¬ r28 = 0 →
     (tg_ σ24 r22 = 13 ∧ (wJ5_length r22  σ24 (fun r31 => ((r31 = 0 →
      post (-2 : Int32) σ24) ∧
     (¬ r31 = 0 →
      (tg_ σ24 (fR_ σ24 0 4 x0) = 5 ∧ (wX5_isIn (fR_ σ24 0 4 x0) x2 x1 σ24 (fun r34 => ((r34 = 0 →
       (tg_ σ24 r17 = 6 ∧ (((fI_ σ24 5 1 r17) = 0 →
        wX1_rename_L104 post x0 x1 x2 r17 r22 σ24) ∧
       (¬ (fI_ σ24 5 1 r17) = 0 →
        (wX5_depth (fR_ σ24 0 4 x0) x2 σ24 (fun r38 => (wX5_height (fR_ σ24 0 4 x0) x1 σ24 (fun r39 => ((((r38 + (1 : Int32)) + r39) ≤ (6 : Int32) →
         wX1_rename_L104 post x0 x1 x2 r17 r22 σ24) ∧
        (¬ ((r38 + (1 : Int32)) + r39) ≤ (6 : Int32) →
         post (-2 : Int32) σ24)))))))))) ∧
      (¬ r34 = 0 →
       post (-2 : Int32) σ24))))))))))))))))))))))))))))) ∧
 (¬ (fI_ σ 1 2 (fR_ σ 0 0 x0)) = 0 →
  post (-4 : Int32) σ))))
set_option maxHeartbeats 4000000 in
theorem sX1_rename_L104 {G : GG_} {p : Program} {l : Launch} {e : Env} {R : Room} {s : State} {m : MethodId} {args : Array Value} {below : List Frame} {meth : Method} {c : Code} {mc ms : Nat} (Y : MX_ G p R s m args meth c cX1_rename 7 RX1 (some Jvm.ClassFile.FieldType.int) 8 183 mc ms "rename") {post : Int32 → Hp → Prop} {x0 : Nat} {x1 : Int32} {x2 : Int32} {x5 : Nat} {x6 : Nat} {σ : Hp} (hf : wX1_rename_L104 post x0 x1 x2 x5 x6 σ) : WG_ G p l e R s m args below meth c (MQ below (QI_ G post) args s mc ms (FR_ G)) (BU_ R) 7 104 [(0, rv_ x0), (1, .int x1), (2, .int x2), (5, rv_ x5), (6, rv_ x6)] [] σ := by
  have ⟨X, hlk, hr, hRf, hRl, hRc, hnm⟩ := Y
  have ⟨⟨hx, hb, _, hown, hts⟩, _, _⟩ := X
  intro H locs cells slots ls hP hL hB hl
  unfold wX1_rename_L104 at hf
  refine p_aload_n hx hb dX1_rename_104 rfl (lv_at hl 0 rfl) ?_
  obtain ⟨ht1, hf⟩ := hf
  refine p_gR X cf0_ (k := 4) (by decide) rfl hP ht1 q630 (fun _ h => h) dX1_rename_105 ?_
  refine lv_iload_n hx hb dX1_rename_108 rfl (lv_at hl 2 rfl) ?_
  refine p_aload hx hb dX1_rename_109 (lv_at hl 4 rfl) ?_
  refine lv_iload_n hx hb dX1_rename_111 rfl (lv_at hl 1 rfl) ?_
  obtain ⟨ht2, hf⟩ := hf
  refine p_calli hL (p_runV X cf4_ hP ht2 (metX5_isNamed l G _ _ _ _ _ _ X.2.2 hf) (cwV 3 hts (lw_V q741 q742 q743 q92 q744) rfl rfl rfl (by decide +kernel) ⟨Nat.le_trans (Nat.le_of_ble_eq_true rfl) hRf, Nat.le_trans (Nat.le_of_ble_eq_true rfl) hRl⟩) rfl hl.1 rfl (by decide) dX1_rename_112 (BU_call hB (Nat.zero_le _) (Nat.zero_le _))) (fun r3 σ₁ H locs hf hP hL => ?_)
  obtain ⟨e₁, hf⟩ := hf
  rw [e₁] at hP
  refine lv_if_eq (tgt := 121) hx hb dX1_rename_115 (by decide) (fun c4 => ?_) (fun c4 => ?_)
  · have hf := hf.1 c4
    refine p_aload hx hb dX1_rename_121 (lv_at hl 3 rfl) ?_
    refine lv_iload_n hx hb dX1_rename_123 rfl (lv_at hl 2 rfl) ?_
    obtain ⟨ht5, hf⟩ := hf
    refine p_pI X cf5_ (k := 2) (by decide) rfl hP hL ht5 (p_ow hP ht5 rfl) q446 (fun _ h => h) (Or.inl rfl) rfl rfl dX1_rename_124 (fun H locs hP hL => ?_)
    refine p_nmPB hP hB (fun σ6 hσ6 hP hB => ?_)
    have hf := hf σ6 hσ6
    have ht1 : tg_ σ6 x0 = 1 := by rw [hσ6]; exact ht1
    have ht5 : tg_ σ6 x5 = 6 := by rw [hσ6]; exact ht5
    refine p_aload hx hb dX1_rename_127 (lv_at hl 3 rfl) ?_
    refine p_aload hx hb dX1_rename_129 (lv_at hl 4 rfl) ?_
    obtain ⟨mc7, ms8, hf⟩ := hf
    obtain ⟨hb9, hf⟩ := hf
    obtain ⟨hb10, hf⟩ := hf
    refine p_callv hL (p_runV X cf5_ (Pic_bu hP mc7 ms8) ht5 (metX6_call l G _ _ _ _ _ _ X.2.2 hf) (cwV 1 hts (lw_V q801 q220 q221 q93 q222) rfl rfl rfl (by decide +kernel) ⟨Nat.le_trans (Nat.le_of_ble_eq_true rfl) hRf, Nat.le_trans (Nat.le_of_ble_eq_true rfl) hRl⟩) rfl hl.1 rfl (by decide) dX1_rename_131 (BU_call hB hb9 hb10)) (fun σ11 H locs hf hP hL => ?_)
    have hB := BU_back (τ := σ11) hB hb9 hb10
    have hP := Pic_bu hP (bc_ σ6 - mc7) (bs_ σ6 - ms8)
    refine p_nmPB hP hB (fun σ12 hσ12 hP hB => ?_)
    have hf := hf σ12 hσ12
    refine lv_iconst (v := 0) hx hb dX1_rename_134 (by decide) ?_
    exact p_iret X hlk hP hL (BU_le hB hRc).1 (BU_le hB hRc).2 hr dX1_rename_135 hf
  · have hf := hf.2 c4
    refine lv_bipush (v := (-5)) hx hb dX1_rename_118 (by decide) ?_
    exact p_iret X hlk hP hL (BU_le hB hRc).1 (BU_le hB hRc).2 hr dX1_rename_120 hf
set_option maxHeartbeats 4000000 in
theorem sX1_rename {G : GG_} {p : Program} {l : Launch} {e : Env} {R : Room} {s : State} {m : MethodId} {args : Array Value} {below : List Frame} {meth : Method} {c : Code} {mc ms : Nat} (Y : MX_ G p R s m args meth c cX1_rename 7 RX1 (some Jvm.ClassFile.FieldType.int) 8 183 mc ms "rename") {post : Int32 → Hp → Prop} {x0 : Nat} {x1 : Int32} {x2 : Int32} {x3 : Int64} {σ : Hp} (hf : wX1_rename x0 x1 x2 x3 σ post) : WG_ G p l e R s m args below meth c (MQ below (QI_ G post) args s mc ms (FR_ G)) (BU_ R) 7 0 [(0, rv_ x0), (1, .int x1), (2, .int x2), (3, .long x3)] [] σ := by
  have ⟨X, hlk, hr, hRf, hRl, hRc, hnm⟩ := Y
  have ⟨⟨hx, hb, _, hown, hts⟩, _, _⟩ := X
  intro H locs cells slots ls hP hL hB hl
  unfold wX1_rename at hf
  refine p_aload_n hx hb dX1_rename_0 rfl (lv_at hl 0 rfl) ?_
  obtain ⟨ht13, hf⟩ := hf
  refine p_gR X cf0_ (k := 0) (by decide) rfl hP ht13 q626 (fun _ h => h) dX1_rename_1 ?_
  obtain ⟨ht14, hf⟩ := hf
  refine p_gI X cf1_ (k := 2) (by decide) rfl hP ht14 q133 (fun _ h => h) dX1_rename_4 ?_
  refine lv_if_eq (tgt := 13) hx hb dX1_rename_7 (by decide) (fun c15 => ?_) (fun c15 => ?_)
  · have hf := hf.1 c15
    refine p_aload_n hx hb dX1_rename_13 rfl (lv_at hl 0 rfl) ?_
    refine p_gR X cf0_ (k := 4) (by decide) rfl hP ht13 q630 (fun _ h => h) dX1_rename_14 ?_
    refine lv_iload_n hx hb dX1_rename_17 rfl (lv_at hl 1 rfl) ?_
    obtain ⟨ht16, hf⟩ := hf
    refine p_callr hL (p_runV X cf4_ hP ht16 (metX5_find l G _ _ _ _ X.2.2 hf) (cwV 1 hts (lw_V q715 q716 q717 q92 q718) rfl rfl rfl (by decide +kernel) ⟨Nat.le_trans (Nat.le_of_ble_eq_true rfl) hRf, Nat.le_trans (Nat.le_of_ble_eq_true rfl) hRl⟩) rfl hl.1 rfl (by decide) dX1_rename_18 (BU_call hB (Nat.zero_le _) (Nat.zero_le _))) (fun r17 σ₁ H locs hf hP hL => ?_)
    obtain ⟨e₁, hf⟩ := hf
    rw [e₁] at hP
    refine p_astore (i := 5) hx hb dX1_rename_21 hl (by decide) ⟨⟨ne_ rfl, Or.inl (ne_ rfl)⟩, ⟨⟨ne_ rfl, Or.inl (ne_ rfl)⟩, ⟨⟨ne_ rfl, Or.inl (ne_ rfl)⟩, ⟨⟨ne_ rfl, Or.inl (ne_ rfl)⟩, trivial⟩⟩⟩⟩ (fun ls hl => ?_)
    refine lv_lload_n hx hb dX1_rename_23 rfl (lv_at hl 4 rfl) ?_
    obtain ⟨mc18, ms19, hf⟩ := hf
    obtain ⟨hb20, hf⟩ := hf
    obtain ⟨hb21, hf⟩ := hf
    refine p_callr hL (p_runS X (Pic_bu hP mc18 ms19) (metX1_nameOf l G _ _ _ _ _ X.2.2 hf) (va_cwS 1 hts (lw_S q675 q676 q85 q677) rfl rfl rfl (by decide +kernel) ⟨Nat.le_trans (Nat.le_of_ble_eq_true rfl) hRf, Nat.le_trans (Nat.le_of_ble_eq_true rfl) hRl⟩) rfl hl.1 rfl (by decide) dX1_rename_24 (BU_call hB hb20 hb21)) (fun r22 σ23 H locs hf hP hL => ?_)
    have hB := BU_back (τ := σ23) hB hb20 hb21
    have hP := Pic_bu hP (bc_ σ - mc18) (bs_ σ - ms19)
    refine p_nmPB hP hB (fun σ24 hσ24 hP hB => ?_)
    have hf := hf σ24 hσ24
    have hl := lv_sub hl [0, 1, 2, 3] rfl
    refine p_astore (i := 6) hx hb dX1_rename_27 hl (by decide) ⟨⟨ne_ rfl, Or.inr (rv_cat _)⟩, ⟨⟨ne_ rfl, Or.inl (ne_ rfl)⟩, ⟨⟨ne_ rfl, Or.inl (ne_ rfl)⟩, ⟨⟨ne_ rfl, Or.inl (ne_ rfl)⟩, trivial⟩⟩⟩⟩ (fun ls hl => ?_)
    refine p_aload hx hb dX1_rename_29 (lv_at hl 1 rfl) ?_
    refine p_ifnull (tgt := 66) hx hb dX1_rename_31 (by decide) (fun c25 => ?_) (fun c25 => ?_)
    · have hf := hf.1 c25
      refine lv_bipush (v := (-2)) hx hb dX1_rename_66 (by decide) ?_
      exact p_iret X hlk hP hL (BU_le hB hRc).1 (BU_le hB hRc).2 hr dX1_rename_68 hf
    · have hf := hf.2 c25
      refine lv_iload_n hx hb dX1_rename_34 rfl (lv_at hl 3 rfl) ?_
      refine lv_if_eq (tgt := 66) hx hb dX1_rename_35 (by decide) (fun c26 => ?_) (fun c26 => ?_)
      · have hf := hf.1 c26
        refine lv_bipush (v := (-2)) hx hb dX1_rename_66 (by decide) ?_
        exact p_iret X hlk hP hL (BU_le hB hRc).1 (BU_le hB hRc).2 hr dX1_rename_68 hf
      · have hf := hf.2 c26
        refine p_aload_n hx hb dX1_rename_38 rfl (lv_at hl 2 rfl) ?_
        refine lv_iload_n hx hb dX1_rename_39 rfl (lv_at hl 4 rfl) ?_
        obtain ⟨ht27, hf⟩ := hf
        refine p_calli hL (p_runV X cf0_ hP ht27 (metX1_isDirectory l G _ _ _ _ X.2.2 hf) (cwV 1 hts (lw_V q711 q713 qs4 q85 q714) rfl rfl rfl (by decide +kernel) ⟨Nat.le_trans (Nat.le_of_ble_eq_true rfl) hRf, Nat.le_trans (Nat.le_of_ble_eq_true rfl) hRl⟩) rfl hl.1 rfl (by decide) dX1_rename_40 (BU_call hB (Nat.zero_le _) (Nat.zero_le _))) (fun r28 σ₁ H locs hf hP hL => ?_)
        obtain ⟨e₁, hf⟩ := hf
        rw [e₁] at hP
        refine lv_if_eq (tgt := 66) hx hb dX1_rename_43 (by decide) (fun c29 => ?_) (fun c29 => ?_)
        · have hf := hf.1 c29
          refine lv_bipush (v := (-2)) hx hb dX1_rename_66 (by decide) ?_
          exact p_iret X hlk hP hL (BU_le hB hRc).1 (BU_le hB hRc).2 hr dX1_rename_68 hf
        · have hf := hf.2 c29
          refine p_aload hx hb dX1_rename_46 (lv_at hl 0 rfl) ?_
          obtain ⟨ht30, hf⟩ := hf
          refine p_calli hL (p_runV X cf12_ hP ht30 (metJ5_length l G _ _ _ X.2.2 hf) (cwV 0 hts (lw_V q735 q332 q333 q96 q334) rfl rfl rfl (by decide +kernel) ⟨Nat.le_trans (Nat.le_of_ble_eq_true rfl) hRf, Nat.le_trans (Nat.le_of_ble_eq_true rfl) hRl⟩) rfl hl.1 rfl (by decide) dX1_rename_48 (BU_call hB (Nat.zero_le _) (Nat.zero_le _))) (fun r31 σ₁ H locs hf hP hL => ?_)
          obtain ⟨e₁, hf⟩ := hf
          rw [e₁] at hP
          refine lv_if_eq (tgt := 66) hx hb dX1_rename_51 (by decide) (fun c32 => ?_) (fun c32 => ?_)
          · have hf := hf.1 c32
            refine lv_bipush (v := (-2)) hx hb dX1_rename_66 (by decide) ?_
            exact p_iret X hlk hP hL (BU_le hB hRc).1 (BU_le hB hRc).2 hr dX1_rename_68 hf
          · have hf := hf.2 c32
            refine p_aload_n hx hb dX1_rename_54 rfl (lv_at hl 2 rfl) ?_
            refine p_gR X cf0_ (k := 4) (by decide) rfl hP ht27 q630 (fun _ h => h) dX1_rename_55 ?_
            refine lv_iload_n hx hb dX1_rename_58 rfl (lv_at hl 4 rfl) ?_
            refine lv_iload_n hx hb dX1_rename_59 rfl (lv_at hl 3 rfl) ?_
            obtain ⟨ht33, hf⟩ := hf
            refine p_calli hL (p_runV X cf4_ hP ht33 (metX5_isIn l G _ _ _ _ _ X.2.2 hf) (cwV 2 hts (lw_V q790 q791 q792 q92 q793) rfl rfl rfl (by decide +kernel) ⟨Nat.le_trans (Nat.le_of_ble_eq_true rfl) hRf, Nat.le_trans (Nat.le_of_ble_eq_true rfl) hRl⟩) rfl hl.1 rfl (by decide) dX1_rename_60 (BU_call hB (Nat.zero_le _) (Nat.zero_le _))) (fun r34 σ₁ H locs hf hP hL => ?_)
            obtain ⟨e₁, hf⟩ := hf
            rw [e₁] at hP
            refine lv_if_eq (tgt := 69) hx hb dX1_rename_63 (by decide) (fun c35 => ?_) (fun c35 => ?_)
            · have hf := hf.1 c35
              refine p_aload hx hb dX1_rename_69 (lv_at hl 1 rfl) ?_
              obtain ⟨ht36, hf⟩ := hf
              refine p_gI X cf5_ (k := 1) (by decide) rfl hP ht36 q441 (fun _ h => h) dX1_rename_71 ?_
              refine lv_if_eq (tgt := 104) hx hb dX1_rename_74 (by decide) (fun c37 => ?_) (fun c37 => ?_)
              · have hf := hf.1 c37
                exact sX1_rename_L104 Y hf _ _ _ _ _ hP hL hB (lv_sub hl [2, 3, 4, 1, 0] rfl)
              · have hf := hf.2 c37
                refine p_aload_n hx hb dX1_rename_77 rfl (lv_at hl 2 rfl) ?_
                refine p_gR X cf0_ (k := 4) (by decide) rfl hP ht27 q630 (fun _ h => h) dX1_rename_78 ?_
                refine lv_iload_n hx hb dX1_rename_81 rfl (lv_at hl 4 rfl) ?_
                refine p_calli hL (p_runV X cf4_ hP ht33 (metX5_depth l G _ _ _ _ X.2.2 hf) (cwV 1 hts (lw_V q736 q737 q738 q92 q739) rfl rfl rfl (by decide +kernel) ⟨Nat.le_trans (Nat.le_of_ble_eq_true rfl) hRf, Nat.le_trans (Nat.le_of_ble_eq_true rfl) hRl⟩) rfl hl.1 rfl (by decide) dX1_rename_82 (BU_call hB (Nat.zero_le _) (Nat.zero_le _))) (fun r38 σ₁ H locs hf hP hL => ?_)
                obtain ⟨e₁, hf⟩ := hf
                rw [e₁] at hP
                refine lv_iconst (v := 1) hx hb dX1_rename_85 (by decide) ?_
                refine lv_iadd hx hb dX1_rename_86 ?_
                refine p_aload_n hx hb dX1_rename_87 rfl (lv_at hl 2 rfl) ?_
                refine p_gR X cf0_ (k := 4) (by decide) rfl hP ht27 q630 (fun _ h => h) dX1_rename_88 ?_
                refine lv_iload_n hx hb dX1_rename_91 rfl (lv_at hl 3 rfl) ?_
                refine p_calli hL (p_runV X cf4_ hP ht33 (metX5_height l G _ _ _ _ X.2.2 hf) (cwV 1 hts (lw_V q794 q795 q796 q92 q797) rfl rfl rfl (by decide +kernel) ⟨Nat.le_trans (Nat.le_of_ble_eq_true rfl) hRf, Nat.le_trans (Nat.le_of_ble_eq_true rfl) hRl⟩) rfl hl.1 rfl (by rw [(ca_i ca_n)]; decide) dX1_rename_92 (BU_call hB (Nat.zero_le _) (Nat.zero_le _))) (fun r39 σ₁ H locs hf hP hL => ?_)
                obtain ⟨e₁, hf⟩ := hf
                rw [e₁] at hP
                refine lv_iadd hx hb dX1_rename_95 ?_
                refine lv_bipush (v := 6) hx hb dX1_rename_96 (by decide) ?_
                refine lv_icmp_le (tgt := 104) hx hb dX1_rename_98 (by decide) (fun c40 => ?_) (fun c40 => ?_)
                · have hf := hf.1 c40
                  exact sX1_rename_L104 Y hf _ _ _ _ _ hP hL hB (lv_sub hl [2, 3, 4, 1, 0] rfl)
                · have hf := hf.2 c40
                  refine lv_bipush (v := (-2)) hx hb dX1_rename_101 (by decide) ?_
                  exact p_iret X hlk hP hL (BU_le hB hRc).1 (BU_le hB hRc).2 hr dX1_rename_103 hf
            · have hf := hf.2 c35
              refine lv_bipush (v := (-2)) hx hb dX1_rename_66 (by decide) ?_
              exact p_iret X hlk hP hL (BU_le hB hRc).1 (BU_le hB hRc).2 hr dX1_rename_68 hf
  · have hf := hf.2 c15
    refine lv_bipush (v := (-4)) hx hb dX1_rename_10 (by decide) ?_
    exact p_iret X hlk hP hL (BU_le hB hRc).1 (BU_le hB hRc).2 hr dX1_rename_12 hf
set_option maxHeartbeats 4000000 in
theorem metX1_rename (l : Launch) (G : GG_) (mc ms : Nat) (x0 : Nat) (x1 : Int32) (x2 : Int32) (x3 : Int64) (σ : Hp) (post : Int32 → Hp → Prop) (hG : GOK_ G) (hf : wX1_rename x0 x1 x2 x3 (bu_ σ mc ms) post) : Met l yX1_rename (ws_ yX1_rename cX1_rename 7 (some Jvm.ClassFile.FieldType.int)) { frames := 8, cells := mc, slots := ms, locals := 183 } (PC_ G [rv_ x0, .int x1, .int x2, .long x3] (bu_ σ mc ms)) (QI_ G post) mc ms (FR_ G) := by
  refine Met.ofW (cc := cX1_rename) (maxL := 7) (ret := (some Jvm.ClassFile.FieldType.int)) (by decide) rfl ?_
  intro p e s m args below meth c s₁ B hml hv
  obtain ⟨rfl, hP, hW⟩ := hv
  have hts := atoms_spec (ws := ws_ yX1_rename cX1_rename 7 (some Jvm.ClassFile.FieldType.int)) B.pre
  have hts : ∀ w ∈ lw_all, w.before _ s = true := fun w h => hts w (List.mem_cons_of_mem _ h)
  rw [lg_entry_eq]
  have hl := en_entry [rv_ x0, .int x1, .int x2, .long x3] [1, 1, 1, 2] (n := 7) (ca_r (ca_i (ca_i (ca_l ca_n)))) (by decide)
  exact sX1_rename ⟨⟨⟨B.exec, B.bytes, hml, findClass_of_methodNamed B.named, hts⟩, hW, hG⟩, B.notSynchronized, B.returns, Nat.le_refl _, Nat.le_refl _, ⟨rfl, rfl⟩, (name_of_methodNamed B.named B.method).1⟩ hf _ _ _ _ _ hP (LO_nil G) (BU_in ⟨rfl, rfl⟩) hl
abbrev cX7_front : ByteArray := prog_4_method_3_code
def yX7_front : MethodName := ⟨RX7, "front", "()I"⟩
theorem dX7_front_0 : decode cX7_front 0 = .ok (.aload_n 0, 1) := by decide +kernel
theorem dX7_front_1 : decode cX7_front 1 = .ok (.getfield 9, 3) := by decide +kernel
theorem dX7_front_4 : decode cX7_front 4 = .ok (.istore_n 1, 1) := by decide +kernel
theorem dX7_front_5 : decode cX7_front 5 = .ok (.iload_n 1, 1) := by decide +kernel
theorem dX7_front_6 : decode cX7_front 6 = .ok (.ifCond .le 20, 3) := by decide +kernel
theorem dX7_front_9 : decode cX7_front 9 = .ok (.aload_n 0, 1) := by decide +kernel
theorem dX7_front_10 : decode cX7_front 10 = .ok (.getfield 19, 3) := by decide +kernel
theorem dX7_front_13 : decode cX7_front 13 = .ok (.iload_n 1, 1) := by decide +kernel
theorem dX7_front_14 : decode cX7_front 14 = .ok (.iconst 1, 1) := by decide +kernel
theorem dX7_front_15 : decode cX7_front 15 = .ok (.isub, 1) := by decide +kernel
theorem dX7_front_16 : decode cX7_front 16 = .ok (.iaload, 1) := by decide +kernel
theorem dX7_front_17 : decode cX7_front 17 = .ok (.ifCond .ne 9, 3) := by decide +kernel
theorem dX7_front_20 : decode cX7_front 20 = .ok (.iinc 1 (-1), 3) := by decide +kernel
theorem dX7_front_23 : decode cX7_front 23 = .ok (.goto (-18), 3) := by decide +kernel
theorem dX7_front_26 : decode cX7_front 26 = .ok (.iload_n 1, 1) := by decide +kernel
theorem dX7_front_27 : decode cX7_front 27 = .ok (.ireturn, 1) := by decide +kernel
/-- WriteOnceDisc$Medium.front()I -/
def wX7_front_B5 (post : Int32 → Prop) (rc5 : Int32 → Prop) (x0 : Nat) (x1 : Int32) (σ : Hp) : Prop :=
((x1 ≤ 0 →
  post x1) ∧
 (¬ x1 ≤ 0 →
  (tg_ σ x0 = 7 ∧ (tg_ σ (fR_ σ 6 2 x0) = 102 ∧ (vp_in (x1 - (1 : Int32)) (ln_ σ (fR_ σ 6 2 x0)) ∧ ((¬ (aI_ σ (fR_ σ 6 2 x0) ((x1 - (1 : Int32))).toNatClampNeg) = 0 →
   post x1) ∧
  ((aI_ σ (fR_ σ 6 2 x0) ((x1 - (1 : Int32))).toNatClampNeg) = 0 →
   (∀ y6 : Int32, y6 = x1 + (-1) → rc5 y6))))))))
def wX7_front_L5 (post : Int32 → Prop) (x0 : Nat) (x1 : Int32) (σ : Hp) : Prop :=
 ∃ (I : Int32 → Prop) (μ : Int32 → Nat), I x1 ∧ ∀ (x1 : Int32), I x1 → wX7_front_B5 post (fun x1' => I x1' ∧ μ x1' < μ x1) x0 x1 σ
def wX7_front (x0 : Nat) (σ : Hp) (post : Int32 → Prop) : Prop :=
(tg_ σ x0 = 7 ∧ (∀ y8 : Int32, y8 = (fI_ σ 6 0 x0) → wX7_front_L5 post x0 y8 σ))
set_option maxHeartbeats 4000000 in
theorem sX7_front_B5 {G : GG_} {p : Program} {l : Launch} {e : Env} {R : Room} {s : State} {m : MethodId} {args : Array Value} {below : List Frame} {meth : Method} {c : Code} (Y : MX_ G p R s m args meth c cX7_front 2 RX7 (some Jvm.ClassFile.FieldType.int) 1 20 0 0 "front") {post : Int32 → Prop} {rc5 : Int32 → Prop} {x0 : Nat} {x1 : Int32} {σ : Hp} (hrc5 : ∀ (x1 : Int32), rc5 x1 → WG_ G p l e R s m args below meth c (MQ below (QI_ G (fun r τ => τ = σ ∧ post r)) args s 0 0 (FR_ G)) BN_ 2 5 [(0, rv_ x0), (1, .int x1)] [] σ) (hf : wX7_front_B5 post rc5 x0 x1 σ) : WG_ G p l e R s m args below meth c (MQ below (QI_ G (fun r τ => τ = σ ∧ post r)) args s 0 0 (FR_ G)) BN_ 2 5 [(0, rv_ x0), (1, .int x1)] [] σ := by
  have ⟨X, hlk, hr, hRf, hRl, hRc, hnm⟩ := Y
  have ⟨⟨hx, hb, _, hown, hts⟩, _, _⟩ := X
  intro H locs cells slots ls hP hL hB hl
  obtain ⟨rfl, rfl⟩ := hB
  unfold wX7_front_B5 at hf
  refine lv_iload_n hx hb dX7_front_5 rfl (lv_at hl 1 rfl) ?_
  refine lv_if_le (tgt := 26) hx hb dX7_front_6 (by decide) (fun c1 => ?_) (fun c1 => ?_)
  · have hf := hf.1 c1
    refine lv_iload_n hx hb dX7_front_26 rfl (lv_at hl 1 rfl) ?_
    exact p_iret X hlk hP hL (Nat.le_refl _) (Nat.le_refl _) hr dX7_front_27 ⟨rfl, hf⟩
  · have hf := hf.2 c1
    refine p_aload_n hx hb dX7_front_9 rfl (lv_at hl 0 rfl) ?_
    obtain ⟨ht2, hf⟩ := hf
    refine p_gR X cf6_ (k := 2) (by decide) rfl hP ht2 q563 (fun _ h => h) dX7_front_10 ?_
    refine lv_iload_n hx hb dX7_front_13 rfl (lv_at hl 1 rfl) ?_
    refine lv_iconst (v := 1) hx hb dX7_front_14 (by decide) ?_
    refine lv_isub hx hb dX7_front_15 ?_
    obtain ⟨ht3, hf⟩ := hf
    obtain ⟨hi4, hf⟩ := hf
    refine p_iald X hP ht3 hi4 dX7_front_16 ?_
    refine lv_if_ne (tgt := 26) hx hb dX7_front_17 (by decide) (fun c5 => ?_) (fun c5 => ?_)
    · have hf := hf.1 c5
      refine lv_iload_n hx hb dX7_front_26 rfl (lv_at hl 1 rfl) ?_
      exact p_iret X hlk hP hL (Nat.le_refl _) (Nat.le_refl _) hr dX7_front_27 ⟨rfl, hf⟩
    · have hf := hf.2 c5
      have hl := lv_sub hl [1, 0] rfl
      refine p_iincc (i := 1) (k := (-1)) hx hb (by decide) dX7_front_20 hl (by decide) ⟨⟨ne_ rfl, Or.inr (rv_cat _)⟩, trivial⟩ (fun y6 hy6 ls hl => ?_)
      have hf := hf y6 hy6
      refine lv_goto (tgt := 5) hx hb dX7_front_23 (by decide) ?_
      exact hrc5 _ hf _ _ _ _ _ hP hL ⟨rfl, rfl⟩ (lv_sub hl [1, 0] rfl)
set_option maxHeartbeats 4000000 in
theorem sX7_front_L5 {G : GG_} {p : Program} {l : Launch} {e : Env} {R : Room} {s : State} {m : MethodId} {args : Array Value} {below : List Frame} {meth : Method} {c : Code} (Y : MX_ G p R s m args meth c cX7_front 2 RX7 (some Jvm.ClassFile.FieldType.int) 1 20 0 0 "front") {post : Int32 → Prop} {x0 : Nat} {x1 : Int32} {σ : Hp} (hf : wX7_front_L5 post x0 x1 σ) : WG_ G p l e R s m args below meth c (MQ below (QI_ G (fun r τ => τ = σ ∧ post r)) args s 0 0 (FR_ G)) BN_ 2 5 [(0, rv_ x0), (1, .int x1)] [] σ := by
  unfold wX7_front_L5 at hf
  obtain ⟨I, μ, h0, hI⟩ := hf
  have key : ∀ (n : Nat) (x1 : Int32), I x1 → μ x1 < n → WG_ G p l e R s m args below meth c (MQ below (QI_ G (fun r τ => τ = σ ∧ post r)) args s 0 0 (FR_ G)) BN_ 2 5 [(0, rv_ x0), (1, .int x1)] [] σ := by
    intro n
    induction n with
    | zero => intro x1 _ h; exact absurd h (Nat.not_lt_zero _)
    | succ n ih => intro x1 hi hn; exact sX7_front_B5 Y (fun x1' h => ih x1' h.1 (Nat.lt_of_lt_of_le h.2 (Nat.le_of_lt_succ hn))) (hI x1 hi)
  exact key _ _ h0 (Nat.lt_succ_self _)
set_option maxHeartbeats 4000000 in
theorem sX7_front {G : GG_} {p : Program} {l : Launch} {e : Env} {R : Room} {s : State} {m : MethodId} {args : Array Value} {below : List Frame} {meth : Method} {c : Code} (Y : MX_ G p R s m args meth c cX7_front 2 RX7 (some Jvm.ClassFile.FieldType.int) 1 20 0 0 "front") {post : Int32 → Prop} {x0 : Nat} {σ : Hp} (hf : wX7_front x0 σ post) : WG_ G p l e R s m args below meth c (MQ below (QI_ G (fun r τ => τ = σ ∧ post r)) args s 0 0 (FR_ G)) BN_ 2 0 [(0, rv_ x0)] [] σ := by
  have ⟨X, hlk, hr, hRf, hRl, hRc, hnm⟩ := Y
  have ⟨⟨hx, hb, _, hown, hts⟩, _, _⟩ := X
  intro H locs cells slots ls hP hL hB hl
  obtain ⟨rfl, rfl⟩ := hB
  unfold wX7_front at hf
  refine p_aload_n hx hb dX7_front_0 rfl (lv_at hl 0 rfl) ?_
  obtain ⟨ht7, hf⟩ := hf
  refine p_gI X cf6_ (k := 0) (by decide) rfl hP ht7 q557 (fun _ h => h) dX7_front_1 ?_
  refine lv_topi (fun y8 hy8 => ?_)
  have hf := hf y8 hy8
  refine p_istore_n (i := 1) hx hb dX7_front_4 rfl hl (by decide) ⟨⟨ne_ rfl, Or.inr (rv_cat _)⟩, trivial⟩ (fun ls hl => ?_)
  exact sX7_front_L5 Y hf _ _ _ _ _ hP hL ⟨rfl, rfl⟩ (lv_sub hl [1, 0] rfl)
set_option maxHeartbeats 4000000 in
theorem metX7_front (l : Launch) (G : GG_) (x0 : Nat) (σ : Hp) (post : Int32 → Prop) (hG : GOK_ G) (hf : wX7_front x0 σ post) : Met l yX7_front (ws_ yX7_front cX7_front 2 (some Jvm.ClassFile.FieldType.int)) { frames := 1, cells := 0, slots := 0, locals := 20 } (PC_ G [rv_ x0] σ) (QI_ G (fun r τ => τ = σ ∧ post r)) 0 0 (FR_ G) := by
  refine Met.ofW (cc := cX7_front) (maxL := 2) (ret := (some Jvm.ClassFile.FieldType.int)) (by decide) rfl ?_
  intro p e s m args below meth c s₁ B hml hv
  obtain ⟨rfl, hP, hW⟩ := hv
  have hts := atoms_spec (ws := ws_ yX7_front cX7_front 2 (some Jvm.ClassFile.FieldType.int)) B.pre
  have hts : ∀ w ∈ lw_all, w.before _ s = true := fun w h => hts w (List.mem_cons_of_mem _ h)
  rw [lg_entry_eq]
  have hl := en_entry [rv_ x0] [1] (n := 2) (ca_r ca_n) (by decide)
  exact sX7_front ⟨⟨⟨B.exec, B.bytes, hml, findClass_of_methodNamed B.named, hts⟩, hW, hG⟩, B.notSynchronized, B.returns, Nat.le_refl _, Nat.le_refl _, ⟨rfl, rfl⟩, (name_of_methodNamed B.named B.method).1⟩ hf _ _ _ _ _ hP (LO_nil G) ⟨rfl, rfl⟩ hl
abbrev cX6_need : ByteArray := prog_5_method_3_code
def yX6_need : MethodName := ⟨RX6, "need", "()I"⟩
theorem dX6_need_0 : decode cX6_need 0 = .ok (.aload_n 0, 1) := by decide +kernel
theorem dX6_need_1 : decode cX6_need 1 = .ok (.getfield 46, 3) := by decide +kernel
theorem dX6_need_4 : decode cX6_need 4 = .ok (.sipush 2048, 3) := by decide +kernel
theorem dX6_need_7 : decode cX6_need 7 = .ok (.iadd, 1) := by decide +kernel
theorem dX6_need_8 : decode cX6_need 8 = .ok (.iconst 1, 1) := by decide +kernel
theorem dX6_need_9 : decode cX6_need 9 = .ok (.isub, 1) := by decide +kernel
theorem dX6_need_10 : decode cX6_need 10 = .ok (.sipush 2048, 3) := by decide +kernel
theorem dX6_need_13 : decode cX6_need 13 = .ok (.idiv, 1) := by decide +kernel
theorem dX6_need_14 : decode cX6_need 14 = .ok (.ireturn, 1) := by decide +kernel
/-- WriteOnceDisc$Node.need()I -/
def wX6_need (x0 : Nat) (σ : Hp) (post : Int32 → Prop) : Prop :=
(tg_ σ x0 = 6 ∧ post ((((fI_ σ 5 3 x0) + (2048 : Int32)) - (1 : Int32)) / (2048 : Int32)))
set_option maxHeartbeats 4000000 in
theorem sX6_need {G : GG_} {p : Program} {l : Launch} {e : Env} {R : Room} {s : State} {m : MethodId} {args : Array Value} {below : List Frame} {meth : Method} {c : Code} (Y : MX_ G p R s m args meth c cX6_need 1 RX6 (some Jvm.ClassFile.FieldType.int) 1 20 0 0 "need") {post : Int32 → Prop} {x0 : Nat} {σ : Hp} (hf : wX6_need x0 σ post) : WG_ G p l e R s m args below meth c (MQ below (QI_ G (fun r τ => τ = σ ∧ post r)) args s 0 0 (FR_ G)) BN_ 1 0 [(0, rv_ x0)] [] σ := by
  have ⟨X, hlk, hr, hRf, hRl, hRc, hnm⟩ := Y
  have ⟨⟨hx, hb, _, hown, hts⟩, _, _⟩ := X
  intro H locs cells slots ls hP hL hB hl
  obtain ⟨rfl, rfl⟩ := hB
  unfold wX6_need at hf
  refine p_aload_n hx hb dX6_need_0 rfl (lv_at hl 0 rfl) ?_
  obtain ⟨ht1, hf⟩ := hf
  refine p_gI X cf5_ (k := 3) (by decide) rfl hP ht1 q447 (fun _ h => h) dX6_need_1 ?_
  refine lv_sipush (v := 2048) hx hb dX6_need_4 (by decide) ?_
  refine lv_iadd hx hb dX6_need_7 ?_
  refine lv_iconst (v := 1) hx hb dX6_need_8 (by decide) ?_
  refine lv_isub hx hb dX6_need_9 ?_
  refine lv_sipush (v := 2048) hx hb dX6_need_10 (by decide) ?_
  refine lv_idiv hx hb dX6_need_13 (by decide) ?_
  exact p_iret X hlk hP hL (Nat.le_refl _) (Nat.le_refl _) hr dX6_need_14 ⟨rfl, hf⟩
set_option maxHeartbeats 4000000 in
theorem metX6_need (l : Launch) (G : GG_) (x0 : Nat) (σ : Hp) (post : Int32 → Prop) (hG : GOK_ G) (hf : wX6_need x0 σ post) : Met l yX6_need (ws_ yX6_need cX6_need 1 (some Jvm.ClassFile.FieldType.int)) { frames := 1, cells := 0, slots := 0, locals := 20 } (PC_ G [rv_ x0] σ) (QI_ G (fun r τ => τ = σ ∧ post r)) 0 0 (FR_ G) := by
  refine Met.ofW (cc := cX6_need) (maxL := 1) (ret := (some Jvm.ClassFile.FieldType.int)) (by decide) rfl ?_
  intro p e s m args below meth c s₁ B hml hv
  obtain ⟨rfl, hP, hW⟩ := hv
  have hts := atoms_spec (ws := ws_ yX6_need cX6_need 1 (some Jvm.ClassFile.FieldType.int)) B.pre
  have hts : ∀ w ∈ lw_all, w.before _ s = true := fun w h => hts w (List.mem_cons_of_mem _ h)
  rw [lg_entry_eq]
  have hl := en_entry [rv_ x0] [1] (n := 1) (ca_r ca_n) (by decide)
  exact sX6_need ⟨⟨⟨B.exec, B.bytes, hml, findClass_of_methodNamed B.named, hts⟩, hW, hG⟩, B.notSynchronized, B.returns, Nat.le_refl _, Nat.le_refl _, ⟨rfl, rfl⟩, (name_of_methodNamed B.named B.method).1⟩ hf _ _ _ _ _ hP (LO_nil G) ⟨rfl, rfl⟩ hl
abbrev cX4_clear : ByteArray := prog_6_method_2_code
def yX4_clear : MethodName := ⟨RX4, "clear", "()V"⟩
theorem dX4_clear_0 : decode cX4_clear 0 = .ok (.iconst 0, 1) := by decide +kernel
theorem dX4_clear_1 : decode cX4_clear 1 = .ok (.istore_n 1, 1) := by decide +kernel
theorem dX4_clear_2 : decode cX4_clear 2 = .ok (.iload_n 1, 1) := by decide +kernel
theorem dX4_clear_3 : decode cX4_clear 3 = .ok (.sipush 2048, 3) := by decide +kernel
theorem dX4_clear_6 : decode cX4_clear 6 = .ok (.if_icmp .ge 16, 3) := by decide +kernel
theorem dX4_clear_9 : decode cX4_clear 9 = .ok (.aload_n 0, 1) := by decide +kernel
theorem dX4_clear_10 : decode cX4_clear 10 = .ok (.getfield 9, 3) := by decide +kernel
theorem dX4_clear_13 : decode cX4_clear 13 = .ok (.iload_n 1, 1) := by decide +kernel
theorem dX4_clear_14 : decode cX4_clear 14 = .ok (.iconst 0, 1) := by decide +kernel
theorem dX4_clear_15 : decode cX4_clear 15 = .ok (.bastore, 1) := by decide +kernel
theorem dX4_clear_16 : decode cX4_clear 16 = .ok (.iinc 1 1, 3) := by decide +kernel
theorem dX4_clear_19 : decode cX4_clear 19 = .ok (.goto (-17), 3) := by decide +kernel
theorem dX4_clear_22 : decode cX4_clear 22 = .ok (.return_, 1) := by decide +kernel
/-- WriteOnceDisc$Page.clear()V -/
def wX4_clear_B2 (post : Hp → Prop) (rc2 : Int32 → Hp → Prop) (x0 : Nat) (x1 : Int32) (σ : Hp) : Prop :=
(((2048 : Int32) ≤ x1 →
  post σ) ∧
 (¬ (2048 : Int32) ≤ x1 →
  (tg_ σ x0 = 4 ∧ (tg_ σ (fR_ σ 3 0 x0) = 100 ∧ (lo_ σ < (fR_ σ 3 0 x0) ∧ (vp_in x1 (ln_ σ (fR_ σ 3 0 x0)) ∧ (∀ σ6, σ6 = wI_ σ (fR_ σ 3 0 x0) (x1).toNatClampNeg (vp_nar .byte (0 : Int32)) → (∀ y7 : Int32, y7 = x1 + 1 → rc2 y7 σ6))))))))
def wX4_clear_L2 (post : Hp → Prop) (x0 : Nat) (x1 : Int32) (σ : Hp) : Prop :=
 ∃ (I : Int32 → Hp → Prop) (μ : Int32 → Hp → Nat), I x1 σ ∧ ∀ (x1 : Int32) (σ : Hp), I x1 σ → wX4_clear_B2 post (fun x1' σ' => I x1' σ' ∧ μ x1' σ' < μ x1 σ) x0 x1 σ
def wX4_clear (x0 : Nat) (σ : Hp) (post : Hp → Prop) : Prop :=
wX4_clear_L2 post x0 (0 : Int32) σ
set_option maxHeartbeats 4000000 in
theorem sX4_clear_B2 {G : GG_} {p : Program} {l : Launch} {e : Env} {R : Room} {s : State} {m : MethodId} {args : Array Value} {below : List Frame} {meth : Method} {c : Code} (Y : MX_ G p R s m args meth c cX4_clear 2 RX4 none 1 20 0 0 "clear") {post : Hp → Prop} {rc2 : Int32 → Hp → Prop} {x0 : Nat} {x1 : Int32} {σ : Hp} (hrc2 : ∀ (x1 : Int32) (σ : Hp), rc2 x1 σ → WG_ G p l e R s m args below meth c (MQ below (QV_ G post) args s 0 0 (FR_ G)) BN_ 2 2 [(0, rv_ x0), (1, .int x1)] [] σ) (hf : wX4_clear_B2 post rc2 x0 x1 σ) : WG_ G p l e R s m args below meth c (MQ below (QV_ G post) args s 0 0 (FR_ G)) BN_ 2 2 [(0, rv_ x0), (1, .int x1)] [] σ := by
  have ⟨X, hlk, hr, hRf, hRl, hRc, hnm⟩ := Y
  have ⟨⟨hx, hb, _, hown, hts⟩, _, _⟩ := X
  intro H locs cells slots ls hP hL hB hl
  obtain ⟨rfl, rfl⟩ := hB
  unfold wX4_clear_B2 at hf
  refine lv_iload_n hx hb dX4_clear_2 rfl (lv_at hl 1 rfl) ?_
  refine lv_sipush (v := 2048) hx hb dX4_clear_3 (by decide) ?_
  refine lv_icmp_ge (tgt := 22) hx hb dX4_clear_6 (by decide) (fun c1 => ?_) (fun c1 => ?_)
  · have hf := hf.1 c1
    exact p_vret X hlk hP hL (Nat.le_refl _) (Nat.le_refl _) hr dX4_clear_22 hf
  · have hf := hf.2 c1
    refine p_aload_n hx hb dX4_clear_9 rfl (lv_at hl 0 rfl) ?_
    obtain ⟨ht2, hf⟩ := hf
    refine p_gR X cf3_ (k := 0) (by decide) rfl hP ht2 q179 (fun _ h => h) dX4_clear_10 ?_
    refine lv_iload_n hx hb dX4_clear_13 rfl (lv_at hl 1 rfl) ?_
    refine lv_iconst (v := 0) hx hb dX4_clear_14 (by decide) ?_
    obtain ⟨ht3, hf⟩ := hf
    obtain ⟨hlo4, hf⟩ := hf
    obtain ⟨hi5, hf⟩ := hf
    refine p_bast X hP hL ht3 hlo4 hi5 dX4_clear_15 (fun H locs hP hL => ?_)
    refine p_nmP hP (fun σ6 hσ6 hP => ?_)
    have hf := hf σ6 hσ6
    have ht2 : tg_ σ6 x0 = 4 := by rw [hσ6]; exact ht2
    have hl := lv_sub hl [1, 0] rfl
    refine p_iincc (i := 1) (k := 1) hx hb (by decide) dX4_clear_16 hl (by decide) ⟨⟨ne_ rfl, Or.inr (rv_cat _)⟩, trivial⟩ (fun y7 hy7 ls hl => ?_)
    have hf := hf y7 hy7
    refine lv_goto (tgt := 2) hx hb dX4_clear_19 (by decide) ?_
    exact hrc2 _ _ hf _ _ _ _ _ hP hL ⟨rfl, rfl⟩ (lv_sub hl [1, 0] rfl)
set_option maxHeartbeats 4000000 in
theorem sX4_clear_L2 {G : GG_} {p : Program} {l : Launch} {e : Env} {R : Room} {s : State} {m : MethodId} {args : Array Value} {below : List Frame} {meth : Method} {c : Code} (Y : MX_ G p R s m args meth c cX4_clear 2 RX4 none 1 20 0 0 "clear") {post : Hp → Prop} {x0 : Nat} {x1 : Int32} {σ : Hp} (hf : wX4_clear_L2 post x0 x1 σ) : WG_ G p l e R s m args below meth c (MQ below (QV_ G post) args s 0 0 (FR_ G)) BN_ 2 2 [(0, rv_ x0), (1, .int x1)] [] σ := by
  unfold wX4_clear_L2 at hf
  obtain ⟨I, μ, h0, hI⟩ := hf
  have key : ∀ (n : Nat) (x1 : Int32) (σ : Hp), I x1 σ → μ x1 σ < n → WG_ G p l e R s m args below meth c (MQ below (QV_ G post) args s 0 0 (FR_ G)) BN_ 2 2 [(0, rv_ x0), (1, .int x1)] [] σ := by
    intro n
    induction n with
    | zero => intro x1 σ _ h; exact absurd h (Nat.not_lt_zero _)
    | succ n ih => intro x1 σ hi hn; exact sX4_clear_B2 Y (fun x1' σ' h => ih x1' σ' h.1 (Nat.lt_of_lt_of_le h.2 (Nat.le_of_lt_succ hn))) (hI x1 σ hi)
  exact key _ _ _ h0 (Nat.lt_succ_self _)
set_option maxHeartbeats 4000000 in
theorem sX4_clear {G : GG_} {p : Program} {l : Launch} {e : Env} {R : Room} {s : State} {m : MethodId} {args : Array Value} {below : List Frame} {meth : Method} {c : Code} (Y : MX_ G p R s m args meth c cX4_clear 2 RX4 none 1 20 0 0 "clear") {post : Hp → Prop} {x0 : Nat} {σ : Hp} (hf : wX4_clear x0 σ post) : WG_ G p l e R s m args below meth c (MQ below (QV_ G post) args s 0 0 (FR_ G)) BN_ 2 0 [(0, rv_ x0)] [] σ := by
  have ⟨X, hlk, hr, hRf, hRl, hRc, hnm⟩ := Y
  have ⟨⟨hx, hb, _, hown, hts⟩, _, _⟩ := X
  intro H locs cells slots ls hP hL hB hl
  obtain ⟨rfl, rfl⟩ := hB
  unfold wX4_clear at hf
  refine lv_iconst (v := 0) hx hb dX4_clear_0 (by decide) ?_
  refine p_istore_n (i := 1) hx hb dX4_clear_1 rfl hl (by decide) ⟨⟨ne_ rfl, Or.inr (rv_cat _)⟩, trivial⟩ (fun ls hl => ?_)
  exact sX4_clear_L2 Y hf _ _ _ _ _ hP hL ⟨rfl, rfl⟩ (lv_sub hl [1, 0] rfl)
set_option maxHeartbeats 4000000 in
theorem metX4_clear (l : Launch) (G : GG_) (x0 : Nat) (σ : Hp) (post : Hp → Prop) (hG : GOK_ G) (hf : wX4_clear x0 σ post) : Met l yX4_clear (ws_ yX4_clear cX4_clear 2 none) { frames := 1, cells := 0, slots := 0, locals := 20 } (PC_ G [rv_ x0] σ) (QV_ G post) 0 0 (FR_ G) := by
  refine Met.ofW (cc := cX4_clear) (maxL := 2) (ret := none) (by decide) rfl ?_
  intro p e s m args below meth c s₁ B hml hv
  obtain ⟨rfl, hP, hW⟩ := hv
  have hts := atoms_spec (ws := ws_ yX4_clear cX4_clear 2 none) B.pre
  have hts : ∀ w ∈ lw_all, w.before _ s = true := fun w h => hts w (List.mem_cons_of_mem _ h)
  rw [lg_entry_eq]
  have hl := en_entry [rv_ x0] [1] (n := 2) (ca_r ca_n) (by decide)
  exact sX4_clear ⟨⟨⟨B.exec, B.bytes, hml, findClass_of_methodNamed B.named, hts⟩, hW, hG⟩, B.notSynchronized, B.returns, Nat.le_refl _, Nat.le_refl _, ⟨rfl, rfl⟩, (name_of_methodNamed B.named B.method).1⟩ hf _ _ _ _ _ hP (LO_nil G) ⟨rfl, rfl⟩ hl
abbrev cX3_blank : ByteArray := prog_2_method_2_code
def yX3_blank : MethodName := ⟨RX3, "blank", "()LWriteOnceDisc$Page;"⟩
theorem dX3_blank_0 : decode cX3_blank 0 = .ok (.aload_n 0, 1) := by decide +kernel
theorem dX3_blank_1 : decode cX3_blank 1 = .ok (.getfield 21, 3) := by decide +kernel
theorem dX3_blank_4 : decode cX3_blank 4 = .ok (.invokevirtual 29, 3) := by decide +kernel
theorem dX3_blank_7 : decode cX3_blank 7 = .ok (.aload_n 0, 1) := by decide +kernel
theorem dX3_blank_8 : decode cX3_blank 8 = .ok (.getfield 21, 3) := by decide +kernel
theorem dX3_blank_11 : decode cX3_blank 11 = .ok (.areturn, 1) := by decide +kernel
/-- WriteOnceDisc$Burner.blank()LWriteOnceDisc$Page; -/
def wX3_blank (x0 : Nat) (σ : Hp) (post : Nat → Hp → Prop) : Prop :=
(tg_ σ x0 = 3 ∧ (tg_ σ (fR_ σ 2 5 x0) = 4 ∧ (wX4_clear (fR_ σ 2 5 x0)  σ (fun σ3 => (tg_ σ3 x0 = 3 ∧ post (fR_ σ3 2 5 x0) σ3)))))
set_option maxHeartbeats 4000000 in
theorem sX3_blank {G : GG_} {p : Program} {l : Launch} {e : Env} {R : Room} {s : State} {m : MethodId} {args : Array Value} {below : List Frame} {meth : Method} {c : Code} (Y : MX_ G p R s m args meth c cX3_blank 1 RX3 (some ((Jvm.ClassFile.FieldType.object "WriteOnceDisc$Page"))) 2 41 0 0 "blank") {post : Nat → Hp → Prop} {x0 : Nat} {σ : Hp} (hf : wX3_blank x0 σ post) : WG_ G p l e R s m args below meth c (MQ below (QR_ G post) args s 0 0 (FR_ G)) BN_ 1 0 [(0, rv_ x0)] [] σ := by
  have ⟨X, hlk, hr, hRf, hRl, hRc, hnm⟩ := Y
  have ⟨⟨hx, hb, _, hown, hts⟩, _, _⟩ := X
  intro H locs cells slots ls hP hL hB hl
  obtain ⟨rfl, rfl⟩ := hB
  unfold wX3_blank at hf
  refine p_aload_n hx hb dX3_blank_0 rfl (lv_at hl 0 rfl) ?_
  obtain ⟨ht1, hf⟩ := hf
  refine p_gR X cf2_ (k := 5) (by decide) rfl hP ht1 q190 (fun _ h => h) dX3_blank_1 ?_
  obtain ⟨ht2, hf⟩ := hf
  refine p_callv hL (p_runV X cf3_ hP ht2 (metX4_clear l G _ _ _ X.2.2 hf) (cwV 0 hts (lw_V q833 q834 q835 q91 q836) rfl rfl rfl (by decide +kernel) ⟨Nat.le_trans (Nat.le_of_ble_eq_true rfl) hRf, Nat.le_trans (Nat.le_of_ble_eq_true rfl) hRl⟩) rfl hl.1 rfl (by decide) dX3_blank_4 ⟨Nat.zero_le _, Nat.zero_le _⟩) (fun σ3 H locs hf hP hL => ?_)
  refine p_aload_n hx hb dX3_blank_7 rfl (lv_at hl 0 rfl) ?_
  obtain ⟨ht4, hf⟩ := hf
  refine p_gR X cf2_ (k := 5) (by decide) rfl hP ht4 q190 (fun _ h => h) dX3_blank_8 ?_
  exact p_aret X hlk hP hL (Nat.le_refl _) (Nat.le_refl _) hr (Or.inl ⟨_, rfl⟩) dX3_blank_11 hf
set_option maxHeartbeats 4000000 in
theorem metX3_blank (l : Launch) (G : GG_) (x0 : Nat) (σ : Hp) (post : Nat → Hp → Prop) (hG : GOK_ G) (hf : wX3_blank x0 σ post) : Met l yX3_blank (ws_ yX3_blank cX3_blank 1 (some ((Jvm.ClassFile.FieldType.object "WriteOnceDisc$Page")))) { frames := 2, cells := 0, slots := 0, locals := 41 } (PC_ G [rv_ x0] σ) (QR_ G post) 0 0 (FR_ G) := by
  refine Met.ofW (cc := cX3_blank) (maxL := 1) (ret := (some ((Jvm.ClassFile.FieldType.object "WriteOnceDisc$Page")))) (by decide) rfl ?_
  intro p e s m args below meth c s₁ B hml hv
  obtain ⟨rfl, hP, hW⟩ := hv
  have hts := atoms_spec (ws := ws_ yX3_blank cX3_blank 1 (some ((Jvm.ClassFile.FieldType.object "WriteOnceDisc$Page")))) B.pre
  have hts : ∀ w ∈ lw_all, w.before _ s = true := fun w h => hts w (List.mem_cons_of_mem _ h)
  rw [lg_entry_eq]
  have hl := en_entry [rv_ x0] [1] (n := 1) (ca_r ca_n) (by decide)
  exact sX3_blank ⟨⟨⟨B.exec, B.bytes, hml, findClass_of_methodNamed B.named, hts⟩, hW, hG⟩, B.notSynchronized, B.returns, Nat.le_refl _, Nat.le_refl _, ⟨rfl, rfl⟩, (name_of_methodNamed B.named B.method).1⟩ hf _ _ _ _ _ hP (LO_nil G) ⟨rfl, rfl⟩ hl
abbrev cX3_contentOf : ByteArray := prog_2_method_4_code
def yX3_contentOf : MethodName := ⟨RX3, "contentOf", "(LWriteOnceDisc$Node;I)[B"⟩
theorem dX3_contentOf_0 : decode cX3_contentOf 0 = .ok (.aload_n 0, 1) := by decide +kernel
theorem dX3_contentOf_1 : decode cX3_contentOf 1 = .ok (.invokevirtual 56, 3) := by decide +kernel
theorem dX3_contentOf_4 : decode cX3_contentOf 4 = .ok (.getfield 60, 3) := by decide +kernel
theorem dX3_contentOf_7 : decode cX3_contentOf 7 = .ok (.astore_n 3, 1) := by decide +kernel
theorem dX3_contentOf_8 : decode cX3_contentOf 8 = .ok (.iconst 0, 1) := by decide +kernel
theorem dX3_contentOf_9 : decode cX3_contentOf 9 = .ok (.istore 4, 2) := by decide +kernel
theorem dX3_contentOf_11 : decode cX3_contentOf 11 = .ok (.iload 4, 2) := by decide +kernel
theorem dX3_contentOf_13 : decode cX3_contentOf 13 = .ok (.sipush 2048, 3) := by decide +kernel
theorem dX3_contentOf_16 : decode cX3_contentOf 16 = .ok (.if_icmp .ge 84, 3) := by decide +kernel
theorem dX3_contentOf_19 : decode cX3_contentOf 19 = .ok (.iload_n 2, 1) := by decide +kernel
theorem dX3_contentOf_20 : decode cX3_contentOf 20 = .ok (.sipush 2048, 3) := by decide +kernel
theorem dX3_contentOf_23 : decode cX3_contentOf 23 = .ok (.imul, 1) := by decide +kernel
theorem dX3_contentOf_24 : decode cX3_contentOf 24 = .ok (.iload 4, 2) := by decide +kernel
theorem dX3_contentOf_26 : decode cX3_contentOf 26 = .ok (.iadd, 1) := by decide +kernel
theorem dX3_contentOf_27 : decode cX3_contentOf 27 = .ok (.aload_n 1, 1) := by decide +kernel
theorem dX3_contentOf_28 : decode cX3_contentOf 28 = .ok (.getfield 61, 3) := by decide +kernel
theorem dX3_contentOf_31 : decode cX3_contentOf 31 = .ok (.if_icmp .ge 69, 3) := by decide +kernel
theorem dX3_contentOf_34 : decode cX3_contentOf 34 = .ok (.iload_n 2, 1) := by decide +kernel
theorem dX3_contentOf_35 : decode cX3_contentOf 35 = .ok (.sipush 2048, 3) := by decide +kernel
theorem dX3_contentOf_38 : decode cX3_contentOf 38 = .ok (.imul, 1) := by decide +kernel
theorem dX3_contentOf_39 : decode cX3_contentOf 39 = .ok (.iload 4, 2) := by decide +kernel
theorem dX3_contentOf_41 : decode cX3_contentOf 41 = .ok (.iadd, 1) := by decide +kernel
theorem dX3_contentOf_42 : decode cX3_contentOf 42 = .ok (.istore 5, 2) := by decide +kernel
theorem dX3_contentOf_44 : decode cX3_contentOf 44 = .ok (.aload_n 3, 1) := by decide +kernel
theorem dX3_contentOf_45 : decode cX3_contentOf 45 = .ok (.iload 4, 2) := by decide +kernel
theorem dX3_contentOf_47 : decode cX3_contentOf 47 = .ok (.aload_n 1, 1) := by decide +kernel
theorem dX3_contentOf_48 : decode cX3_contentOf 48 = .ok (.getfield 67, 3) := by decide +kernel
theorem dX3_contentOf_51 : decode cX3_contentOf 51 = .ok (.ifCond .eq 25, 3) := by decide +kernel
theorem dX3_contentOf_54 : decode cX3_contentOf 54 = .ok (.aload_n 0, 1) := by decide +kernel
theorem dX3_contentOf_55 : decode cX3_contentOf 55 = .ok (.getfield 71, 3) := by decide +kernel
theorem dX3_contentOf_58 : decode cX3_contentOf 58 = .ok (.getfield 52, 3) := by decide +kernel
theorem dX3_contentOf_61 : decode cX3_contentOf 61 = .ok (.aload_n 1, 1) := by decide +kernel
theorem dX3_contentOf_62 : decode cX3_contentOf 62 = .ok (.getfield 74, 3) := by decide +kernel
theorem dX3_contentOf_65 : decode cX3_contentOf 65 = .ok (.sipush 2048, 3) := by decide +kernel
theorem dX3_contentOf_68 : decode cX3_contentOf 68 = .ok (.imul, 1) := by decide +kernel
theorem dX3_contentOf_69 : decode cX3_contentOf 69 = .ok (.iload 5, 2) := by decide +kernel
theorem dX3_contentOf_71 : decode cX3_contentOf 71 = .ok (.iadd, 1) := by decide +kernel
theorem dX3_contentOf_72 : decode cX3_contentOf 72 = .ok (.baload, 1) := by decide +kernel
theorem dX3_contentOf_73 : decode cX3_contentOf 73 = .ok (.goto 20, 3) := by decide +kernel
theorem dX3_contentOf_76 : decode cX3_contentOf 76 = .ok (.aload_n 1, 1) := by decide +kernel
theorem dX3_contentOf_77 : decode cX3_contentOf 77 = .ok (.getfield 77, 3) := by decide +kernel
theorem dX3_contentOf_80 : decode cX3_contentOf 80 = .ok (.iconst 3, 1) := by decide +kernel
theorem dX3_contentOf_81 : decode cX3_contentOf 81 = .ok (.iload 5, 2) := by decide +kernel
theorem dX3_contentOf_83 : decode cX3_contentOf 83 = .ok (.imul, 1) := by decide +kernel
theorem dX3_contentOf_84 : decode cX3_contentOf 84 = .ok (.iadd, 1) := by decide +kernel
theorem dX3_contentOf_85 : decode cX3_contentOf 85 = .ok (.iload 5, 2) := by decide +kernel
theorem dX3_contentOf_87 : decode cX3_contentOf 87 = .ok (.sipush 128, 3) := by decide +kernel
theorem dX3_contentOf_90 : decode cX3_contentOf 90 = .ok (.idiv, 1) := by decide +kernel
theorem dX3_contentOf_91 : decode cX3_contentOf 91 = .ok (.iadd, 1) := by decide +kernel
theorem dX3_contentOf_92 : decode cX3_contentOf 92 = .ok (.i2b, 1) := by decide +kernel
theorem dX3_contentOf_93 : decode cX3_contentOf 93 = .ok (.bastore, 1) := by decide +kernel
theorem dX3_contentOf_94 : decode cX3_contentOf 94 = .ok (.iinc 4 1, 3) := by decide +kernel
theorem dX3_contentOf_97 : decode cX3_contentOf 97 = .ok (.goto (-86), 3) := by decide +kernel
theorem dX3_contentOf_100 : decode cX3_contentOf 100 = .ok (.aload_n 3, 1) := by decide +kernel
theorem dX3_contentOf_101 : decode cX3_contentOf 101 = .ok (.areturn, 1) := by decide +kernel
/-- WriteOnceDisc$Burner.contentOf(LWriteOnceDisc$Node;I)[B -/
def wX3_contentOf_L93 (post : Nat → Hp → Prop) (rc11 : Int32 → Hp → Prop) (x0 : Nat) (x1 : Nat) (x2 : Int32) (x3 : Nat) (x4 : Int32) (s0 : Int32) (s1 : Int32) (s2 : Nat) (σ : Hp) : Prop :=
(tg_ σ s2 = 100 ∧ (lo_ σ < s2 ∧ (vp_in s1 (ln_ σ s2) ∧ (∀ σ4, σ4 = wI_ σ s2 (s1).toNatClampNeg (vp_nar .byte s0) → (∀ y5 : Int32, y5 = x4 + 1 → rc11 y5 σ4)))))
def wX3_contentOf_B11 (post : Nat → Hp → Prop) (rc11 : Int32 → Hp → Prop) (x0 : Nat) (x1 : Nat) (x2 : Int32) (x3 : Nat) (x4 : Int32) (σ : Hp) : Prop :=
(((2048 : Int32) ≤ x4 →
  post x3 σ) ∧
 (¬ (2048 : Int32) ≤ x4 →
  (tg_ σ x1 = 6 ∧ (((fI_ σ 5 3 x1) ≤ ((x2 * (2048 : Int32)) + x4) →
   post x3 σ) ∧
  (¬ (fI_ σ 5 3 x1) ≤ ((x2 * (2048 : Int32)) + x4) →
   (∀ y9 : Int32, y9 = ((x2 * (2048 : Int32)) + x4) → (((fI_ σ 5 8 x1) = 0 →
    wX3_contentOf_L93 post rc11 x0 x1 x2 x3 x4 ((((fI_ σ 5 4 x1) + ((3 : Int32) * y9)) + (y9 / (128 : Int32)))).toInt8.toInt32 x4 x3 σ) ∧
   (¬ (fI_ σ 5 8 x1) = 0 →
    (tg_ σ x0 = 3 ∧ (tg_ σ (fR_ σ 2 1 x0) = 7 ∧ (tg_ σ (fR_ σ 6 1 (fR_ σ 2 1 x0)) = 100 ∧ (vp_in (((fI_ σ 5 5 x1) * (2048 : Int32)) + y9) (ln_ σ (fR_ σ 6 1 (fR_ σ 2 1 x0))) ∧ wX3_contentOf_L93 post rc11 x0 x1 x2 x3 x4 (aI_ σ (fR_ σ 6 1 (fR_ σ 2 1 x0)) ((((fI_ σ 5 5 x1) * (2048 : Int32)) + y9)).toNatClampNeg) x4 x3 σ))))))))))))
def wX3_contentOf_L11 (post : Nat → Hp → Prop) (x0 : Nat) (x1 : Nat) (x2 : Int32) (x3 : Nat) (x4 : Int32) (σ : Hp) : Prop :=
 ∃ (I : Int32 → Hp → Prop) (μ : Int32 → Hp → Nat), I x4 σ ∧ ∀ (x4 : Int32) (σ : Hp), I x4 σ → wX3_contentOf_B11 post (fun x4' σ' => I x4' σ' ∧ μ x4' σ' < μ x4 σ) x0 x1 x2 x3 x4 σ
def wX3_contentOf (x0 : Nat) (x1 : Nat) (x2 : Int32) (σ : Hp) (post : Nat → Hp → Prop) : Prop :=
(tg_ σ x0 = 3 ∧ (wX3_blank x0  σ (fun r16 σ17 => (tg_ σ17 r16 = 4 ∧ (∀ y19 : Nat, y19 = (fR_ σ17 3 0 r16) → wX3_contentOf_L11 post x0 x1 x2 y19 (0 : Int32) σ17)))))
set_option maxHeartbeats 4000000 in
theorem sX3_contentOf_L93 {G : GG_} {p : Program} {l : Launch} {e : Env} {R : Room} {s : State} {m : MethodId} {args : Array Value} {below : List Frame} {meth : Method} {c : Code} (Y : MX_ G p R s m args meth c cX3_contentOf 6 RX3 (some ((Jvm.ClassFile.FieldType.array Jvm.ClassFile.FieldType.byte))) 3 61 0 0 "contentOf") {post : Nat → Hp → Prop} {rc11 : Int32 → Hp → Prop} {x0 : Nat} {x1 : Nat} {x2 : Int32} {x3 : Nat} {x4 : Int32} {s0 : Int32} {s1 : Int32} {s2 : Nat} {σ : Hp} (hrc11 : ∀ (x4 : Int32) (σ : Hp), rc11 x4 σ → WG_ G p l e R s m args below meth c (MQ below (QR_ G post) args s 0 0 (FR_ G)) BN_ 6 11 [(0, rv_ x0), (1, rv_ x1), (2, .int x2), (3, rv_ x3), (4, .int x4)] [] σ) (hf : wX3_contentOf_L93 post rc11 x0 x1 x2 x3 x4 s0 s1 s2 σ) : WG_ G p l e R s m args below meth c (MQ below (QR_ G post) args s 0 0 (FR_ G)) BN_ 6 93 [(0, rv_ x0), (1, rv_ x1), (2, .int x2), (3, rv_ x3), (4, .int x4)] [.int s0, .int s1, rv_ s2] σ := by
  have ⟨X, hlk, hr, hRf, hRl, hRc, hnm⟩ := Y
  have ⟨⟨hx, hb, _, hown, hts⟩, _, _⟩ := X
  intro H locs cells slots ls hP hL hB hl
  obtain ⟨rfl, rfl⟩ := hB
  unfold wX3_contentOf_L93 at hf
  obtain ⟨ht1, hf⟩ := hf
  obtain ⟨hlo2, hf⟩ := hf
  obtain ⟨hi3, hf⟩ := hf
  refine p_bast X hP hL ht1 hlo2 hi3 dX3_contentOf_93 (fun H locs hP hL => ?_)
  refine p_nmP hP (fun σ4 hσ4 hP => ?_)
  have hf := hf σ4 hσ4
  have ht1 : tg_ σ4 s2 = 100 := by rw [hσ4]; exact ht1
  have hl := lv_sub hl [4, 0, 1, 2, 3] rfl
  refine p_iincc (i := 4) (k := 1) hx hb (by decide) dX3_contentOf_94 hl (by decide) ⟨⟨ne_ rfl, Or.inl (ne_ rfl)⟩, ⟨⟨ne_ rfl, Or.inl (ne_ rfl)⟩, ⟨⟨ne_ rfl, Or.inl (ne_ rfl)⟩, ⟨⟨ne_ rfl, Or.inr (rv_cat _)⟩, trivial⟩⟩⟩⟩ (fun y5 hy5 ls hl => ?_)
  have hf := hf y5 hy5
  refine lv_goto (tgt := 11) hx hb dX3_contentOf_97 (by decide) ?_
  exact hrc11 _ _ hf _ _ _ _ _ hP hL ⟨rfl, rfl⟩ (lv_sub hl [1, 2, 3, 4, 0] rfl)
set_option maxHeartbeats 4000000 in
theorem sX3_contentOf_B11 {G : GG_} {p : Program} {l : Launch} {e : Env} {R : Room} {s : State} {m : MethodId} {args : Array Value} {below : List Frame} {meth : Method} {c : Code} (Y : MX_ G p R s m args meth c cX3_contentOf 6 RX3 (some ((Jvm.ClassFile.FieldType.array Jvm.ClassFile.FieldType.byte))) 3 61 0 0 "contentOf") {post : Nat → Hp → Prop} {rc11 : Int32 → Hp → Prop} {x0 : Nat} {x1 : Nat} {x2 : Int32} {x3 : Nat} {x4 : Int32} {σ : Hp} (hrc11 : ∀ (x4 : Int32) (σ : Hp), rc11 x4 σ → WG_ G p l e R s m args below meth c (MQ below (QR_ G post) args s 0 0 (FR_ G)) BN_ 6 11 [(0, rv_ x0), (1, rv_ x1), (2, .int x2), (3, rv_ x3), (4, .int x4)] [] σ) (hf : wX3_contentOf_B11 post rc11 x0 x1 x2 x3 x4 σ) : WG_ G p l e R s m args below meth c (MQ below (QR_ G post) args s 0 0 (FR_ G)) BN_ 6 11 [(0, rv_ x0), (1, rv_ x1), (2, .int x2), (3, rv_ x3), (4, .int x4)] [] σ := by
  have ⟨X, hlk, hr, hRf, hRl, hRc, hnm⟩ := Y
  have ⟨⟨hx, hb, _, hown, hts⟩, _, _⟩ := X
  intro H locs cells slots ls hP hL hB hl
  obtain ⟨rfl, rfl⟩ := hB
  unfold wX3_contentOf_B11 at hf
  refine lv_iload hx hb dX3_contentOf_11 (lv_at hl 4 rfl) ?_
  refine lv_sipush (v := 2048) hx hb dX3_contentOf_13 (by decide) ?_
  refine lv_icmp_ge (tgt := 100) hx hb dX3_contentOf_16 (by decide) (fun c6 => ?_) (fun c6 => ?_)
  · have hf := hf.1 c6
    refine p_aload_n hx hb dX3_contentOf_100 rfl (lv_at hl 3 rfl) ?_
    exact p_aret X hlk hP hL (Nat.le_refl _) (Nat.le_refl _) hr (Or.inr ⟨_, rfl⟩) dX3_contentOf_101 hf
  · have hf := hf.2 c6
    refine lv_iload_n hx hb dX3_contentOf_19 rfl (lv_at hl 2 rfl) ?_
    refine lv_sipush (v := 2048) hx hb dX3_contentOf_20 (by decide) ?_
    refine lv_imul hx hb dX3_contentOf_23 ?_
    refine lv_iload hx hb dX3_contentOf_24 (lv_at hl 4 rfl) ?_
    refine lv_iadd hx hb dX3_contentOf_26 ?_
    refine p_aload_n hx hb dX3_contentOf_27 rfl (lv_at hl 1 rfl) ?_
    obtain ⟨ht7, hf⟩ := hf
    refine p_gI X cf5_ (k := 3) (by decide) rfl hP ht7 q448 (fun _ h => h) dX3_contentOf_28 ?_
    refine lv_icmp_ge (tgt := 100) hx hb dX3_contentOf_31 (by decide) (fun c8 => ?_) (fun c8 => ?_)
    · have hf := hf.1 c8
      refine p_aload_n hx hb dX3_contentOf_100 rfl (lv_at hl 3 rfl) ?_
      exact p_aret X hlk hP hL (Nat.le_refl _) (Nat.le_refl _) hr (Or.inr ⟨_, rfl⟩) dX3_contentOf_101 hf
    · have hf := hf.2 c8
      refine lv_iload_n hx hb dX3_contentOf_34 rfl (lv_at hl 2 rfl) ?_
      refine lv_sipush (v := 2048) hx hb dX3_contentOf_35 (by decide) ?_
      refine lv_imul hx hb dX3_contentOf_38 ?_
      refine lv_iload hx hb dX3_contentOf_39 (lv_at hl 4 rfl) ?_
      refine lv_iadd hx hb dX3_contentOf_41 ?_
      refine lv_topi (fun y9 hy9 => ?_)
      have hf := hf y9 hy9
      refine p_istore (i := 5) hx hb dX3_contentOf_42 hl (by decide) ⟨⟨ne_ rfl, Or.inl (ne_ rfl)⟩, ⟨⟨ne_ rfl, Or.inl (ne_ rfl)⟩, ⟨⟨ne_ rfl, Or.inl (ne_ rfl)⟩, ⟨⟨ne_ rfl, Or.inl (ne_ rfl)⟩, ⟨⟨ne_ rfl, Or.inr rfl⟩, trivial⟩⟩⟩⟩⟩ (fun ls hl => ?_)
      refine p_aload_n hx hb dX3_contentOf_44 rfl (lv_at hl 4 rfl) ?_
      refine lv_iload hx hb dX3_contentOf_45 (lv_at hl 5 rfl) ?_
      refine p_aload_n hx hb dX3_contentOf_47 rfl (lv_at hl 2 rfl) ?_
      refine p_gI X cf5_ (k := 8) (by decide) rfl hP ht7 q461 (fun _ h => h) dX3_contentOf_48 ?_
      refine lv_if_eq (tgt := 76) hx hb dX3_contentOf_51 (by decide) (fun c10 => ?_) (fun c10 => ?_)
      · have hf := hf.1 c10
        refine p_aload_n hx hb dX3_contentOf_76 rfl (lv_at hl 2 rfl) ?_
        refine p_gI X cf5_ (k := 4) (by decide) rfl hP ht7 q450 (fun _ h => h) dX3_contentOf_77 ?_
        refine lv_iconst (v := 3) hx hb dX3_contentOf_80 (by decide) ?_
        refine lv_iload hx hb dX3_contentOf_81 (lv_at hl 0 rfl) ?_
        refine lv_imul hx hb dX3_contentOf_83 ?_
        refine lv_iadd hx hb dX3_contentOf_84 ?_
        refine lv_iload hx hb dX3_contentOf_85 (lv_at hl 0 rfl) ?_
        refine lv_sipush (v := 128) hx hb dX3_contentOf_87 (by decide) ?_
        refine lv_idiv hx hb dX3_contentOf_90 (by decide) ?_
        refine lv_iadd hx hb dX3_contentOf_91 ?_
        refine lv_i2b hx hb dX3_contentOf_92 rfl ?_
        exact sX3_contentOf_L93 Y hrc11 hf _ _ _ _ _ hP hL ⟨rfl, rfl⟩ (lv_sub hl [1, 2, 3, 4, 5] rfl)
      · have hf := hf.2 c10
        refine p_aload_n hx hb dX3_contentOf_54 rfl (lv_at hl 1 rfl) ?_
        obtain ⟨ht11, hf⟩ := hf
        refine p_gR X cf2_ (k := 1) (by decide) rfl hP ht11 q186 (fun _ h => h) dX3_contentOf_55 ?_
        obtain ⟨ht12, hf⟩ := hf
        refine p_gR X cf6_ (k := 1) (by decide) rfl hP ht12 q561 (fun _ h => h) dX3_contentOf_58 ?_
        refine p_aload_n hx hb dX3_contentOf_61 rfl (lv_at hl 2 rfl) ?_
        refine p_gI X cf5_ (k := 5) (by decide) rfl hP ht7 q452 (fun _ h => h) dX3_contentOf_62 ?_
        refine lv_sipush (v := 2048) hx hb dX3_contentOf_65 (by decide) ?_
        refine lv_imul hx hb dX3_contentOf_68 ?_
        refine lv_iload hx hb dX3_contentOf_69 (lv_at hl 0 rfl) ?_
        refine lv_iadd hx hb dX3_contentOf_71 ?_
        obtain ⟨ht13, hf⟩ := hf
        obtain ⟨hi14, hf⟩ := hf
        refine p_bald X hP ht13 hi14 dX3_contentOf_72 ?_
        refine lv_goto (tgt := 93) hx hb dX3_contentOf_73 (by decide) ?_
        exact sX3_contentOf_L93 Y hrc11 hf _ _ _ _ _ hP hL ⟨rfl, rfl⟩ (lv_sub hl [1, 2, 3, 4, 5] rfl)
set_option maxHeartbeats 4000000 in
theorem sX3_contentOf_L11 {G : GG_} {p : Program} {l : Launch} {e : Env} {R : Room} {s : State} {m : MethodId} {args : Array Value} {below : List Frame} {meth : Method} {c : Code} (Y : MX_ G p R s m args meth c cX3_contentOf 6 RX3 (some ((Jvm.ClassFile.FieldType.array Jvm.ClassFile.FieldType.byte))) 3 61 0 0 "contentOf") {post : Nat → Hp → Prop} {x0 : Nat} {x1 : Nat} {x2 : Int32} {x3 : Nat} {x4 : Int32} {σ : Hp} (hf : wX3_contentOf_L11 post x0 x1 x2 x3 x4 σ) : WG_ G p l e R s m args below meth c (MQ below (QR_ G post) args s 0 0 (FR_ G)) BN_ 6 11 [(0, rv_ x0), (1, rv_ x1), (2, .int x2), (3, rv_ x3), (4, .int x4)] [] σ := by
  unfold wX3_contentOf_L11 at hf
  obtain ⟨I, μ, h0, hI⟩ := hf
  have key : ∀ (n : Nat) (x4 : Int32) (σ : Hp), I x4 σ → μ x4 σ < n → WG_ G p l e R s m args below meth c (MQ below (QR_ G post) args s 0 0 (FR_ G)) BN_ 6 11 [(0, rv_ x0), (1, rv_ x1), (2, .int x2), (3, rv_ x3), (4, .int x4)] [] σ := by
    intro n
    induction n with
    | zero => intro x4 σ _ h; exact absurd h (Nat.not_lt_zero _)
    | succ n ih => intro x4 σ hi hn; exact sX3_contentOf_B11 Y (fun x4' σ' h => ih x4' σ' h.1 (Nat.lt_of_lt_of_le h.2 (Nat.le_of_lt_succ hn))) (hI x4 σ hi)
  exact key _ _ _ h0 (Nat.lt_succ_self _)
set_option maxHeartbeats 4000000 in
theorem sX3_contentOf {G : GG_} {p : Program} {l : Launch} {e : Env} {R : Room} {s : State} {m : MethodId} {args : Array Value} {below : List Frame} {meth : Method} {c : Code} (Y : MX_ G p R s m args meth c cX3_contentOf 6 RX3 (some ((Jvm.ClassFile.FieldType.array Jvm.ClassFile.FieldType.byte))) 3 61 0 0 "contentOf") {post : Nat → Hp → Prop} {x0 : Nat} {x1 : Nat} {x2 : Int32} {σ : Hp} (hf : wX3_contentOf x0 x1 x2 σ post) : WG_ G p l e R s m args below meth c (MQ below (QR_ G post) args s 0 0 (FR_ G)) BN_ 6 0 [(0, rv_ x0), (1, rv_ x1), (2, .int x2)] [] σ := by
  have ⟨X, hlk, hr, hRf, hRl, hRc, hnm⟩ := Y
  have ⟨⟨hx, hb, _, hown, hts⟩, _, _⟩ := X
  intro H locs cells slots ls hP hL hB hl
  obtain ⟨rfl, rfl⟩ := hB
  unfold wX3_contentOf at hf
  refine p_aload_n hx hb dX3_contentOf_0 rfl (lv_at hl 0 rfl) ?_
  obtain ⟨ht15, hf⟩ := hf
  refine p_callr hL (p_runV X cf2_ hP ht15 (metX3_blank l G _ _ _ X.2.2 hf) (cwV 0 hts (lw_V q829 q831 qs8 q87 q832) rfl rfl rfl (by decide +kernel) ⟨Nat.le_trans (Nat.le_of_ble_eq_true rfl) hRf, Nat.le_trans (Nat.le_of_ble_eq_true rfl) hRl⟩) rfl hl.1 rfl (by decide) dX3_contentOf_1 ⟨Nat.zero_le _, Nat.zero_le _⟩) (fun r16 σ17 H locs hf hP hL => ?_)
  obtain ⟨ht18, hf⟩ := hf
  refine p_gR X cf3_ (k := 0) (by decide) rfl hP ht18 q180 (fun _ h => h) dX3_contentOf_4 ?_
  refine p_topr (fun y19 hy19 => ?_)
  have hf := hf y19 hy19
  refine p_astore_n (i := 3) hx hb dX3_contentOf_7 rfl hl (by decide) ⟨⟨ne_ rfl, Or.inl (ne_ rfl)⟩, ⟨⟨ne_ rfl, Or.inl (ne_ rfl)⟩, ⟨⟨ne_ rfl, Or.inr rfl⟩, trivial⟩⟩⟩ (fun ls hl => ?_)
  refine lv_iconst (v := 0) hx hb dX3_contentOf_8 (by decide) ?_
  refine p_istore (i := 4) hx hb dX3_contentOf_9 hl (by decide) ⟨⟨ne_ rfl, Or.inr (rv_cat _)⟩, ⟨⟨ne_ rfl, Or.inl (ne_ rfl)⟩, ⟨⟨ne_ rfl, Or.inl (ne_ rfl)⟩, ⟨⟨ne_ rfl, Or.inl (ne_ rfl)⟩, trivial⟩⟩⟩⟩ (fun ls hl => ?_)
  exact sX3_contentOf_L11 Y hf _ _ _ _ _ hP hL ⟨rfl, rfl⟩ (lv_sub hl [2, 3, 4, 1, 0] rfl)
set_option maxHeartbeats 4000000 in
theorem metX3_contentOf (l : Launch) (G : GG_) (x0 : Nat) (x1 : Nat) (x2 : Int32) (σ : Hp) (post : Nat → Hp → Prop) (hG : GOK_ G) (hf : wX3_contentOf x0 x1 x2 σ post) : Met l yX3_contentOf (ws_ yX3_contentOf cX3_contentOf 6 (some ((Jvm.ClassFile.FieldType.array Jvm.ClassFile.FieldType.byte)))) { frames := 3, cells := 0, slots := 0, locals := 61 } (PC_ G [rv_ x0, rv_ x1, .int x2] σ) (QR_ G post) 0 0 (FR_ G) := by
  refine Met.ofW (cc := cX3_contentOf) (maxL := 6) (ret := (some ((Jvm.ClassFile.FieldType.array Jvm.ClassFile.FieldType.byte)))) (by decide) rfl ?_
  intro p e s m args below meth c s₁ B hml hv
  obtain ⟨rfl, hP, hW⟩ := hv
  have hts := atoms_spec (ws := ws_ yX3_contentOf cX3_contentOf 6 (some ((Jvm.ClassFile.FieldType.array Jvm.ClassFile.FieldType.byte)))) B.pre
  have hts : ∀ w ∈ lw_all, w.before _ s = true := fun w h => hts w (List.mem_cons_of_mem _ h)
  rw [lg_entry_eq]
  have hl := en_entry [rv_ x0, rv_ x1, .int x2] [1, 1, 1] (n := 6) (ca_r (ca_r (ca_i ca_n))) (by decide)
  exact sX3_contentOf ⟨⟨⟨B.exec, B.bytes, hml, findClass_of_methodNamed B.named, hts⟩, hW, hG⟩, B.notSynchronized, B.returns, Nat.le_refl _, Nat.le_refl _, ⟨rfl, rfl⟩, (name_of_methodNamed B.named B.method).1⟩ hf _ _ _ _ _ hP (LO_nil G) ⟨rfl, rfl⟩ hl
