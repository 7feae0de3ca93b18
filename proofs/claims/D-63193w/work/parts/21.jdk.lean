set_option maxRecDepth 100000
abbrev cJ3_append_2 : ByteArray := prog_13_method_31_code
def yJ3_append_2 : MethodName := ⟨RJ3, "append", "(C)Ljava/lang/AbstractStringBuilder;"⟩
theorem dJ3_append_2_0 : decode cJ3_append_2 0 = .ok (.aload_n 0, 1) := by decide +kernel
theorem dJ3_append_2_1 : decode cJ3_append_2 1 = .ok (.aload_n 0, 1) := by decide +kernel
theorem dJ3_append_2_2 : decode cJ3_append_2 2 = .ok (.getfield 79, 3) := by decide +kernel
theorem dJ3_append_2_5 : decode cJ3_append_2 5 = .ok (.iconst 1, 1) := by decide +kernel
theorem dJ3_append_2_6 : decode cJ3_append_2 6 = .ok (.iadd, 1) := by decide +kernel
theorem dJ3_append_2_7 : decode cJ3_append_2 7 = .ok (.invokevirtual 100, 3) := by decide +kernel
theorem dJ3_append_2_10 : decode cJ3_append_2 10 = .ok (.aload_n 0, 1) := by decide +kernel
theorem dJ3_append_2_11 : decode cJ3_append_2 11 = .ok (.invokevirtual 83, 3) := by decide +kernel
theorem dJ3_append_2_14 : decode cJ3_append_2 14 = .ok (.ifCond .eq 31, 3) := by decide +kernel
theorem dJ3_append_2_17 : decode cJ3_append_2 17 = .ok (.iload_n 1, 1) := by decide +kernel
theorem dJ3_append_2_18 : decode cJ3_append_2 18 = .ok (.invokestatic 191, 3) := by decide +kernel
theorem dJ3_append_2_21 : decode cJ3_append_2 21 = .ok (.ifCond .eq 24, 3) := by decide +kernel
theorem dJ3_append_2_24 : decode cJ3_append_2 24 = .ok (.aload_n 0, 1) := by decide +kernel
theorem dJ3_append_2_25 : decode cJ3_append_2 25 = .ok (.getfield 15, 3) := by decide +kernel
theorem dJ3_append_2_28 : decode cJ3_append_2 28 = .ok (.aload_n 0, 1) := by decide +kernel
theorem dJ3_append_2_29 : decode cJ3_append_2 29 = .ok (.dup, 1) := by decide +kernel
theorem dJ3_append_2_30 : decode cJ3_append_2 30 = .ok (.getfield 79, 3) := by decide +kernel
theorem dJ3_append_2_33 : decode cJ3_append_2 33 = .ok (.dup_x1, 1) := by decide +kernel
theorem dJ3_append_2_34 : decode cJ3_append_2 34 = .ok (.iconst 1, 1) := by decide +kernel
theorem dJ3_append_2_35 : decode cJ3_append_2 35 = .ok (.iadd, 1) := by decide +kernel
theorem dJ3_append_2_36 : decode cJ3_append_2 36 = .ok (.putfield 79, 3) := by decide +kernel
theorem dJ3_append_2_39 : decode cJ3_append_2 39 = .ok (.iload_n 1, 1) := by decide +kernel
theorem dJ3_append_2_40 : decode cJ3_append_2 40 = .ok (.i2b, 1) := by decide +kernel
theorem dJ3_append_2_41 : decode cJ3_append_2 41 = .ok (.bastore, 1) := by decide +kernel
theorem dJ3_append_2_42 : decode cJ3_append_2 42 = .ok (.goto 33, 3) := by decide +kernel
theorem dJ3_append_2_45 : decode cJ3_append_2 45 = .ok (.aload_n 0, 1) := by decide +kernel
theorem dJ3_append_2_46 : decode cJ3_append_2 46 = .ok (.invokevirtual 83, 3) := by decide +kernel
theorem dJ3_append_2_49 : decode cJ3_append_2 49 = .ok (.ifCond .eq 7, 3) := by decide +kernel
theorem dJ3_append_2_52 : decode cJ3_append_2 52 = .ok (.aload_n 0, 1) := by decide +kernel
theorem dJ3_append_2_53 : decode cJ3_append_2 53 = .ok (.invokevirtual 195, 3) := by decide +kernel
theorem dJ3_append_2_56 : decode cJ3_append_2 56 = .ok (.aload_n 0, 1) := by decide +kernel
theorem dJ3_append_2_57 : decode cJ3_append_2 57 = .ok (.getfield 15, 3) := by decide +kernel
theorem dJ3_append_2_60 : decode cJ3_append_2 60 = .ok (.aload_n 0, 1) := by decide +kernel
theorem dJ3_append_2_61 : decode cJ3_append_2 61 = .ok (.dup, 1) := by decide +kernel
theorem dJ3_append_2_62 : decode cJ3_append_2 62 = .ok (.getfield 79, 3) := by decide +kernel
theorem dJ3_append_2_65 : decode cJ3_append_2 65 = .ok (.dup_x1, 1) := by decide +kernel
theorem dJ3_append_2_66 : decode cJ3_append_2 66 = .ok (.iconst 1, 1) := by decide +kernel
theorem dJ3_append_2_67 : decode cJ3_append_2 67 = .ok (.iadd, 1) := by decide +kernel
theorem dJ3_append_2_68 : decode cJ3_append_2 68 = .ok (.putfield 79, 3) := by decide +kernel
theorem dJ3_append_2_71 : decode cJ3_append_2 71 = .ok (.iload_n 1, 1) := by decide +kernel
theorem dJ3_append_2_72 : decode cJ3_append_2 72 = .ok (.invokestatic 197, 3) := by decide +kernel
theorem dJ3_append_2_75 : decode cJ3_append_2 75 = .ok (.aload_n 0, 1) := by decide +kernel
theorem dJ3_append_2_76 : decode cJ3_append_2 76 = .ok (.areturn, 1) := by decide +kernel
/-- java/lang/AbstractStringBuilder.append(C)Ljava/lang/AbstractStringBuilder; -/
def wJ3_append_2_L56 (post : Nat → Hp → Prop) (x0 : Nat) (x1 : Int32) (σ : Hp) : Prop :=
(tg_ σ x0 = 12 ∧ (∀ σ2, σ2 = sI_ σ 11 3 x0 ((fI_ σ 11 3 x0) + (1 : Int32)) → False))
def wJ3_append_2_L45 (post : Nat → Hp → Prop) (x0 : Nat) (x1 : Int32) (σ : Hp) : Prop :=
(tg_ σ x0 = 12 ∧ (wJ3_isLatin1 x0  σ (fun r4 => ((r4 = 0 →
  wJ3_append_2_L56 post x0 x1 σ) ∧
 (¬ r4 = 0 →
  False)))))
def wJ3_append_2 (x0 : Nat) (x1 : Int32) (σ : Hp) (post : Nat → Hp → Prop) : Prop :=
(tg_ σ x0 = 12 ∧ (wJ3_ensureCapacityInternal x0 ((fI_ σ 11 3 x0) + (1 : Int32)) σ (fun σ7 => (tg_ σ7 x0 = 12 ∧ (wJ3_isLatin1 x0  σ7 (fun r9 => ((r9 = 0 →
  wJ3_append_2_L45 post x0 x1 σ7) ∧
 (¬ r9 = 0 →
  (wJ11_canEncode x1 σ7 (fun r11 => ((r11 = 0 →
   wJ3_append_2_L45 post x0 x1 σ7) ∧
  (¬ r11 = 0 →
   (∀ σ13, σ13 = sI_ σ7 11 3 x0 ((fI_ σ7 11 3 x0) + (1 : Int32)) → (tg_ σ13 (fR_ σ7 11 0 x0) = 100 ∧ (lo_ σ13 < (fR_ σ7 11 0 x0) ∧ (vp_in (fI_ σ7 11 3 x0) (ln_ σ13 (fR_ σ7 11 0 x0)) ∧ (∀ σ17, σ17 = wI_ σ13 (fR_ σ7 11 0 x0) ((fI_ σ7 11 3 x0)).toNatClampNeg (vp_nar .byte (x1).toInt8.toInt32) → post x0 σ17)))))))))))))))))
set_option maxHeartbeats 4000000 in
theorem sJ3_append_2_L56 {G : GG_} {p : Program} {l : Launch} {e : Env} {R : Room} {s : State} {m : MethodId} {args : Array Value} {below : List Frame} {meth : Method} {c : Code} (Y : MX_ G p R s m args meth c cJ3_append_2 2 RJ3 (some ((Jvm.ClassFile.FieldType.object "java/lang/AbstractStringBuilder"))) 2 50 0 0 "append") {post : Nat → Hp → Prop} {x0 : Nat} {x1 : Int32} {σ : Hp} (hf : wJ3_append_2_L56 post x0 x1 σ) : WG_ G p l e R s m args below meth c (MQ below (QR_ G post) args s 0 0 (FR_ G)) BN_ 2 56 [(0, rv_ x0), (1, .int x1)] [] σ := by
  have ⟨X, hlk, hr, hRf, hRl, hRc, hnm⟩ := Y
  have ⟨⟨hx, hb, _, hown, hts⟩, _, _⟩ := X
  intro H locs cells slots ls hP hL hB hl
  obtain ⟨rfl, rfl⟩ := hB
  unfold wJ3_append_2_L56 at hf
  refine p_aload_n hx hb dJ3_append_2_56 rfl (lv_at hl 0 rfl) ?_
  obtain ⟨ht1, hf⟩ := hf
  refine p_gR X cf11_ (k := 0) (by decide) rfl hP ht1 q241 (fun _ h => h) dJ3_append_2_57 ?_
  refine p_aload_n hx hb dJ3_append_2_60 rfl (lv_at hl 0 rfl) ?_
  refine lv_dup hx hb dJ3_append_2_61 (rv_cat _) ?_
  refine p_gI X cf11_ (k := 3) (by decide) rfl hP ht1 q244 (fun _ h => h) dJ3_append_2_62 ?_
  refine lv_dup_x1 hx hb dJ3_append_2_65 rfl (rv_cat _) ?_
  refine lv_iconst (v := 1) hx hb dJ3_append_2_66 (by decide) ?_
  refine lv_iadd hx hb dJ3_append_2_67 ?_
  refine p_pI X cf11_ (k := 3) (by decide) rfl hP hL ht1 (p_ow hP ht1 rfl) q244 (fun _ h => h) (Or.inl rfl) rfl rfl dJ3_append_2_68 (fun H locs hP hL => ?_)
  refine p_nmP hP (fun σ2 hσ2 hP => ?_)
  have hf := hf σ2 hσ2
  have ht1 : tg_ σ2 x0 = 12 := by rw [hσ2]; exact ht1
  refine lv_iload_n hx hb dJ3_append_2_71 rfl (lv_at hl 1 rfl) ?_
  exact hf.elim
set_option maxHeartbeats 4000000 in
theorem sJ3_append_2_L45 {G : GG_} {p : Program} {l : Launch} {e : Env} {R : Room} {s : State} {m : MethodId} {args : Array Value} {below : List Frame} {meth : Method} {c : Code} (Y : MX_ G p R s m args meth c cJ3_append_2 2 RJ3 (some ((Jvm.ClassFile.FieldType.object "java/lang/AbstractStringBuilder"))) 2 50 0 0 "append") {post : Nat → Hp → Prop} {x0 : Nat} {x1 : Int32} {σ : Hp} (hf : wJ3_append_2_L45 post x0 x1 σ) : WG_ G p l e R s m args below meth c (MQ below (QR_ G post) args s 0 0 (FR_ G)) BN_ 2 45 [(0, rv_ x0), (1, .int x1)] [] σ := by
  have ⟨X, hlk, hr, hRf, hRl, hRc, hnm⟩ := Y
  have ⟨⟨hx, hb, _, hown, hts⟩, _, _⟩ := X
  intro H locs cells slots ls hP hL hB hl
  obtain ⟨rfl, rfl⟩ := hB
  unfold wJ3_append_2_L45 at hf
  refine p_aload_n hx hb dJ3_append_2_45 rfl (lv_at hl 0 rfl) ?_
  obtain ⟨ht3, hf⟩ := hf
  refine p_calli hL (p_runV X cf11_ hP ht3 (metJ3_isLatin1 l G _ _ _ X.2.2 hf) ⟨callB_of 0 hts (lw_meth q304) rfl rfl rfl (hts _ q94) (hts _ q300) (by decide +kernel) ⟨Nat.le_trans (Nat.le_of_ble_eq_true rfl) hRf, Nat.le_trans (Nat.le_of_ble_eq_true rfl) hRl⟩, hts _ q301, (hts _ q303)⟩ rfl hl.1 rfl (by decide) dJ3_append_2_46 ⟨Nat.zero_le _, Nat.zero_le _⟩) (fun r4 σ₁ H locs hf hP hL => ?_)
  obtain ⟨e₁, hf⟩ := hf
  rw [e₁] at hP
  refine lv_if_eq (tgt := 56) hx hb dJ3_append_2_49 (by decide) (fun c5 => ?_) (fun c5 => ?_)
  · have hf := hf.1 c5
    exact sJ3_append_2_L56 Y hf _ _ _ _ _ hP hL ⟨rfl, rfl⟩ (lv_sub hl [0, 1] rfl)
  · have hf := hf.2 c5
    refine p_aload_n hx hb dJ3_append_2_52 rfl (lv_at hl 0 rfl) ?_
    exact hf.elim
set_option maxHeartbeats 4000000 in
theorem sJ3_append_2 {G : GG_} {p : Program} {l : Launch} {e : Env} {R : Room} {s : State} {m : MethodId} {args : Array Value} {below : List Frame} {meth : Method} {c : Code} (Y : MX_ G p R s m args meth c cJ3_append_2 2 RJ3 (some ((Jvm.ClassFile.FieldType.object "java/lang/AbstractStringBuilder"))) 2 50 0 0 "append") {post : Nat → Hp → Prop} {x0 : Nat} {x1 : Int32} {σ : Hp} (hf : wJ3_append_2 x0 x1 σ post) : WG_ G p l e R s m args below meth c (MQ below (QR_ G post) args s 0 0 (FR_ G)) BN_ 2 0 [(0, rv_ x0), (1, .int x1)] [] σ := by
  have ⟨X, hlk, hr, hRf, hRl, hRc, hnm⟩ := Y
  have ⟨⟨hx, hb, _, hown, hts⟩, _, _⟩ := X
  intro H locs cells slots ls hP hL hB hl
  obtain ⟨rfl, rfl⟩ := hB
  unfold wJ3_append_2 at hf
  refine p_aload_n hx hb dJ3_append_2_0 rfl (lv_at hl 0 rfl) ?_
  refine p_aload_n hx hb dJ3_append_2_1 rfl (lv_at hl 0 rfl) ?_
  obtain ⟨ht6, hf⟩ := hf
  refine p_gI X cf11_ (k := 3) (by decide) rfl hP ht6 q244 (fun _ h => h) dJ3_append_2_2 ?_
  refine lv_iconst (v := 1) hx hb dJ3_append_2_5 (by decide) ?_
  refine lv_iadd hx hb dJ3_append_2_6 ?_
  refine p_callv hL (p_runV X cf11_ hP ht6 (metJ3_ensureCapacityInternal l G _ _ _ _ X.2.2 hf) ⟨callB_of 1 hts (lw_meth q268) rfl rfl rfl (hts _ q94) (hts _ q265) (by decide +kernel) ⟨Nat.le_trans (Nat.le_of_ble_eq_true rfl) hRf, Nat.le_trans (Nat.le_of_ble_eq_true rfl) hRl⟩, hts _ q267, (p_selP X ⟨by decide, by decide⟩ q303 rfl q224 q266 q267)⟩ rfl hl.1 rfl (by decide) dJ3_append_2_7 ⟨Nat.zero_le _, Nat.zero_le _⟩) (fun σ7 H locs hf hP hL => ?_)
  refine p_aload_n hx hb dJ3_append_2_10 rfl (lv_at hl 0 rfl) ?_
  obtain ⟨ht8, hf⟩ := hf
  refine p_calli hL (p_runV X cf11_ hP ht8 (metJ3_isLatin1 l G _ _ _ X.2.2 hf) ⟨callB_of 0 hts (lw_meth q304) rfl rfl rfl (hts _ q94) (hts _ q300) (by decide +kernel) ⟨Nat.le_trans (Nat.le_of_ble_eq_true rfl) hRf, Nat.le_trans (Nat.le_of_ble_eq_true rfl) hRl⟩, hts _ q301, (hts _ q303)⟩ rfl hl.1 rfl (by decide) dJ3_append_2_11 ⟨Nat.zero_le _, Nat.zero_le _⟩) (fun r9 σ₁ H locs hf hP hL => ?_)
  obtain ⟨e₁, hf⟩ := hf
  rw [e₁] at hP
  refine lv_if_eq (tgt := 45) hx hb dJ3_append_2_14 (by decide) (fun c10 => ?_) (fun c10 => ?_)
  · have hf := hf.1 c10
    exact sJ3_append_2_L45 Y hf _ _ _ _ _ hP hL ⟨rfl, rfl⟩ (lv_sub hl [0, 1] rfl)
  · have hf := hf.2 c10
    refine lv_iload_n hx hb dJ3_append_2_17 rfl (lv_at hl 1 rfl) ?_
    refine p_calli hL (p_runS X hP (metJ11_canEncode l G _ _ _ X.2.2 hf) (va_cwS 1 hts (lw_S q691 q692 q103 q693) rfl rfl rfl (by decide +kernel) ⟨Nat.le_trans (Nat.le_of_ble_eq_true rfl) hRf, Nat.le_trans (Nat.le_of_ble_eq_true rfl) hRl⟩) rfl hl.1 rfl (by decide) dJ3_append_2_18 ⟨Nat.zero_le _, Nat.zero_le _⟩) (fun r11 σ₁ H locs hf hP hL => ?_)
    obtain ⟨e₁, hf⟩ := hf
    rw [e₁] at hP
    refine lv_if_eq (tgt := 45) hx hb dJ3_append_2_21 (by decide) (fun c12 => ?_) (fun c12 => ?_)
    · have hf := hf.1 c12
      exact sJ3_append_2_L45 Y hf _ _ _ _ _ hP hL ⟨rfl, rfl⟩ (lv_sub hl [0, 1] rfl)
    · have hf := hf.2 c12
      refine p_aload_n hx hb dJ3_append_2_24 rfl (lv_at hl 0 rfl) ?_
      refine p_gR X cf11_ (k := 0) (by decide) rfl hP ht8 q241 (fun _ h => h) dJ3_append_2_25 ?_
      refine p_aload_n hx hb dJ3_append_2_28 rfl (lv_at hl 0 rfl) ?_
      refine lv_dup hx hb dJ3_append_2_29 (rv_cat _) ?_
      refine p_gI X cf11_ (k := 3) (by decide) rfl hP ht8 q244 (fun _ h => h) dJ3_append_2_30 ?_
      refine lv_dup_x1 hx hb dJ3_append_2_33 rfl (rv_cat _) ?_
      refine lv_iconst (v := 1) hx hb dJ3_append_2_34 (by decide) ?_
      refine lv_iadd hx hb dJ3_append_2_35 ?_
      refine p_pI X cf11_ (k := 3) (by decide) rfl hP hL ht8 (p_ow hP ht8 rfl) q244 (fun _ h => h) (Or.inl rfl) rfl rfl dJ3_append_2_36 (fun H locs hP hL => ?_)
      refine p_nmP hP (fun σ13 hσ13 hP => ?_)
      have hf := hf σ13 hσ13
      have ht8 : tg_ σ13 x0 = 12 := by rw [hσ13]; exact ht8
      refine lv_iload_n hx hb dJ3_append_2_39 rfl (lv_at hl 1 rfl) ?_
      refine lv_i2b hx hb dJ3_append_2_40 rfl ?_
      obtain ⟨ht14, hf⟩ := hf
      obtain ⟨hlo15, hf⟩ := hf
      obtain ⟨hi16, hf⟩ := hf
      refine p_bast X hP hL ht14 hlo15 hi16 dJ3_append_2_41 (fun H locs hP hL => ?_)
      refine p_nmP hP (fun σ17 hσ17 hP => ?_)
      have hf := hf σ17 hσ17
      have ht8 : tg_ σ17 x0 = 12 := by rw [hσ17]; exact ht8
      refine lv_goto (tgt := 75) hx hb dJ3_append_2_42 (by decide) ?_
      refine p_aload_n hx hb dJ3_append_2_75 rfl (lv_at hl 0 rfl) ?_
      exact p_aret X hlk hP hL (Nat.le_refl _) (Nat.le_refl _) hr (Or.inl ⟨_, rfl⟩) dJ3_append_2_76 hf
set_option maxHeartbeats 4000000 in
theorem metJ3_append_2 (l : Launch) (G : GG_) (x0 : Nat) (x1 : Int32) (σ : Hp) (post : Nat → Hp → Prop) (hG : GOK_ G) (hf : wJ3_append_2 x0 x1 σ post) : Met l yJ3_append_2 (ws_ yJ3_append_2 cJ3_append_2 2 (some ((Jvm.ClassFile.FieldType.object "java/lang/AbstractStringBuilder")))) { frames := 2, cells := 0, slots := 0, locals := 50 } (PC_ G [rv_ x0, .int x1] σ) (QR_ G post) 0 0 (FR_ G) := by
  refine Met.ofW (cc := cJ3_append_2) (maxL := 2) (ret := (some ((Jvm.ClassFile.FieldType.object "java/lang/AbstractStringBuilder")))) (by decide) rfl ?_
  intro p e s m args below meth c s₁ B hml hv
  obtain ⟨rfl, hP, hW⟩ := hv
  have hts := atoms_spec (ws := ws_ yJ3_append_2 cJ3_append_2 2 (some ((Jvm.ClassFile.FieldType.object "java/lang/AbstractStringBuilder")))) B.pre
  have hts : ∀ w ∈ lw_all, w.before _ s = true := fun w h => hts w (List.mem_cons_of_mem _ h)
  rw [lg_entry_eq]
  have hl := en_entry [rv_ x0, .int x1] [1, 1] (n := 2) (ca_r (ca_i ca_n)) (by decide)
  exact sJ3_append_2 ⟨⟨⟨B.exec, B.bytes, hml, findClass_of_methodNamed B.named, hts⟩, hW, hG⟩, B.notSynchronized, B.returns, Nat.le_refl _, Nat.le_refl _, ⟨rfl, rfl⟩, (name_of_methodNamed B.named B.method).1⟩ hf _ _ _ _ _ hP (LO_nil G) ⟨rfl, rfl⟩ hl
abbrev cJ4_append_2 : ByteArray := prog_20_method_14_code
def yJ4_append_2 : MethodName := ⟨RJ4, "append", "(C)Ljava/lang/StringBuilder;"⟩
theorem dJ4_append_2_0 : decode cJ4_append_2 0 = .ok (.aload_n 0, 1) := by decide +kernel
theorem dJ4_append_2_1 : decode cJ4_append_2 1 = .ok (.iload_n 1, 1) := by decide +kernel
theorem dJ4_append_2_2 : decode cJ4_append_2 2 = .ok (.invokespecial 50, 3) := by decide +kernel
theorem dJ4_append_2_5 : decode cJ4_append_2 5 = .ok (.pop, 1) := by decide +kernel
theorem dJ4_append_2_6 : decode cJ4_append_2 6 = .ok (.aload_n 0, 1) := by decide +kernel
theorem dJ4_append_2_7 : decode cJ4_append_2 7 = .ok (.areturn, 1) := by decide +kernel
/-- java/lang/StringBuilder.append(C)Ljava/lang/StringBuilder; -/
def wJ4_append_2 (x0 : Nat) (x1 : Int32) (σ : Hp) (post : Nat → Hp → Prop) : Prop :=
(tg_ σ x0 = 12 ∧ (wJ3_append_2 x0 x1 σ (fun r2 σ3 => post x0 σ3)))
set_option maxHeartbeats 4000000 in
theorem sJ4_append_2 {G : GG_} {p : Program} {l : Launch} {e : Env} {R : Room} {s : State} {m : MethodId} {args : Array Value} {below : List Frame} {meth : Method} {c : Code} (Y : MX_ G p R s m args meth c cJ4_append_2 2 RJ4 (some ((Jvm.ClassFile.FieldType.object "java/lang/StringBuilder"))) 3 71 0 0 "append") {post : Nat → Hp → Prop} {x0 : Nat} {x1 : Int32} {σ : Hp} (hf : wJ4_append_2 x0 x1 σ post) : WG_ G p l e R s m args below meth c (MQ below (QR_ G post) args s 0 0 (FR_ G)) BN_ 2 0 [(0, rv_ x0), (1, .int x1)] [] σ := by
  have ⟨X, hlk, hr, hRf, hRl, hRc, hnm⟩ := Y
  have ⟨⟨hx, hb, _, hown, hts⟩, _, _⟩ := X
  intro H locs cells slots ls hP hL hB hl
  obtain ⟨rfl, rfl⟩ := hB
  unfold wJ4_append_2 at hf
  refine p_aload_n hx hb dJ4_append_2_0 rfl (lv_at hl 0 rfl) ?_
  refine lv_iload_n hx hb dJ4_append_2_1 rfl (lv_at hl 1 rfl) ?_
  obtain ⟨ht1, hf⟩ := hf
  refine p_callr hL (p_runSU X cf11_ hP ht1 (metJ3_append_2 l G _ _ _ _ X.2.2 hf) (va_cwSU 1 hts (lw_app (lw_5 q688 q1710 q253 q689 q94) (lw_meth q690)) rfl rfl rfl (by decide +kernel) ⟨Nat.le_trans (Nat.le_of_ble_eq_true rfl) hRf, Nat.le_trans (Nat.le_of_ble_eq_true rfl) hRl⟩) rfl hl.1 rfl (by decide) dJ4_append_2_2 ⟨Nat.zero_le _, Nat.zero_le _⟩) (fun r2 σ3 H locs hf hP hL => ?_)
  refine lv_pop hx hb dJ4_append_2_5 (rv_cat _) ?_
  refine p_aload_n hx hb dJ4_append_2_6 rfl (lv_at hl 0 rfl) ?_
  exact p_aret X hlk hP hL (Nat.le_refl _) (Nat.le_refl _) hr (Or.inl ⟨_, rfl⟩) dJ4_append_2_7 hf
set_option maxHeartbeats 4000000 in
theorem metJ4_append_2 (l : Launch) (G : GG_) (x0 : Nat) (x1 : Int32) (σ : Hp) (post : Nat → Hp → Prop) (hG : GOK_ G) (hf : wJ4_append_2 x0 x1 σ post) : Met l yJ4_append_2 (ws_ yJ4_append_2 cJ4_append_2 2 (some ((Jvm.ClassFile.FieldType.object "java/lang/StringBuilder")))) { frames := 3, cells := 0, slots := 0, locals := 71 } (PC_ G [rv_ x0, .int x1] σ) (QR_ G post) 0 0 (FR_ G) := by
  refine Met.ofW (cc := cJ4_append_2) (maxL := 2) (ret := (some ((Jvm.ClassFile.FieldType.object "java/lang/StringBuilder")))) (by decide) rfl ?_
  intro p e s m args below meth c s₁ B hml hv
  obtain ⟨rfl, hP, hW⟩ := hv
  have hts := atoms_spec (ws := ws_ yJ4_append_2 cJ4_append_2 2 (some ((Jvm.ClassFile.FieldType.object "java/lang/StringBuilder")))) B.pre
  have hts : ∀ w ∈ lw_all, w.before _ s = true := fun w h => hts w (List.mem_cons_of_mem _ h)
  rw [lg_entry_eq]
  have hl := en_entry [rv_ x0, .int x1] [1, 1] (n := 2) (ca_r (ca_i ca_n)) (by decide)
  exact sJ4_append_2 ⟨⟨⟨B.exec, B.bytes, hml, findClass_of_methodNamed B.named, hts⟩, hW, hG⟩, B.notSynchronized, B.returns, Nat.le_refl _, Nat.le_refl _, ⟨rfl, rfl⟩, (name_of_methodNamed B.named B.method).1⟩ hf _ _ _ _ _ hP (LO_nil G) ⟨rfl, rfl⟩ hl
abbrev cJ3_getValue : ByteArray := prog_13_method_64_code
def yJ3_getValue : MethodName := ⟨RJ3, "getValue", "()[B"⟩
theorem dJ3_getValue_0 : decode cJ3_getValue 0 = .ok (.aload_n 0, 1) := by decide +kernel
theorem dJ3_getValue_1 : decode cJ3_getValue 1 = .ok (.getfield 15, 3) := by decide +kernel
theorem dJ3_getValue_4 : decode cJ3_getValue 4 = .ok (.areturn, 1) := by decide +kernel
/-- java/lang/AbstractStringBuilder.getValue()[B -/
def wJ3_getValue (x0 : Nat) (σ : Hp) (post : Nat → Prop) : Prop :=
(tg_ σ x0 = 12 ∧ post (fR_ σ 11 0 x0))
set_option maxHeartbeats 4000000 in
theorem sJ3_getValue {G : GG_} {p : Program} {l : Launch} {e : Env} {R : Room} {s : State} {m : MethodId} {args : Array Value} {below : List Frame} {meth : Method} {c : Code} (Y : MX_ G p R s m args meth c cJ3_getValue 1 RJ3 (some ((Jvm.ClassFile.FieldType.array Jvm.ClassFile.FieldType.byte))) 1 20 0 0 "getValue") {post : Nat → Prop} {x0 : Nat} {σ : Hp} (hf : wJ3_getValue x0 σ post) : WG_ G p l e R s m args below meth c (MQ below (QR_ G (fun r τ => τ = σ ∧ post r)) args s 0 0 (FR_ G)) BN_ 1 0 [(0, rv_ x0)] [] σ := by
  have ⟨X, hlk, hr, hRf, hRl, hRc, hnm⟩ := Y
  have ⟨⟨hx, hb, _, hown, hts⟩, _, _⟩ := X
  intro H locs cells slots ls hP hL hB hl
  obtain ⟨rfl, rfl⟩ := hB
  unfold wJ3_getValue at hf
  refine p_aload_n hx hb dJ3_getValue_0 rfl (lv_at hl 0 rfl) ?_
  obtain ⟨ht1, hf⟩ := hf
  refine p_gR X cf11_ (k := 0) (by decide) rfl hP ht1 q241 (fun _ h => h) dJ3_getValue_1 ?_
  exact p_aret X hlk hP hL (Nat.le_refl _) (Nat.le_refl _) hr (Or.inr ⟨_, rfl⟩) dJ3_getValue_4 ⟨rfl, hf⟩
set_option maxHeartbeats 4000000 in
theorem metJ3_getValue (l : Launch) (G : GG_) (x0 : Nat) (σ : Hp) (post : Nat → Prop) (hG : GOK_ G) (hf : wJ3_getValue x0 σ post) : Met l yJ3_getValue (ws_ yJ3_getValue cJ3_getValue 1 (some ((Jvm.ClassFile.FieldType.array Jvm.ClassFile.FieldType.byte)))) { frames := 1, cells := 0, slots := 0, locals := 20 } (PC_ G [rv_ x0] σ) (QR_ G (fun r τ => τ = σ ∧ post r)) 0 0 (FR_ G) := by
  refine Met.ofW (cc := cJ3_getValue) (maxL := 1) (ret := (some ((Jvm.ClassFile.FieldType.array Jvm.ClassFile.FieldType.byte)))) (by decide) rfl ?_
  intro p e s m args below meth c s₁ B hml hv
  obtain ⟨rfl, hP, hW⟩ := hv
  have hts := atoms_spec (ws := ws_ yJ3_getValue cJ3_getValue 1 (some ((Jvm.ClassFile.FieldType.array Jvm.ClassFile.FieldType.byte)))) B.pre
  have hts : ∀ w ∈ lw_all, w.before _ s = true := fun w h => hts w (List.mem_cons_of_mem _ h)
  rw [lg_entry_eq]
  have hl := en_entry [rv_ x0] [1] (n := 1) (ca_r ca_n) (by decide)
  exact sJ3_getValue ⟨⟨⟨B.exec, B.bytes, hml, findClass_of_methodNamed B.named, hts⟩, hW, hG⟩, B.notSynchronized, B.returns, Nat.le_refl _, Nat.le_refl _, ⟨rfl, rfl⟩, (name_of_methodNamed B.named B.method).1⟩ hf _ _ _ _ _ hP (LO_nil G) ⟨rfl, rfl⟩ hl
abbrev cJ3_length : ByteArray := prog_13_method_6_code
def yJ3_length : MethodName := ⟨RJ3, "length", "()I"⟩
theorem dJ3_length_0 : decode cJ3_length 0 = .ok (.aload_n 0, 1) := by decide +kernel
theorem dJ3_length_1 : decode cJ3_length 1 = .ok (.getfield 79, 3) := by decide +kernel
theorem dJ3_length_4 : decode cJ3_length 4 = .ok (.ireturn, 1) := by decide +kernel
/-- java/lang/AbstractStringBuilder.length()I -/
def wJ3_length (x0 : Nat) (σ : Hp) (post : Int32 → Prop) : Prop :=
(tg_ σ x0 = 12 ∧ post (fI_ σ 11 3 x0))
set_option maxHeartbeats 4000000 in
theorem sJ3_length {G : GG_} {p : Program} {l : Launch} {e : Env} {R : Room} {s : State} {m : MethodId} {args : Array Value} {below : List Frame} {meth : Method} {c : Code} (Y : MX_ G p R s m args meth c cJ3_length 1 RJ3 (some Jvm.ClassFile.FieldType.int) 1 20 0 0 "length") {post : Int32 → Prop} {x0 : Nat} {σ : Hp} (hf : wJ3_length x0 σ post) : WG_ G p l e R s m args below meth c (MQ below (QI_ G (fun r τ => τ = σ ∧ post r)) args s 0 0 (FR_ G)) BN_ 1 0 [(0, rv_ x0)] [] σ := by
  have ⟨X, hlk, hr, hRf, hRl, hRc, hnm⟩ := Y
  have ⟨⟨hx, hb, _, hown, hts⟩, _, _⟩ := X
  intro H locs cells slots ls hP hL hB hl
  obtain ⟨rfl, rfl⟩ := hB
  unfold wJ3_length at hf
  refine p_aload_n hx hb dJ3_length_0 rfl (lv_at hl 0 rfl) ?_
  obtain ⟨ht1, hf⟩ := hf
  refine p_gI X cf11_ (k := 3) (by decide) rfl hP ht1 q244 (fun _ h => h) dJ3_length_1 ?_
  exact p_iret X hlk hP hL (Nat.le_refl _) (Nat.le_refl _) hr dJ3_length_4 ⟨rfl, hf⟩
set_option maxHeartbeats 4000000 in
theorem metJ3_length (l : Launch) (G : GG_) (x0 : Nat) (σ : Hp) (post : Int32 → Prop) (hG : GOK_ G) (hf : wJ3_length x0 σ post) : Met l yJ3_length (ws_ yJ3_length cJ3_length 1 (some Jvm.ClassFile.FieldType.int)) { frames := 1, cells := 0, slots := 0, locals := 20 } (PC_ G [rv_ x0] σ) (QI_ G (fun r τ => τ = σ ∧ post r)) 0 0 (FR_ G) := by
  refine Met.ofW (cc := cJ3_length) (maxL := 1) (ret := (some Jvm.ClassFile.FieldType.int)) (by decide) rfl ?_
  intro p e s m args below meth c s₁ B hml hv
  obtain ⟨rfl, hP, hW⟩ := hv
  have hts := atoms_spec (ws := ws_ yJ3_length cJ3_length 1 (some Jvm.ClassFile.FieldType.int)) B.pre
  have hts : ∀ w ∈ lw_all, w.before _ s = true := fun w h => hts w (List.mem_cons_of_mem _ h)
  rw [lg_entry_eq]
  have hl := en_entry [rv_ x0] [1] (n := 1) (ca_r ca_n) (by decide)
  exact sJ3_length ⟨⟨⟨B.exec, B.bytes, hml, findClass_of_methodNamed B.named, hts⟩, hW, hG⟩, B.notSynchronized, B.returns, Nat.le_refl _, Nat.le_refl _, ⟨rfl, rfl⟩, (name_of_methodNamed B.named B.method).1⟩ hf _ _ _ _ _ hP (LO_nil G) ⟨rfl, rfl⟩ hl
abbrev cJ4_length : ByteArray := prog_20_method_93_code
def yJ4_length : MethodName := ⟨RJ4, "length", "()I"⟩
theorem dJ4_length_0 : decode cJ4_length 0 = .ok (.aload_n 0, 1) := by decide +kernel
theorem dJ4_length_1 : decode cJ4_length 1 = .ok (.invokespecial 343, 3) := by decide +kernel
theorem dJ4_length_4 : decode cJ4_length 4 = .ok (.ireturn, 1) := by decide +kernel
/-- java/lang/StringBuilder.length()I -/
def wJ4_length (x0 : Nat) (σ : Hp) (post : Int32 → Prop) : Prop :=
(tg_ σ x0 = 12 ∧ (wJ3_length x0  σ (fun r2 => post r2)))
set_option maxHeartbeats 4000000 in
theorem sJ4_length {G : GG_} {p : Program} {l : Launch} {e : Env} {R : Room} {s : State} {m : MethodId} {args : Array Value} {below : List Frame} {meth : Method} {c : Code} (Y : MX_ G p R s m args meth c cJ4_length 1 RJ4 (some Jvm.ClassFile.FieldType.int) 2 40 0 0 "length") {post : Int32 → Prop} {x0 : Nat} {σ : Hp} (hf : wJ4_length x0 σ post) : WG_ G p l e R s m args below meth c (MQ below (QI_ G (fun r τ => τ = σ ∧ post r)) args s 0 0 (FR_ G)) BN_ 1 0 [(0, rv_ x0)] [] σ := by
  have ⟨X, hlk, hr, hRf, hRl, hRc, hnm⟩ := Y
  have ⟨⟨hx, hb, _, hown, hts⟩, _, _⟩ := X
  intro H locs cells slots ls hP hL hB hl
  obtain ⟨rfl, rfl⟩ := hB
  unfold wJ4_length at hf
  refine p_aload_n hx hb dJ4_length_0 rfl (lv_at hl 0 rfl) ?_
  obtain ⟨ht1, hf⟩ := hf
  refine p_calli hL (p_runSU X cf11_ hP ht1 (metJ3_length l G _ _ _ X.2.2 hf) (va_cwSU 0 hts (lw_app (lw_5 q399 q395 q253 q394 q94) (lw_meth q400)) rfl rfl rfl (by decide +kernel) ⟨Nat.le_trans (Nat.le_of_ble_eq_true rfl) hRf, Nat.le_trans (Nat.le_of_ble_eq_true rfl) hRl⟩) rfl hl.1 rfl (by decide) dJ4_length_1 ⟨Nat.zero_le _, Nat.zero_le _⟩) (fun r2 σ₁ H locs hf hP hL => ?_)
  obtain ⟨e₁, hf⟩ := hf
  rw [e₁] at hP
  exact p_iret X hlk hP hL (Nat.le_refl _) (Nat.le_refl _) hr dJ4_length_4 ⟨rfl, hf⟩
set_option maxHeartbeats 4000000 in
theorem metJ4_length (l : Launch) (G : GG_) (x0 : Nat) (σ : Hp) (post : Int32 → Prop) (hG : GOK_ G) (hf : wJ4_length x0 σ post) : Met l yJ4_length (ws_ yJ4_length cJ4_length 1 (some Jvm.ClassFile.FieldType.int)) { frames := 2, cells := 0, slots := 0, locals := 40 } (PC_ G [rv_ x0] σ) (QI_ G (fun r τ => τ = σ ∧ post r)) 0 0 (FR_ G) := by
  refine Met.ofW (cc := cJ4_length) (maxL := 1) (ret := (some Jvm.ClassFile.FieldType.int)) (by decide) rfl ?_
  intro p e s m args below meth c s₁ B hml hv
  obtain ⟨rfl, hP, hW⟩ := hv
  have hts := atoms_spec (ws := ws_ yJ4_length cJ4_length 1 (some Jvm.ClassFile.FieldType.int)) B.pre
  have hts : ∀ w ∈ lw_all, w.before _ s = true := fun w h => hts w (List.mem_cons_of_mem _ h)
  rw [lg_entry_eq]
  have hl := en_entry [rv_ x0] [1] (n := 1) (ca_r ca_n) (by decide)
  exact sJ4_length ⟨⟨⟨B.exec, B.bytes, hml, findClass_of_methodNamed B.named, hts⟩, hW, hG⟩, B.notSynchronized, B.returns, Nat.le_refl _, Nat.le_refl _, ⟨rfl, rfl⟩, (name_of_methodNamed B.named B.method).1⟩ hf _ _ _ _ _ hP (LO_nil G) ⟨rfl, rfl⟩ hl
abbrev cJ9_checkLength : ByteArray := prog_28_method_131_code
def yJ9_checkLength : MethodName := ⟨RJ9, "checkLength", "(II)V"⟩
theorem dJ9_checkLength_0 : decode cJ9_checkLength 0 = .ok (.iload_n 1, 1) := by decide +kernel
theorem dJ9_checkLength_1 : decode cJ9_checkLength 1 = .ok (.iload_n 0, 1) := by decide +kernel
theorem dJ9_checkLength_2 : decode cJ9_checkLength 2 = .ok (.if_icmp .ge 35, 3) := by decide +kernel
theorem dJ9_checkLength_5 : decode cJ9_checkLength 5 = .ok (.new 43, 3) := by decide +kernel
theorem dJ9_checkLength_8 : decode cJ9_checkLength 8 = .ok (.dup, 1) := by decide +kernel
theorem dJ9_checkLength_9 : decode cJ9_checkLength 9 = .ok (.new 45, 3) := by decide +kernel
theorem dJ9_checkLength_12 : decode cJ9_checkLength 12 = .ok (.dup, 1) := by decide +kernel
theorem dJ9_checkLength_13 : decode cJ9_checkLength 13 = .ok (.invokespecial 47, 3) := by decide +kernel
theorem dJ9_checkLength_16 : decode cJ9_checkLength 16 = .ok (.iload_n 0, 1) := by decide +kernel
theorem dJ9_checkLength_17 : decode cJ9_checkLength 17 = .ok (.invokevirtual 54, 3) := by decide +kernel
theorem dJ9_checkLength_20 : decode cJ9_checkLength 20 = .ok (.ldc_w 337, 3) := by decide +kernel
theorem dJ9_checkLength_23 : decode cJ9_checkLength 23 = .ok (.invokevirtual 50, 3) := by decide +kernel
theorem dJ9_checkLength_26 : decode cJ9_checkLength 26 = .ok (.iload_n 1, 1) := by decide +kernel
theorem dJ9_checkLength_27 : decode cJ9_checkLength 27 = .ok (.invokevirtual 54, 3) := by decide +kernel
theorem dJ9_checkLength_30 : decode cJ9_checkLength 30 = .ok (.invokevirtual 61, 3) := by decide +kernel
theorem dJ9_checkLength_33 : decode cJ9_checkLength 33 = .ok (.invokespecial 65, 3) := by decide +kernel
theorem dJ9_checkLength_36 : decode cJ9_checkLength 36 = .ok (.athrow, 1) := by decide +kernel
theorem dJ9_checkLength_37 : decode cJ9_checkLength 37 = .ok (.return_, 1) := by decide +kernel
/-- java/util/Arrays.checkLength(II)V -/
def wJ9_checkLength (x0 : Int32) (x1 : Int32) (σ : Hp) (post : Prop) : Prop :=
((x0 ≤ x1 →
  post) ∧
 (¬ x0 ≤ x1 →
  False))
set_option maxHeartbeats 4000000 in
theorem sJ9_checkLength {G : GG_} {p : Program} {l : Launch} {e : Env} {R : Room} {s : State} {m : MethodId} {args : Array Value} {below : List Frame} {meth : Method} {c : Code} (Y : MX_ G p R s m args meth c cJ9_checkLength 2 RJ9 none 1 20 0 0 "checkLength") {post : Prop} {x0 : Int32} {x1 : Int32} {σ : Hp} (hf : wJ9_checkLength x0 x1 σ post) : WG_ G p l e R s m args below meth c (MQ below (QV_ G (fun τ => τ = σ ∧ post)) args s 0 0 (FR_ G)) BN_ 2 0 [(0, .int x0), (1, .int x1)] [] σ := by
  have ⟨X, hlk, hr, hRf, hRl, hRc, hnm⟩ := Y
  have ⟨⟨hx, hb, _, hown, hts⟩, _, _⟩ := X
  intro H locs cells slots ls hP hL hB hl
  obtain ⟨rfl, rfl⟩ := hB
  unfold wJ9_checkLength at hf
  refine lv_iload_n hx hb dJ9_checkLength_0 rfl (lv_at hl 1 rfl) ?_
  refine lv_iload_n hx hb dJ9_checkLength_1 rfl (lv_at hl 0 rfl) ?_
  refine lv_icmp_ge (tgt := 37) hx hb dJ9_checkLength_2 (by decide) (fun c1 => ?_) (fun c1 => ?_)
  · have hf := hf.1 c1
    exact p_vret X hlk hP hL (Nat.le_refl _) (Nat.le_refl _) hr dJ9_checkLength_37 ⟨rfl, hf⟩
  · have hf := hf.2 c1
    exact hf.elim
set_option maxHeartbeats 4000000 in
theorem metJ9_checkLength (l : Launch) (G : GG_) (x0 : Int32) (x1 : Int32) (σ : Hp) (post : Prop) (hG : GOK_ G) (hf : wJ9_checkLength x0 x1 σ post) : Met l yJ9_checkLength (ws_ yJ9_checkLength cJ9_checkLength 2 none) { frames := 1, cells := 0, slots := 0, locals := 20 } (PC_ G [.int x0, .int x1] σ) (QV_ G (fun τ => τ = σ ∧ post)) 0 0 (FR_ G) := by
  refine Met.ofW (cc := cJ9_checkLength) (maxL := 2) (ret := none) (by decide) rfl ?_
  intro p e s m args below meth c s₁ B hml hv
  obtain ⟨rfl, hP, hW⟩ := hv
  have hts := atoms_spec (ws := ws_ yJ9_checkLength cJ9_checkLength 2 none) B.pre
  have hts : ∀ w ∈ lw_all, w.before _ s = true := fun w h => hts w (List.mem_cons_of_mem _ h)
  rw [lg_entry_eq]
  have hl := en_entry [.int x0, .int x1] [1, 1] (n := 2) (ca_i (ca_i ca_n)) (by decide)
  exact sJ9_checkLength ⟨⟨⟨B.exec, B.bytes, hml, findClass_of_methodNamed B.named, hts⟩, hW, hG⟩, B.notSynchronized, B.returns, Nat.le_refl _, Nat.le_refl _, ⟨rfl, rfl⟩, (name_of_methodNamed B.named B.method).1⟩ hf _ _ _ _ _ hP (LO_nil G) ⟨rfl, rfl⟩ hl
abbrev cJ9_copyOfRangeByte : ByteArray := prog_28_method_133_code
def yJ9_copyOfRangeByte : MethodName := ⟨RJ9, "copyOfRangeByte", "([BII)[B"⟩
theorem dJ9_copyOfRangeByte_0 : decode cJ9_copyOfRangeByte 0 = .ok (.iload_n 1, 1) := by decide +kernel
theorem dJ9_copyOfRangeByte_1 : decode cJ9_copyOfRangeByte 1 = .ok (.iload_n 2, 1) := by decide +kernel
theorem dJ9_copyOfRangeByte_2 : decode cJ9_copyOfRangeByte 2 = .ok (.invokestatic 343, 3) := by decide +kernel
theorem dJ9_copyOfRangeByte_5 : decode cJ9_copyOfRangeByte 5 = .ok (.iload_n 2, 1) := by decide +kernel
theorem dJ9_copyOfRangeByte_6 : decode cJ9_copyOfRangeByte 6 = .ok (.iload_n 1, 1) := by decide +kernel
theorem dJ9_copyOfRangeByte_7 : decode cJ9_copyOfRangeByte 7 = .ok (.isub, 1) := by decide +kernel
theorem dJ9_copyOfRangeByte_8 : decode cJ9_copyOfRangeByte 8 = .ok (.istore_n 3, 1) := by decide +kernel
theorem dJ9_copyOfRangeByte_9 : decode cJ9_copyOfRangeByte 9 = .ok (.iload_n 3, 1) := by decide +kernel
theorem dJ9_copyOfRangeByte_10 : decode cJ9_copyOfRangeByte 10 = .ok (.newarray .byte, 2) := by decide +kernel
theorem dJ9_copyOfRangeByte_12 : decode cJ9_copyOfRangeByte 12 = .ok (.astore 4, 2) := by decide +kernel
theorem dJ9_copyOfRangeByte_14 : decode cJ9_copyOfRangeByte 14 = .ok (.aload_n 0, 1) := by decide +kernel
theorem dJ9_copyOfRangeByte_15 : decode cJ9_copyOfRangeByte 15 = .ok (.iload_n 1, 1) := by decide +kernel
theorem dJ9_copyOfRangeByte_16 : decode cJ9_copyOfRangeByte 16 = .ok (.aload 4, 2) := by decide +kernel
theorem dJ9_copyOfRangeByte_18 : decode cJ9_copyOfRangeByte 18 = .ok (.iconst 0, 1) := by decide +kernel
theorem dJ9_copyOfRangeByte_19 : decode cJ9_copyOfRangeByte 19 = .ok (.aload_n 0, 1) := by decide +kernel
theorem dJ9_copyOfRangeByte_20 : decode cJ9_copyOfRangeByte 20 = .ok (.arraylength, 1) := by decide +kernel
theorem dJ9_copyOfRangeByte_21 : decode cJ9_copyOfRangeByte 21 = .ok (.iload_n 1, 1) := by decide +kernel
theorem dJ9_copyOfRangeByte_22 : decode cJ9_copyOfRangeByte 22 = .ok (.isub, 1) := by decide +kernel
theorem dJ9_copyOfRangeByte_23 : decode cJ9_copyOfRangeByte 23 = .ok (.iload_n 3, 1) := by decide +kernel
theorem dJ9_copyOfRangeByte_24 : decode cJ9_copyOfRangeByte 24 = .ok (.invokestatic 304, 3) := by decide +kernel
theorem dJ9_copyOfRangeByte_27 : decode cJ9_copyOfRangeByte 27 = .ok (.invokestatic 150, 3) := by decide +kernel
theorem dJ9_copyOfRangeByte_30 : decode cJ9_copyOfRangeByte 30 = .ok (.aload 4, 2) := by decide +kernel
theorem dJ9_copyOfRangeByte_32 : decode cJ9_copyOfRangeByte 32 = .ok (.areturn, 1) := by decide +kernel
/-- java/util/Arrays.copyOfRangeByte([BII)[B -/
def wJ9_copyOfRangeByte (x0 : Nat) (x1 : Int32) (x2 : Int32) (σ : Hp) (post : Nat → Hp → Prop) : Prop :=
(wJ9_checkLength x1 x2 σ ((∀ y1 : Int32, y1 = (x2 - x1) → (¬ y1 < 0 ∧ ((y1).toNatClampNeg ≤ 1000000 ∧ (1 ≤ bc_ σ ∧ ((y1).toNatClampNeg ≤ bs_ σ ∧ (∀ σ6, σ6 = mA_ σ 100 (y1).toNatClampNeg → (∀ y7 : Nat, y7 = (nx_ σ) → (tg_ σ6 x0 = 100 ∧ (tg_ σ6 y7 = 100 ∧ (lo_ σ6 < y7 ∧ (¬ x1 < 0 ∧ (¬ (0 : Int32) < 0 ∧ (¬ (if y1 < ((nI (ln_ σ6 x0)) - x1) then y1 else ((nI (ln_ σ6 x0)) - x1)) < 0 ∧ ((x1).toNatClampNeg + ((if y1 < ((nI (ln_ σ6 x0)) - x1) then y1 else ((nI (ln_ σ6 x0)) - x1))).toNatClampNeg ≤ ln_ σ6 x0 ∧ (((0 : Int32)).toNatClampNeg + ((if y1 < ((nI (ln_ σ6 x0)) - x1) then y1 else ((nI (ln_ σ6 x0)) - x1))).toNatClampNeg ≤ ln_ σ6 y7 ∧ ((∀ i, i < ((if y1 < ((nI (ln_ σ6 x0)) - x1) then y1 else ((nI (ln_ σ6 x0)) - x1))).toNatClampNeg → fits .byte (.int (aI_ σ6 x0 ((x1).toNatClampNeg + i))) = true) ∧ (∀ σ17, σ17 = cI_ σ6 x0 (x1).toNatClampNeg y7 ((0 : Int32)).toNatClampNeg ((if y1 < ((nI (ln_ σ6 x0)) - x1) then y1 else ((nI (ln_ σ6 x0)) - x1))).toNatClampNeg → post y7 σ17)))))))))))))))))))
set_option maxHeartbeats 4000000 in
theorem sJ9_copyOfRangeByte {G : GG_} {p : Program} {l : Launch} {e : Env} {R : Room} {s : State} {m : MethodId} {args : Array Value} {below : List Frame} {meth : Method} {c : Code} {mc ms : Nat} (Y : MX_ G p R s m args meth c cJ9_copyOfRangeByte 5 RJ9 (some ((Jvm.ClassFile.FieldType.array Jvm.ClassFile.FieldType.byte))) 2 48 mc ms "copyOfRangeByte") {post : Nat → Hp → Prop} {x0 : Nat} {x1 : Int32} {x2 : Int32} {σ : Hp} (hf : wJ9_copyOfRangeByte x0 x1 x2 σ post) : WG_ G p l e R s m args below meth c (MQ below (QR_ G post) args s mc ms (FR_ G)) (BU_ R) 5 0 [(0, rv_ x0), (1, .int x1), (2, .int x2)] [] σ := by
  have ⟨X, hlk, hr, hRf, hRl, hRc, hnm⟩ := Y
  have ⟨⟨hx, hb, _, hown, hts⟩, _, _⟩ := X
  intro H locs cells slots ls hP hL hB hl
  unfold wJ9_copyOfRangeByte at hf
  refine lv_iload_n hx hb dJ9_copyOfRangeByte_0 rfl (lv_at hl 1 rfl) ?_
  refine lv_iload_n hx hb dJ9_copyOfRangeByte_1 rfl (lv_at hl 2 rfl) ?_
  refine p_callv hL (p_runS X hP (metJ9_checkLength l G _ _ _ _ X.2.2 hf) (va_cwS 2 hts (lw_S q408 q409 q100 q410) rfl rfl rfl (by decide +kernel) ⟨Nat.le_trans (Nat.le_of_ble_eq_true rfl) hRf, Nat.le_trans (Nat.le_of_ble_eq_true rfl) hRl⟩) rfl hl.1 rfl (by decide) dJ9_copyOfRangeByte_2 (BU_call hB (Nat.zero_le _) (Nat.zero_le _))) (fun σ₁ H locs hf hP hL => ?_)
  obtain ⟨e₁, hf⟩ := hf
  rw [e₁] at hP
  refine lv_iload_n hx hb dJ9_copyOfRangeByte_5 rfl (lv_at hl 2 rfl) ?_
  refine lv_iload_n hx hb dJ9_copyOfRangeByte_6 rfl (lv_at hl 1 rfl) ?_
  refine lv_isub hx hb dJ9_copyOfRangeByte_7 ?_
  have hl := lv_sub hl [0, 1] rfl
  refine lv_topi (fun y1 hy1 => ?_)
  have hf := hf y1 hy1
  refine p_istore_n (i := 3) hx hb dJ9_copyOfRangeByte_8 rfl hl (by decide) ⟨⟨ne_ rfl, Or.inl (ne_ rfl)⟩, ⟨⟨ne_ rfl, Or.inl (ne_ rfl)⟩, trivial⟩⟩ (fun ls hl => ?_)
  refine lv_iload_n hx hb dJ9_copyOfRangeByte_9 rfl (lv_at hl 0 rfl) ?_
  obtain ⟨hb2, hf⟩ := hf
  obtain ⟨hb3, hf⟩ := hf
  obtain ⟨hb4, hf⟩ := hf
  obtain ⟨hb5, hf⟩ := hf
  refine p_newa X (atype := .byte) (t := 100) rfl (by decide) (by decide) q184 hP hB hb2 hb3 hb4 hb5 dJ9_copyOfRangeByte_10 (fun H hP hB => ?_)
  refine p_nmPB hP hB (fun σ6 hσ6 hP hB => ?_)
  have hf := hf σ6 hσ6
  refine p_topr (fun y7 hy7 => ?_)
  have hf := hf y7 hy7
  refine p_astore (i := 4) hx hb dJ9_copyOfRangeByte_12 hl (by decide) ⟨⟨ne_ rfl, Or.inr rfl⟩, ⟨⟨ne_ rfl, Or.inl (ne_ rfl)⟩, ⟨⟨ne_ rfl, Or.inl (ne_ rfl)⟩, trivial⟩⟩⟩ (fun ls hl => ?_)
  refine p_aload_n hx hb dJ9_copyOfRangeByte_14 rfl (lv_at hl 2 rfl) ?_
  refine lv_iload_n hx hb dJ9_copyOfRangeByte_15 rfl (lv_at hl 3 rfl) ?_
  refine p_aload hx hb dJ9_copyOfRangeByte_16 (lv_at hl 0 rfl) ?_
  refine lv_iconst (v := 0) hx hb dJ9_copyOfRangeByte_18 (by decide) ?_
  refine p_aload_n hx hb dJ9_copyOfRangeByte_19 rfl (lv_at hl 2 rfl) ?_
  obtain ⟨ht8, hf⟩ := hf
  refine p_alen X hP ht8 (by decide) (by decide) dJ9_copyOfRangeByte_20 ?_
  refine lv_iload_n hx hb dJ9_copyOfRangeByte_21 rfl (lv_at hl 3 rfl) ?_
  refine lv_isub hx hb dJ9_copyOfRangeByte_22 ?_
  refine lv_iload_n hx hb dJ9_copyOfRangeByte_23 rfl (lv_at hl 1 rfl) ?_
  refine p_min X q294 hl.1 (Nat.le_trans (by decide) hRf) (by rw [(ca_i (ca_r (ca_i (ca_r ca_n))))]; decide) (Nat.le_trans (by decide) hRl) (BU_call hB (Nat.zero_le _) (Nat.zero_le _)) dJ9_copyOfRangeByte_24 ?_
  obtain ⟨ht9, hf⟩ := hf
  obtain ⟨ha10, hf⟩ := hf
  obtain ⟨ha11, hf⟩ := hf
  obtain ⟨ha12, hf⟩ := hf
  obtain ⟨ha13, hf⟩ := hf
  obtain ⟨ha14, hf⟩ := hf
  obtain ⟨ha15, hf⟩ := hf
  obtain ⟨ha16, hf⟩ := hf
  refine p_acpB X hP hL ht8 ht9 ha10 ha11 ha12 ha13 ha14 ha15 ha16 q297 q299 q298 q101 hl.1 (Nat.le_trans (by decide) hRf) (by decide) (Nat.le_trans (by decide) hRl) dJ9_copyOfRangeByte_27 (fun H locs hP hL => ?_)
  refine p_nmPB hP hB (fun σ17 hσ17 hP hB => ?_)
  have hf := hf σ17 hσ17
  have ht8 : tg_ σ17 x0 = 100 := by rw [hσ17]; exact ht8
  have ht9 : tg_ σ17 y7 = 100 := by rw [hσ17]; exact ht9
  refine p_aload hx hb dJ9_copyOfRangeByte_30 (lv_at hl 0 rfl) ?_
  exact p_aret X hlk hP hL (BU_le hB hRc).1 (BU_le hB hRc).2 hr (Or.inr ⟨_, rfl⟩) dJ9_copyOfRangeByte_32 hf
set_option maxHeartbeats 4000000 in
theorem metJ9_copyOfRangeByte (l : Launch) (G : GG_) (mc ms : Nat) (x0 : Nat) (x1 : Int32) (x2 : Int32) (σ : Hp) (post : Nat → Hp → Prop) (hG : GOK_ G) (hf : wJ9_copyOfRangeByte x0 x1 x2 (bu_ σ mc ms) post) : Met l yJ9_copyOfRangeByte (ws_ yJ9_copyOfRangeByte cJ9_copyOfRangeByte 5 (some ((Jvm.ClassFile.FieldType.array Jvm.ClassFile.FieldType.byte)))) { frames := 2, cells := mc, slots := ms, locals := 48 } (PC_ G [rv_ x0, .int x1, .int x2] (bu_ σ mc ms)) (QR_ G post) mc ms (FR_ G) := by
  refine Met.ofW (cc := cJ9_copyOfRangeByte) (maxL := 5) (ret := (some ((Jvm.ClassFile.FieldType.array Jvm.ClassFile.FieldType.byte)))) (by decide) rfl ?_
  intro p e s m args below meth c s₁ B hml hv
  obtain ⟨rfl, hP, hW⟩ := hv
  have hts := atoms_spec (ws := ws_ yJ9_copyOfRangeByte cJ9_copyOfRangeByte 5 (some ((Jvm.ClassFile.FieldType.array Jvm.ClassFile.FieldType.byte)))) B.pre
  have hts : ∀ w ∈ lw_all, w.before _ s = true := fun w h => hts w (List.mem_cons_of_mem _ h)
  rw [lg_entry_eq]
  have hl := en_entry [rv_ x0, .int x1, .int x2] [1, 1, 1] (n := 5) (ca_r (ca_i (ca_i ca_n))) (by decide)
  exact sJ9_copyOfRangeByte ⟨⟨⟨B.exec, B.bytes, hml, findClass_of_methodNamed B.named, hts⟩, hW, hG⟩, B.notSynchronized, B.returns, Nat.le_refl _, Nat.le_refl _, ⟨rfl, rfl⟩, (name_of_methodNamed B.named B.method).1⟩ hf _ _ _ _ _ hP (LO_nil G) (BU_in ⟨rfl, rfl⟩) hl
abbrev cJ9_copyOfRange : ByteArray := prog_28_method_132_code
def yJ9_copyOfRange : MethodName := ⟨RJ9, "copyOfRange", "([BII)[B"⟩
theorem dJ9_copyOfRange_0 : decode cJ9_copyOfRange 0 = .ok (.iload_n 1, 1) := by decide +kernel
theorem dJ9_copyOfRange_1 : decode cJ9_copyOfRange 1 = .ok (.ifCond .ne 9, 3) := by decide +kernel
theorem dJ9_copyOfRange_4 : decode cJ9_copyOfRange 4 = .ok (.iload_n 2, 1) := by decide +kernel
theorem dJ9_copyOfRange_5 : decode cJ9_copyOfRange 5 = .ok (.aload_n 0, 1) := by decide +kernel
theorem dJ9_copyOfRange_6 : decode cJ9_copyOfRange 6 = .ok (.arraylength, 1) := by decide +kernel
theorem dJ9_copyOfRange_7 : decode cJ9_copyOfRange 7 = .ok (.if_icmp .eq 10, 3) := by decide +kernel
theorem dJ9_copyOfRange_10 : decode cJ9_copyOfRange 10 = .ok (.aload_n 0, 1) := by decide +kernel
theorem dJ9_copyOfRange_11 : decode cJ9_copyOfRange 11 = .ok (.iload_n 1, 1) := by decide +kernel
theorem dJ9_copyOfRange_12 : decode cJ9_copyOfRange 12 = .ok (.iload_n 2, 1) := by decide +kernel
theorem dJ9_copyOfRange_13 : decode cJ9_copyOfRange 13 = .ok (.invokestatic 339, 3) := by decide +kernel
theorem dJ9_copyOfRange_16 : decode cJ9_copyOfRange 16 = .ok (.areturn, 1) := by decide +kernel
theorem dJ9_copyOfRange_17 : decode cJ9_copyOfRange 17 = .ok (.aload_n 0, 1) := by decide +kernel
theorem dJ9_copyOfRange_18 : decode cJ9_copyOfRange 18 = .ok (.invokevirtual 310, 3) := by decide +kernel
theorem dJ9_copyOfRange_21 : decode cJ9_copyOfRange 21 = .ok (.checkcast 311, 3) := by decide +kernel
theorem dJ9_copyOfRange_24 : decode cJ9_copyOfRange 24 = .ok (.areturn, 1) := by decide +kernel
/-- java/util/Arrays.copyOfRange([BII)[B -/
def wJ9_copyOfRange_L10 (post : Nat → Hp → Prop) (x0 : Nat) (x1 : Int32) (x2 : Int32) (σ : Hp) : Prop :=
(∃ mc1 ms2 : Nat, (mc1 ≤ bc_ σ ∧ (ms2 ≤ bs_ σ ∧ (wJ9_copyOfRangeByte x0 x1 x2 (bu_ σ mc1 ms2) (fun r5 σ6 => (∀ σ7, σ7 = bu_ σ6 (bc_ σ - mc1) (bs_ σ - ms2) → post r5 σ7))))))
def wJ9_copyOfRange (x0 : Nat) (x1 : Int32) (x2 : Int32) (σ : Hp) (post : Nat → Hp → Prop) : Prop :=
((¬ x1 = 0 →
  wJ9_copyOfRange_L10 post x0 x1 x2 σ) ∧
 (x1 = 0 →
  (tg_ σ x0 = 100 ∧ ((x2 = (nI (ln_ σ x0)) →
   False) ∧
  (¬ x2 = (nI (ln_ σ x0)) →
   wJ9_copyOfRange_L10 post x0 x1 x2 σ)))))
set_option maxHeartbeats 4000000 in
theorem sJ9_copyOfRange_L10 {G : GG_} {p : Program} {l : Launch} {e : Env} {R : Room} {s : State} {m : MethodId} {args : Array Value} {below : List Frame} {meth : Method} {c : Code} {mc ms : Nat} (Y : MX_ G p R s m args meth c cJ9_copyOfRange 3 RJ9 (some ((Jvm.ClassFile.FieldType.array Jvm.ClassFile.FieldType.byte))) 3 72 mc ms "copyOfRange") {post : Nat → Hp → Prop} {x0 : Nat} {x1 : Int32} {x2 : Int32} {σ : Hp} (hf : wJ9_copyOfRange_L10 post x0 x1 x2 σ) : WG_ G p l e R s m args below meth c (MQ below (QR_ G post) args s mc ms (FR_ G)) (BU_ R) 3 10 [(0, rv_ x0), (1, .int x1), (2, .int x2)] [] σ := by
  have ⟨X, hlk, hr, hRf, hRl, hRc, hnm⟩ := Y
  have ⟨⟨hx, hb, _, hown, hts⟩, _, _⟩ := X
  intro H locs cells slots ls hP hL hB hl
  unfold wJ9_copyOfRange_L10 at hf
  refine p_aload_n hx hb dJ9_copyOfRange_10 rfl (lv_at hl 0 rfl) ?_
  refine lv_iload_n hx hb dJ9_copyOfRange_11 rfl (lv_at hl 1 rfl) ?_
  refine lv_iload_n hx hb dJ9_copyOfRange_12 rfl (lv_at hl 2 rfl) ?_
  obtain ⟨mc1, ms2, hf⟩ := hf
  obtain ⟨hb3, hf⟩ := hf
  obtain ⟨hb4, hf⟩ := hf
  refine p_callr hL (p_runS X (Pic_bu hP mc1 ms2) (metJ9_copyOfRangeByte l G _ _ _ _ _ _ _ X.2.2 hf) (va_cwS 3 hts (lw_S q405 q406 q100 q407) rfl rfl rfl (by decide +kernel) ⟨Nat.le_trans (Nat.le_of_ble_eq_true rfl) hRf, Nat.le_trans (Nat.le_of_ble_eq_true rfl) hRl⟩) rfl hl.1 rfl (by decide) dJ9_copyOfRange_13 (BU_call hB hb3 hb4)) (fun r5 σ6 H locs hf hP hL => ?_)
  have hB := BU_back (τ := σ6) hB hb3 hb4
  have hP := Pic_bu hP (bc_ σ - mc1) (bs_ σ - ms2)
  refine p_nmPB hP hB (fun σ7 hσ7 hP hB => ?_)
  have hf := hf σ7 hσ7
  exact p_aret X hlk hP hL (BU_le hB hRc).1 (BU_le hB hRc).2 hr (Or.inr ⟨_, rfl⟩) dJ9_copyOfRange_16 hf
set_option maxHeartbeats 4000000 in
theorem sJ9_copyOfRange {G : GG_} {p : Program} {l : Launch} {e : Env} {R : Room} {s : State} {m : MethodId} {args : Array Value} {below : List Frame} {meth : Method} {c : Code} {mc ms : Nat} (Y : MX_ G p R s m args meth c cJ9_copyOfRange 3 RJ9 (some ((Jvm.ClassFile.FieldType.array Jvm.ClassFile.FieldType.byte))) 3 72 mc ms "copyOfRange") {post : Nat → Hp → Prop} {x0 : Nat} {x1 : Int32} {x2 : Int32} {σ : Hp} (hf : wJ9_copyOfRange x0 x1 x2 σ post) : WG_ G p l e R s m args below meth c (MQ below (QR_ G post) args s mc ms (FR_ G)) (BU_ R) 3 0 [(0, rv_ x0), (1, .int x1), (2, .int x2)] [] σ := by
  have ⟨X, hlk, hr, hRf, hRl, hRc, hnm⟩ := Y
  have ⟨⟨hx, hb, _, hown, hts⟩, _, _⟩ := X
  intro H locs cells slots ls hP hL hB hl
  unfold wJ9_copyOfRange at hf
  refine lv_iload_n hx hb dJ9_copyOfRange_0 rfl (lv_at hl 1 rfl) ?_
  refine lv_if_ne (tgt := 10) hx hb dJ9_copyOfRange_1 (by decide) (fun c8 => ?_) (fun c8 => ?_)
  · have hf := hf.1 c8
    exact sJ9_copyOfRange_L10 Y hf _ _ _ _ _ hP hL hB (lv_sub hl [0, 1, 2] rfl)
  · have hf := hf.2 c8
    refine lv_iload_n hx hb dJ9_copyOfRange_4 rfl (lv_at hl 2 rfl) ?_
    refine p_aload_n hx hb dJ9_copyOfRange_5 rfl (lv_at hl 0 rfl) ?_
    obtain ⟨ht9, hf⟩ := hf
    refine p_alen X hP ht9 (by decide) (by decide) dJ9_copyOfRange_6 ?_
    refine lv_icmp_eq (tgt := 17) hx hb dJ9_copyOfRange_7 (by decide) (fun c10 => ?_) (fun c10 => ?_)
    · have hf := hf.1 c10
      refine p_aload_n hx hb dJ9_copyOfRange_17 rfl (lv_at hl 0 rfl) ?_
      exact hf.elim
    · have hf := hf.2 c10
      exact sJ9_copyOfRange_L10 Y hf _ _ _ _ _ hP hL hB (lv_sub hl [0, 1, 2] rfl)
set_option maxHeartbeats 4000000 in
theorem metJ9_copyOfRange (l : Launch) (G : GG_) (mc ms : Nat) (x0 : Nat) (x1 : Int32) (x2 : Int32) (σ : Hp) (post : Nat → Hp → Prop) (hG : GOK_ G) (hf : wJ9_copyOfRange x0 x1 x2 (bu_ σ mc ms) post) : Met l yJ9_copyOfRange (ws_ yJ9_copyOfRange cJ9_copyOfRange 3 (some ((Jvm.ClassFile.FieldType.array Jvm.ClassFile.FieldType.byte)))) { frames := 3, cells := mc, slots := ms, locals := 72 } (PC_ G [rv_ x0, .int x1, .int x2] (bu_ σ mc ms)) (QR_ G post) mc ms (FR_ G) := by
  refine Met.ofW (cc := cJ9_copyOfRange) (maxL := 3) (ret := (some ((Jvm.ClassFile.FieldType.array Jvm.ClassFile.FieldType.byte)))) (by decide) rfl ?_
  intro p e s m args below meth c s₁ B hml hv
  obtain ⟨rfl, hP, hW⟩ := hv
  have hts := atoms_spec (ws := ws_ yJ9_copyOfRange cJ9_copyOfRange 3 (some ((Jvm.ClassFile.FieldType.array Jvm.ClassFile.FieldType.byte)))) B.pre
  have hts : ∀ w ∈ lw_all, w.before _ s = true := fun w h => hts w (List.mem_cons_of_mem _ h)
  rw [lg_entry_eq]
  have hl := en_entry [rv_ x0, .int x1, .int x2] [1, 1, 1] (n := 3) (ca_r (ca_i (ca_i ca_n))) (by decide)
  exact sJ9_copyOfRange ⟨⟨⟨B.exec, B.bytes, hml, findClass_of_methodNamed B.named, hts⟩, hW, hG⟩, B.notSynchronized, B.returns, Nat.le_refl _, Nat.le_refl _, ⟨rfl, rfl⟩, (name_of_methodNamed B.named B.method).1⟩ hf _ _ _ _ _ hP (LO_nil G) (BU_in ⟨rfl, rfl⟩) hl
abbrev cJ5_init_2 : ByteArray := prog_19_method_150_code
def yJ5_init_2 : MethodName := ⟨RJ5, "<init>", "(Ljava/lang/AbstractStringBuilder;Ljava/lang/Void;)V"⟩
theorem dJ5_init_2_0 : decode cJ5_init_2 0 = .ok (.aload_n 0, 1) := by decide +kernel
theorem dJ5_init_2_1 : decode cJ5_init_2 1 = .ok (.invokespecial 1, 3) := by decide +kernel
theorem dJ5_init_2_4 : decode cJ5_init_2 4 = .ok (.aload_n 1, 1) := by decide +kernel
theorem dJ5_init_2_5 : decode cJ5_init_2 5 = .ok (.invokevirtual 552, 3) := by decide +kernel
theorem dJ5_init_2_8 : decode cJ5_init_2 8 = .ok (.astore_n 3, 1) := by decide +kernel
theorem dJ5_init_2_9 : decode cJ5_init_2 9 = .ok (.aload_n 1, 1) := by decide +kernel
theorem dJ5_init_2_10 : decode cJ5_init_2 10 = .ok (.invokevirtual 549, 3) := by decide +kernel
theorem dJ5_init_2_13 : decode cJ5_init_2 13 = .ok (.istore 4, 2) := by decide +kernel
theorem dJ5_init_2_15 : decode cJ5_init_2 15 = .ok (.aload_n 1, 1) := by decide +kernel
theorem dJ5_init_2_16 : decode cJ5_init_2 16 = .ok (.invokevirtual 1047, 3) := by decide +kernel
theorem dJ5_init_2_19 : decode cJ5_init_2 19 = .ok (.ifCond .eq 22, 3) := by decide +kernel
theorem dJ5_init_2_22 : decode cJ5_init_2 22 = .ok (.aload_n 0, 1) := by decide +kernel
theorem dJ5_init_2_23 : decode cJ5_init_2 23 = .ok (.iconst 0, 1) := by decide +kernel
theorem dJ5_init_2_24 : decode cJ5_init_2 24 = .ok (.putfield 15, 3) := by decide +kernel
theorem dJ5_init_2_27 : decode cJ5_init_2 27 = .ok (.aload_n 0, 1) := by decide +kernel
theorem dJ5_init_2_28 : decode cJ5_init_2 28 = .ok (.aload_n 3, 1) := by decide +kernel
theorem dJ5_init_2_29 : decode cJ5_init_2 29 = .ok (.iconst 0, 1) := by decide +kernel
theorem dJ5_init_2_30 : decode cJ5_init_2 30 = .ok (.iload 4, 2) := by decide +kernel
theorem dJ5_init_2_32 : decode cJ5_init_2 32 = .ok (.invokestatic 54, 3) := by decide +kernel
theorem dJ5_init_2_35 : decode cJ5_init_2 35 = .ok (.putfield 9, 3) := by decide +kernel
theorem dJ5_init_2_38 : decode cJ5_init_2 38 = .ok (.goto 59, 3) := by decide +kernel
theorem dJ5_init_2_41 : decode cJ5_init_2 41 = .ok (.getstatic 38, 3) := by decide +kernel
theorem dJ5_init_2_44 : decode cJ5_init_2 44 = .ok (.ifCond .eq 35, 3) := by decide +kernel
theorem dJ5_init_2_47 : decode cJ5_init_2 47 = .ok (.aload_n 1, 1) := by decide +kernel
theorem dJ5_init_2_48 : decode cJ5_init_2 48 = .ok (.getfield 1048, 3) := by decide +kernel
theorem dJ5_init_2_51 : decode cJ5_init_2 51 = .ok (.ifCond .eq 28, 3) := by decide +kernel
theorem dJ5_init_2_54 : decode cJ5_init_2 54 = .ok (.aload_n 0, 1) := by decide +kernel
theorem dJ5_init_2_55 : decode cJ5_init_2 55 = .ok (.aload_n 3, 1) := by decide +kernel
theorem dJ5_init_2_56 : decode cJ5_init_2 56 = .ok (.iconst 0, 1) := by decide +kernel
theorem dJ5_init_2_57 : decode cJ5_init_2 57 = .ok (.iload 4, 2) := by decide +kernel
theorem dJ5_init_2_59 : decode cJ5_init_2 59 = .ok (.invokestatic 1051, 3) := by decide +kernel
theorem dJ5_init_2_62 : decode cJ5_init_2 62 = .ok (.putfield 9, 3) := by decide +kernel
theorem dJ5_init_2_65 : decode cJ5_init_2 65 = .ok (.aload_n 0, 1) := by decide +kernel
theorem dJ5_init_2_66 : decode cJ5_init_2 66 = .ok (.aload_n 0, 1) := by decide +kernel
theorem dJ5_init_2_67 : decode cJ5_init_2 67 = .ok (.getfield 9, 3) := by decide +kernel
theorem dJ5_init_2_70 : decode cJ5_init_2 70 = .ok (.iload 4, 2) := by decide +kernel
theorem dJ5_init_2_72 : decode cJ5_init_2 72 = .ok (.invokestatic 47, 3) := by decide +kernel
theorem dJ5_init_2_75 : decode cJ5_init_2 75 = .ok (.putfield 15, 3) := by decide +kernel
theorem dJ5_init_2_78 : decode cJ5_init_2 78 = .ok (.return_, 1) := by decide +kernel
theorem dJ5_init_2_79 : decode cJ5_init_2 79 = .ok (.aload_n 0, 1) := by decide +kernel
theorem dJ5_init_2_80 : decode cJ5_init_2 80 = .ok (.iconst 1, 1) := by decide +kernel
theorem dJ5_init_2_81 : decode cJ5_init_2 81 = .ok (.putfield 15, 3) := by decide +kernel
theorem dJ5_init_2_84 : decode cJ5_init_2 84 = .ok (.aload_n 0, 1) := by decide +kernel
theorem dJ5_init_2_85 : decode cJ5_init_2 85 = .ok (.aload_n 3, 1) := by decide +kernel
theorem dJ5_init_2_86 : decode cJ5_init_2 86 = .ok (.iconst 0, 1) := by decide +kernel
theorem dJ5_init_2_87 : decode cJ5_init_2 87 = .ok (.iload 4, 2) := by decide +kernel
theorem dJ5_init_2_89 : decode cJ5_init_2 89 = .ok (.iconst 1, 1) := by decide +kernel
theorem dJ5_init_2_90 : decode cJ5_init_2 90 = .ok (.ishl, 1) := by decide +kernel
theorem dJ5_init_2_91 : decode cJ5_init_2 91 = .ok (.invokestatic 54, 3) := by decide +kernel
theorem dJ5_init_2_94 : decode cJ5_init_2 94 = .ok (.putfield 9, 3) := by decide +kernel
theorem dJ5_init_2_97 : decode cJ5_init_2 97 = .ok (.return_, 1) := by decide +kernel
/-- java/lang/String.<init>(Ljava/lang/AbstractStringBuilder;Ljava/lang/Void;)V -/
def wJ5_init_2_L79 (post : Hp → Prop) (x0 : Nat) (x3 : Nat) (x4 : Int32) (σ : Hp) : Prop :=
(tg_ σ x0 = 13 ∧ (lo_ σ < x0 ∧ (∀ σ3, σ3 = sI_ σ 12 1 x0 (1 : Int32) → (∃ mc4 ms5 : Nat, (mc4 ≤ bc_ σ3 ∧ (ms5 ≤ bs_ σ3 ∧ (wJ9_copyOfRange x3 (0 : Int32) (x4 <<< ((1 : Int32) &&& 31)) (bu_ σ3 mc4 ms5) (fun r8 σ9 => (∀ σ10, σ10 = bu_ σ9 (bc_ σ3 - mc4) (bs_ σ3 - ms5) → (tg_ σ10 x0 = 13 ∧ (lo_ σ10 < x0 ∧ (∀ σ13, σ13 = sR_ σ10 12 0 x0 r8 → post σ13))))))))))))
def wJ5_init_2 (x0 : Nat) (x1 : Nat) (x2 : Nat) (σ : Hp) (post : Hp → Prop) : Prop :=
(tg_ σ x0 = 13 ∧ (tg_ σ x1 = 12 ∧ (wJ3_getValue x1  σ (fun r16 => (wJ4_length x1  σ (fun r17 => (wJ3_isLatin1 x1  σ (fun r18 => ((r18 = 0 →
  (((1 : Int32) = 0 →
   wJ5_init_2_L79 post x0 r16 r17 σ) ∧
  (¬ (1 : Int32) = 0 →
   (((fI_ σ 11 2 x1) = 0 →
    wJ5_init_2_L79 post x0 r16 r17 σ) ∧
   (¬ (fI_ σ 11 2 x1) = 0 →
    False))))) ∧
 (¬ r18 = 0 →
  (lo_ σ < x0 ∧ (∀ σ23, σ23 = sI_ σ 12 1 x0 (0 : Int32) → (∃ mc24 ms25 : Nat, (mc24 ≤ bc_ σ23 ∧ (ms25 ≤ bs_ σ23 ∧ (wJ9_copyOfRange r16 (0 : Int32) r17 (bu_ σ23 mc24 ms25) (fun r28 σ29 => (∀ σ30, σ30 = bu_ σ29 (bc_ σ23 - mc24) (bs_ σ23 - ms25) → (tg_ σ30 x0 = 13 ∧ (lo_ σ30 < x0 ∧ (∀ σ33, σ33 = sR_ σ30 12 0 x0 r28 → post σ33)))))))))))))))))))))
set_option maxHeartbeats 4000000 in
theorem sJ5_init_2_L79 {G : GG_} {p : Program} {l : Launch} {e : Env} {R : Room} {s : State} {m : MethodId} {args : Array Value} {below : List Frame} {meth : Method} {c : Code} {mc ms : Nat} (Y : MX_ G p R s m args meth c cJ5_init_2 5 RJ5 none 4 94 mc ms "<init>") {post : Hp → Prop} {x0 : Nat} {x3 : Nat} {x4 : Int32} {σ : Hp} (hf : wJ5_init_2_L79 post x0 x3 x4 σ) : WG_ G p l e R s m args below meth c (MQ below (QV_ G post) args s mc ms (FR_ G)) (BU_ R) 5 79 [(0, rv_ x0), (3, rv_ x3), (4, .int x4)] [] σ := by
  have ⟨X, hlk, hr, hRf, hRl, hRc, hnm⟩ := Y
  have ⟨⟨hx, hb, _, hown, hts⟩, _, _⟩ := X
  intro H locs cells slots ls hP hL hB hl
  unfold wJ5_init_2_L79 at hf
  refine p_aload_n hx hb dJ5_init_2_79 rfl (lv_at hl 0 rfl) ?_
  refine lv_iconst (v := 1) hx hb dJ5_init_2_80 (by decide) ?_
  obtain ⟨ht1, hf⟩ := hf
  obtain ⟨hlo2, hf⟩ := hf
  refine p_pI X cf12_ (k := 1) (by decide) rfl hP hL ht1 hlo2 q425 (fun _ h => h) (Or.inr ⟨rfl, hnm, rfl⟩) rfl (by decide) dJ5_init_2_81 (fun H locs hP hL => ?_)
  refine p_nmPB hP hB (fun σ3 hσ3 hP hB => ?_)
  have hf := hf σ3 hσ3
  have ht1 : tg_ σ3 x0 = 13 := by rw [hσ3]; exact ht1
  refine p_aload_n hx hb dJ5_init_2_84 rfl (lv_at hl 0 rfl) ?_
  refine p_aload_n hx hb dJ5_init_2_85 rfl (lv_at hl 1 rfl) ?_
  refine lv_iconst (v := 0) hx hb dJ5_init_2_86 (by decide) ?_
  refine lv_iload hx hb dJ5_init_2_87 (lv_at hl 2 rfl) ?_
  refine lv_iconst (v := 1) hx hb dJ5_init_2_89 (by decide) ?_
  refine lv_ishl hx hb dJ5_init_2_90 ?_
  obtain ⟨mc4, ms5, hf⟩ := hf
  obtain ⟨hb6, hf⟩ := hf
  obtain ⟨hb7, hf⟩ := hf
  refine p_callr hL (p_runS X (Pic_bu hP mc4 ms5) (metJ9_copyOfRange l G _ _ _ _ _ _ _ X.2.2 hf) (va_cwS 3 hts (lw_S q402 q403 q100 q404) rfl rfl rfl (by decide +kernel) ⟨Nat.le_trans (Nat.le_of_ble_eq_true rfl) hRf, Nat.le_trans (Nat.le_of_ble_eq_true rfl) hRl⟩) rfl hl.1 rfl (by rw [(ca_r ca_n)]; decide) dJ5_init_2_91 (BU_call hB hb6 hb7)) (fun r8 σ9 H locs hf hP hL => ?_)
  have hB := BU_back (τ := σ9) hB hb6 hb7
  have hP := Pic_bu hP (bc_ σ3 - mc4) (bs_ σ3 - ms5)
  refine p_nmPB hP hB (fun σ10 hσ10 hP hB => ?_)
  have hf := hf σ10 hσ10
  obtain ⟨ht11, hf⟩ := hf
  obtain ⟨hlo12, hf⟩ := hf
  refine p_pR X cf12_ (k := 0) (by decide) rfl hP hL ht11 hlo12 q424 (fun _ h => h) (Or.inr ⟨rfl, hnm, rfl⟩) dJ5_init_2_94 (fun H locs hP hL => ?_)
  refine p_nmPB hP hB (fun σ13 hσ13 hP hB => ?_)
  have hf := hf σ13 hσ13
  have ht11 : tg_ σ13 x0 = 13 := by rw [hσ13]; exact ht11
  exact p_vret X hlk hP hL (BU_le hB hRc).1 (BU_le hB hRc).2 hr dJ5_init_2_97 hf
set_option maxHeartbeats 4000000 in
theorem sJ5_init_2 {G : GG_} {p : Program} {l : Launch} {e : Env} {R : Room} {s : State} {m : MethodId} {args : Array Value} {below : List Frame} {meth : Method} {c : Code} {mc ms : Nat} (Y : MX_ G p R s m args meth c cJ5_init_2 5 RJ5 none 4 94 mc ms "<init>") {post : Hp → Prop} {x0 : Nat} {x1 : Nat} {x2 : Nat} {σ : Hp} (hf : wJ5_init_2 x0 x1 x2 σ post) : WG_ G p l e R s m args below meth c (MQ below (QV_ G post) args s mc ms (FR_ G)) (BU_ R) 5 0 [(0, rv_ x0), (1, rv_ x1), (2, rv_ x2)] [] σ := by
  have ⟨X, hlk, hr, hRf, hRl, hRc, hnm⟩ := Y
  have ⟨⟨hx, hb, _, hown, hts⟩, _, _⟩ := X
  intro H locs cells slots ls hP hL hB hl
  unfold wJ5_init_2 at hf
  refine p_aload_n hx hb dJ5_init_2_0 rfl (lv_at hl 0 rfl) ?_
  obtain ⟨ht14, hf⟩ := hf
  refine p_objInit X hP ht14 q387 q119 q120 hl.1 dJ5_init_2_1 (Nat.le_trans (by decide) hRf) (by decide) (Nat.le_trans (by decide) hRl) ?_
  refine p_aload_n hx hb dJ5_init_2_4 rfl (lv_at hl 1 rfl) ?_
  obtain ⟨ht15, hf⟩ := hf
  refine p_callr hL (p_runV X cf11_ hP ht15 (metJ3_getValue l G _ _ _ X.2.2 hf) ⟨callB_of 0 hts (lw_meth q392) rfl rfl rfl (hts _ q94) (hts _ q388) (by decide +kernel) ⟨Nat.le_trans (Nat.le_of_ble_eq_true rfl) hRf, Nat.le_trans (Nat.le_of_ble_eq_true rfl) hRl⟩, hts _ q389, (hts _ q391)⟩ rfl hl.1 rfl (by decide) dJ5_init_2_5 (BU_call hB (Nat.zero_le _) (Nat.zero_le _))) (fun r16 σ₁ H locs hf hP hL => ?_)
  obtain ⟨e₁, hf⟩ := hf
  rw [e₁] at hP
  have hl := lv_sub hl [0, 1] rfl
  refine p_astore_n (i := 3) hx hb dJ5_init_2_8 rfl hl (by decide) ⟨⟨ne_ rfl, Or.inl (ne_ rfl)⟩, ⟨⟨ne_ rfl, Or.inl (ne_ rfl)⟩, trivial⟩⟩ (fun ls hl => ?_)
  refine p_aload_n hx hb dJ5_init_2_9 rfl (lv_at hl 2 rfl) ?_
  refine p_calli hL (p_runU X cf11_ hP ht15 (metJ4_length l G _ _ _ X.2.2 hf) (va_cwO (owner := "java/lang/AbstractStringBuilder") 0 hts (lw_app (lw_6 q393 q395 q394 q396 q397 q95) (lw_meth q398)) rfl rfl rfl q400 (by decide +kernel) ⟨Nat.le_trans (Nat.le_of_ble_eq_true rfl) hRf, Nat.le_trans (Nat.le_of_ble_eq_true rfl) hRl⟩) rfl hl.1 rfl (by decide) dJ5_init_2_10 (BU_call hB (Nat.zero_le _) (Nat.zero_le _))) (fun r17 σ₁ H locs hf hP hL => ?_)
  obtain ⟨e₁, hf⟩ := hf
  rw [e₁] at hP
  refine p_istore (i := 4) hx hb dJ5_init_2_13 hl (by decide) ⟨⟨ne_ rfl, Or.inr (rv_cat _)⟩, ⟨⟨ne_ rfl, Or.inl (ne_ rfl)⟩, ⟨⟨ne_ rfl, Or.inl (ne_ rfl)⟩, trivial⟩⟩⟩ (fun ls hl => ?_)
  refine p_aload_n hx hb dJ5_init_2_15 rfl (lv_at hl 3 rfl) ?_
  refine p_calli hL (p_runV X cf11_ hP ht15 (metJ3_isLatin1 l G _ _ _ X.2.2 hf) ⟨callB_of 0 hts (lw_meth q304) rfl rfl rfl (hts _ q94) (hts _ q401) (by decide +kernel) ⟨Nat.le_trans (Nat.le_of_ble_eq_true rfl) hRf, Nat.le_trans (Nat.le_of_ble_eq_true rfl) hRl⟩, hts _ q301, (hts _ q303)⟩ rfl hl.1 rfl (by decide) dJ5_init_2_16 (BU_call hB (Nat.zero_le _) (Nat.zero_le _))) (fun r18 σ₁ H locs hf hP hL => ?_)
  obtain ⟨e₁, hf⟩ := hf
  rw [e₁] at hP
  refine lv_if_eq (tgt := 41) hx hb dJ5_init_2_19 (by decide) (fun c19 => ?_) (fun c19 => ?_)
  · have hf := hf.1 c19
    refine p_gsC X hP q339 dJ5_init_2_41 ?_
    refine lv_if_eq (tgt := 79) hx hb dJ5_init_2_44 (by decide) (fun c20 => ?_) (fun c20 => ?_)
    · have hf := hf.1 c20
      exact sJ5_init_2_L79 Y hf _ _ _ _ _ hP hL hB (lv_sub hl [2, 1, 0] rfl)
    · have hf := hf.2 c20
      refine p_aload_n hx hb dJ5_init_2_47 rfl (lv_at hl 3 rfl) ?_
      refine p_gI X cf11_ (k := 2) (by decide) rfl hP ht15 q243 (fun _ h => h) dJ5_init_2_48 ?_
      refine lv_if_eq (tgt := 79) hx hb dJ5_init_2_51 (by decide) (fun c21 => ?_) (fun c21 => ?_)
      · have hf := hf.1 c21
        exact sJ5_init_2_L79 Y hf _ _ _ _ _ hP hL hB (lv_sub hl [2, 1, 0] rfl)
      · have hf := hf.2 c21
        refine p_aload_n hx hb dJ5_init_2_54 rfl (lv_at hl 2 rfl) ?_
        refine p_aload_n hx hb dJ5_init_2_55 rfl (lv_at hl 1 rfl) ?_
        refine lv_iconst (v := 0) hx hb dJ5_init_2_56 (by decide) ?_
        refine lv_iload hx hb dJ5_init_2_57 (lv_at hl 0 rfl) ?_
        exact hf.elim
  · have hf := hf.2 c19
    refine p_aload_n hx hb dJ5_init_2_22 rfl (lv_at hl 2 rfl) ?_
    refine lv_iconst (v := 0) hx hb dJ5_init_2_23 (by decide) ?_
    obtain ⟨hlo22, hf⟩ := hf
    refine p_pI X cf12_ (k := 1) (by decide) rfl hP hL ht14 hlo22 q425 (fun _ h => h) (Or.inr ⟨rfl, hnm, rfl⟩) rfl (by decide) dJ5_init_2_24 (fun H locs hP hL => ?_)
    refine p_nmPB hP hB (fun σ23 hσ23 hP hB => ?_)
    have hf := hf σ23 hσ23
    have ht14 : tg_ σ23 x0 = 13 := by rw [hσ23]; exact ht14
    have ht15 : tg_ σ23 x1 = 12 := by rw [hσ23]; exact ht15
    refine p_aload_n hx hb dJ5_init_2_27 rfl (lv_at hl 2 rfl) ?_
    refine p_aload_n hx hb dJ5_init_2_28 rfl (lv_at hl 1 rfl) ?_
    refine lv_iconst (v := 0) hx hb dJ5_init_2_29 (by decide) ?_
    refine lv_iload hx hb dJ5_init_2_30 (lv_at hl 0 rfl) ?_
    obtain ⟨mc24, ms25, hf⟩ := hf
    obtain ⟨hb26, hf⟩ := hf
    obtain ⟨hb27, hf⟩ := hf
    refine p_callr hL (p_runS X (Pic_bu hP mc24 ms25) (metJ9_copyOfRange l G _ _ _ _ _ _ _ X.2.2 hf) (va_cwS 3 hts (lw_S q402 q403 q100 q404) rfl rfl rfl (by decide +kernel) ⟨Nat.le_trans (Nat.le_of_ble_eq_true rfl) hRf, Nat.le_trans (Nat.le_of_ble_eq_true rfl) hRl⟩) rfl hl.1 rfl (by rw [(ca_r ca_n)]; decide) dJ5_init_2_32 (BU_call hB hb26 hb27)) (fun r28 σ29 H locs hf hP hL => ?_)
    have hB := BU_back (τ := σ29) hB hb26 hb27
    have hP := Pic_bu hP (bc_ σ23 - mc24) (bs_ σ23 - ms25)
    refine p_nmPB hP hB (fun σ30 hσ30 hP hB => ?_)
    have hf := hf σ30 hσ30
    obtain ⟨ht31, hf⟩ := hf
    obtain ⟨hlo32, hf⟩ := hf
    refine p_pR X cf12_ (k := 0) (by decide) rfl hP hL ht31 hlo32 q424 (fun _ h => h) (Or.inr ⟨rfl, hnm, rfl⟩) dJ5_init_2_35 (fun H locs hP hL => ?_)
    refine p_nmPB hP hB (fun σ33 hσ33 hP hB => ?_)
    have hf := hf σ33 hσ33
    have ht31 : tg_ σ33 x0 = 13 := by rw [hσ33]; exact ht31
    refine lv_goto (tgt := 97) hx hb dJ5_init_2_38 (by decide) ?_
    exact p_vret X hlk hP hL (BU_le hB hRc).1 (BU_le hB hRc).2 hr dJ5_init_2_97 hf
set_option maxHeartbeats 4000000 in
theorem metJ5_init_2 (l : Launch) (G : GG_) (mc ms : Nat) (x0 : Nat) (x1 : Nat) (x2 : Nat) (σ : Hp) (post : Hp → Prop) (hG : GOK_ G) (hf : wJ5_init_2 x0 x1 x2 (bu_ σ mc ms) post) : Met l yJ5_init_2 (ws_ yJ5_init_2 cJ5_init_2 5 none) { frames := 4, cells := mc, slots := ms, locals := 94 } (PC_ G [rv_ x0, rv_ x1, rv_ x2] (bu_ σ mc ms)) (QV_ G post) mc ms (FR_ G) := by
  refine Met.ofW (cc := cJ5_init_2) (maxL := 5) (ret := none) (by decide) rfl ?_
  intro p e s m args below meth c s₁ B hml hv
  obtain ⟨rfl, hP, hW⟩ := hv
  have hts := atoms_spec (ws := ws_ yJ5_init_2 cJ5_init_2 5 none) B.pre
  have hts : ∀ w ∈ lw_all, w.before _ s = true := fun w h => hts w (List.mem_cons_of_mem _ h)
  rw [lg_entry_eq]
  have hl := en_entry [rv_ x0, rv_ x1, rv_ x2] [1, 1, 1] (n := 5) (ca_r (ca_r (ca_r ca_n))) (by decide)
  exact sJ5_init_2 ⟨⟨⟨B.exec, B.bytes, hml, findClass_of_methodNamed B.named, hts⟩, hW, hG⟩, B.notSynchronized, B.returns, Nat.le_refl _, Nat.le_refl _, ⟨rfl, rfl⟩, (name_of_methodNamed B.named B.method).1⟩ hf _ _ _ _ _ hP (LO_nil G) (BU_in ⟨rfl, rfl⟩) hl
abbrev cJ5_init : ByteArray := prog_19_method_53_code
def yJ5_init : MethodName := ⟨RJ5, "<init>", "(Ljava/lang/StringBuilder;)V"⟩
theorem dJ5_init_0 : decode cJ5_init 0 = .ok (.aload_n 0, 1) := by decide +kernel
theorem dJ5_init_1 : decode cJ5_init 1 = .ok (.aload_n 1, 1) := by decide +kernel
theorem dJ5_init_2 : decode cJ5_init 2 = .ok (.aconst_null, 1) := by decide +kernel
theorem dJ5_init_3 : decode cJ5_init 3 = .ok (.invokespecial 489, 3) := by decide +kernel
theorem dJ5_init_6 : decode cJ5_init 6 = .ok (.return_, 1) := by decide +kernel
/-- java/lang/String.<init>(Ljava/lang/StringBuilder;)V -/
def wJ5_init (x0 : Nat) (x1 : Nat) (σ : Hp) (post : Hp → Prop) : Prop :=
(tg_ σ x0 = 13 ∧ (∃ mc2 ms3 : Nat, (mc2 ≤ bc_ σ ∧ (ms3 ≤ bs_ σ ∧ (wJ5_init_2 x0 x1 0 (bu_ σ mc2 ms3) (fun σ6 => (∀ σ7, σ7 = bu_ σ6 (bc_ σ - mc2) (bs_ σ - ms3) → post σ7)))))))
set_option maxHeartbeats 4000000 in
theorem sJ5_init {G : GG_} {p : Program} {l : Launch} {e : Env} {R : Room} {s : State} {m : MethodId} {args : Array Value} {below : List Frame} {meth : Method} {c : Code} {mc ms : Nat} (Y : MX_ G p R s m args meth c cJ5_init 2 RJ5 none 5 118 mc ms "<init>") {post : Hp → Prop} {x0 : Nat} {x1 : Nat} {σ : Hp} (hf : wJ5_init x0 x1 σ post) : WG_ G p l e R s m args below meth c (MQ below (QV_ G post) args s mc ms (FR_ G)) (BU_ R) 2 0 [(0, rv_ x0), (1, rv_ x1)] [] σ := by
  have ⟨X, hlk, hr, hRf, hRl, hRc, hnm⟩ := Y
  have ⟨⟨hx, hb, _, hown, hts⟩, _, _⟩ := X
  intro H locs cells slots ls hP hL hB hl
  unfold wJ5_init at hf
  refine p_aload_n hx hb dJ5_init_0 rfl (lv_at hl 0 rfl) ?_
  refine p_aload_n hx hb dJ5_init_1 rfl (lv_at hl 1 rfl) ?_
  refine p_null hx hb dJ5_init_2 ?_
  obtain ⟨ht1, hf⟩ := hf
  obtain ⟨mc2, ms3, hf⟩ := hf
  obtain ⟨hb4, hf⟩ := hf
  obtain ⟨hb5, hf⟩ := hf
  refine p_callv hL (p_runI X (Pic_bu hP mc2 ms3) ht1 (metJ5_init_2 l G _ _ _ _ _ _ _ X.2.2 hf) (cwI 2 hts (lw_meth q386) rfl rfl rfl (hts _ q96) (hts _ q384) (hts _ q385) rfl (by decide +kernel) ⟨Nat.le_trans (Nat.le_of_ble_eq_true rfl) hRf, Nat.le_trans (Nat.le_of_ble_eq_true rfl) hRl⟩) rfl hl.1 rfl (by decide) dJ5_init_3 (BU_call hB hb4 hb5)) (fun σ6 H locs hf hP hL => ?_)
  have hB := BU_back (τ := σ6) hB hb4 hb5
  have hP := Pic_bu hP (bc_ σ - mc2) (bs_ σ - ms3)
  refine p_nmPB hP hB (fun σ7 hσ7 hP hB => ?_)
  have hf := hf σ7 hσ7
  exact p_vret X hlk hP hL (BU_le hB hRc).1 (BU_le hB hRc).2 hr dJ5_init_6 hf
set_option maxHeartbeats 4000000 in
theorem metJ5_init (l : Launch) (G : GG_) (mc ms : Nat) (x0 : Nat) (x1 : Nat) (σ : Hp) (post : Hp → Prop) (hG : GOK_ G) (hf : wJ5_init x0 x1 (bu_ σ mc ms) post) : Met l yJ5_init (ws_ yJ5_init cJ5_init 2 none) { frames := 5, cells := mc, slots := ms, locals := 118 } (PC_ G [rv_ x0, rv_ x1] (bu_ σ mc ms)) (QV_ G post) mc ms (FR_ G) := by
  refine Met.ofW (cc := cJ5_init) (maxL := 2) (ret := none) (by decide) rfl ?_
  intro p e s m args below meth c s₁ B hml hv
  obtain ⟨rfl, hP, hW⟩ := hv
  have hts := atoms_spec (ws := ws_ yJ5_init cJ5_init 2 none) B.pre
  have hts : ∀ w ∈ lw_all, w.before _ s = true := fun w h => hts w (List.mem_cons_of_mem _ h)
  rw [lg_entry_eq]
  have hl := en_entry [rv_ x0, rv_ x1] [1, 1] (n := 2) (ca_r (ca_r ca_n)) (by decide)
  exact sJ5_init ⟨⟨⟨B.exec, B.bytes, hml, findClass_of_methodNamed B.named, hts⟩, hW, hG⟩, B.notSynchronized, B.returns, Nat.le_refl _, Nat.le_refl _, ⟨rfl, rfl⟩, (name_of_methodNamed B.named B.method).1⟩ hf _ _ _ _ _ hP (LO_nil G) (BU_in ⟨rfl, rfl⟩) hl
abbrev cJ4_toString : ByteArray := prog_20_method_42_code
def yJ4_toString : MethodName := ⟨RJ4, "toString", "()Ljava/lang/String;"⟩
theorem dJ4_toString_0 : decode cJ4_toString 0 = .ok (.new 18, 3) := by decide +kernel
theorem dJ4_toString_3 : decode cJ4_toString 3 = .ok (.dup, 1) := by decide +kernel
theorem dJ4_toString_4 : decode cJ4_toString 4 = .ok (.aload_n 0, 1) := by decide +kernel
theorem dJ4_toString_5 : decode cJ4_toString 5 = .ok (.invokespecial 137, 3) := by decide +kernel
theorem dJ4_toString_8 : decode cJ4_toString 8 = .ok (.areturn, 1) := by decide +kernel
/-- java/lang/StringBuilder.toString()Ljava/lang/String; -/
def wJ4_toString (x0 : Nat) (σ : Hp) (post : Nat → Hp → Prop) : Prop :=
(1 ≤ bc_ σ ∧ (4 ≤ bs_ σ ∧ (∀ σ3, σ3 = mO_ σ 12 4 → (tg_ σ3 (nx_ σ) = 13 ∧ (∃ mc5 ms6 : Nat, (mc5 ≤ bc_ σ3 ∧ (ms6 ≤ bs_ σ3 ∧ (wJ5_init (nx_ σ) x0 (bu_ σ3 mc5 ms6) (fun σ9 => (∀ σ10, σ10 = bu_ σ9 (bc_ σ3 - mc5) (bs_ σ3 - ms6) → post (nx_ σ) σ10))))))))))
set_option maxHeartbeats 4000000 in
theorem sJ4_toString {G : GG_} {p : Program} {l : Launch} {e : Env} {R : Room} {s : State} {m : MethodId} {args : Array Value} {below : List Frame} {meth : Method} {c : Code} {mc ms : Nat} (Y : MX_ G p R s m args meth c cJ4_toString 1 RJ4 (some ((Jvm.ClassFile.FieldType.object "java/lang/String"))) 6 139 mc ms "toString") {post : Nat → Hp → Prop} {x0 : Nat} {σ : Hp} (hf : wJ4_toString x0 σ post) : WG_ G p l e R s m args below meth c (MQ below (QR_ G post) args s mc ms (FR_ G)) (BU_ R) 1 0 [(0, rv_ x0)] [] σ := by
  have ⟨X, hlk, hr, hRf, hRl, hRc, hnm⟩ := Y
  have ⟨⟨hx, hb, _, hown, hts⟩, _, _⟩ := X
  intro H locs cells slots ls hP hL hB hl
  unfold wJ4_toString at hf
  obtain ⟨hb1, hf⟩ := hf
  obtain ⟨hb2, hf⟩ := hf
  refine p_new X cf12_ (by decide +kernel) hP hB q379 q380 q96 hb1 hb2 dJ4_toString_0 (fun H hP hB => ?_)
  refine p_nmPB hP hB (fun σ3 hσ3 hP hB => ?_)
  have hf := hf σ3 hσ3
  refine lv_dup hx hb dJ4_toString_3 (rv_cat _) ?_
  refine p_aload_n hx hb dJ4_toString_4 rfl (lv_at hl 0 rfl) ?_
  obtain ⟨ht4, hf⟩ := hf
  obtain ⟨mc5, ms6, hf⟩ := hf
  obtain ⟨hb7, hf⟩ := hf
  obtain ⟨hb8, hf⟩ := hf
  refine p_callv hL (p_runI X (Pic_bu hP mc5 ms6) ht4 (metJ5_init l G _ _ _ _ _ _ X.2.2 hf) (cwI 1 hts (lw_meth q383) rfl rfl rfl (hts _ q96) (hts _ q381) (hts _ q382) rfl (by decide +kernel) ⟨Nat.le_trans (Nat.le_of_ble_eq_true rfl) hRf, Nat.le_trans (Nat.le_of_ble_eq_true rfl) hRl⟩) rfl hl.1 rfl (by rw [(ca_r ca_n)]; decide) dJ4_toString_5 (BU_call hB hb7 hb8)) (fun σ9 H locs hf hP hL => ?_)
  have hB := BU_back (τ := σ9) hB hb7 hb8
  have hP := Pic_bu hP (bc_ σ3 - mc5) (bs_ σ3 - ms6)
  refine p_nmPB hP hB (fun σ10 hσ10 hP hB => ?_)
  have hf := hf σ10 hσ10
  exact p_aret X hlk hP hL (BU_le hB hRc).1 (BU_le hB hRc).2 hr (Or.inl ⟨_, rfl⟩) dJ4_toString_8 hf
set_option maxHeartbeats 4000000 in
theorem metJ4_toString (l : Launch) (G : GG_) (mc ms : Nat) (x0 : Nat) (σ : Hp) (post : Nat → Hp → Prop) (hG : GOK_ G) (hf : wJ4_toString x0 (bu_ σ mc ms) post) : Met l yJ4_toString (ws_ yJ4_toString cJ4_toString 1 (some ((Jvm.ClassFile.FieldType.object "java/lang/String")))) { frames := 6, cells := mc, slots := ms, locals := 139 } (PC_ G [rv_ x0] (bu_ σ mc ms)) (QR_ G post) mc ms (FR_ G) := by
  refine Met.ofW (cc := cJ4_toString) (maxL := 1) (ret := (some ((Jvm.ClassFile.FieldType.object "java/lang/String")))) (by decide) rfl ?_
  intro p e s m args below meth c s₁ B hml hv
  obtain ⟨rfl, hP, hW⟩ := hv
  have hts := atoms_spec (ws := ws_ yJ4_toString cJ4_toString 1 (some ((Jvm.ClassFile.FieldType.object "java/lang/String")))) B.pre
  have hts : ∀ w ∈ lw_all, w.before _ s = true := fun w h => hts w (List.mem_cons_of_mem _ h)
  rw [lg_entry_eq]
  have hl := en_entry [rv_ x0] [1] (n := 1) (ca_r ca_n) (by decide)
  exact sJ4_toString ⟨⟨⟨B.exec, B.bytes, hml, findClass_of_methodNamed B.named, hts⟩, hW, hG⟩, B.notSynchronized, B.returns, Nat.le_refl _, Nat.le_refl _, ⟨rfl, rfl⟩, (name_of_methodNamed B.named B.method).1⟩ hf _ _ _ _ _ hP (LO_nil G) (BU_in ⟨rfl, rfl⟩) hl
abbrev cJ5_isLatin1 : ByteArray := prog_19_method_154_code
def yJ5_isLatin1 : MethodName := ⟨RJ5, "isLatin1", "()Z"⟩
theorem dJ5_isLatin1_0 : decode cJ5_isLatin1 0 = .ok (.getstatic 38, 3) := by decide +kernel
theorem dJ5_isLatin1_3 : decode cJ5_isLatin1 3 = .ok (.ifCond .eq 14, 3) := by decide +kernel
theorem dJ5_isLatin1_6 : decode cJ5_isLatin1 6 = .ok (.aload_n 0, 1) := by decide +kernel
theorem dJ5_isLatin1_7 : decode cJ5_isLatin1 7 = .ok (.getfield 15, 3) := by decide +kernel
theorem dJ5_isLatin1_10 : decode cJ5_isLatin1 10 = .ok (.ifCond .ne 7, 3) := by decide +kernel
theorem dJ5_isLatin1_13 : decode cJ5_isLatin1 13 = .ok (.iconst 1, 1) := by decide +kernel
theorem dJ5_isLatin1_14 : decode cJ5_isLatin1 14 = .ok (.goto 4, 3) := by decide +kernel
theorem dJ5_isLatin1_17 : decode cJ5_isLatin1 17 = .ok (.iconst 0, 1) := by decide +kernel
theorem dJ5_isLatin1_18 : decode cJ5_isLatin1 18 = .ok (.ireturn, 1) := by decide +kernel
/-- java/lang/String.isLatin1()Z -/
def wJ5_isLatin1 (x0 : Nat) (σ : Hp) (post : Int32 → Prop) : Prop :=
(((1 : Int32) = 0 →
  post (0 : Int32)) ∧
 (¬ (1 : Int32) = 0 →
  (tg_ σ x0 = 13 ∧ ((¬ (fI_ σ 12 1 x0) = 0 →
   post (0 : Int32)) ∧
  ((fI_ σ 12 1 x0) = 0 →
   post (1 : Int32))))))
set_option maxHeartbeats 4000000 in
theorem sJ5_isLatin1 {G : GG_} {p : Program} {l : Launch} {e : Env} {R : Room} {s : State} {m : MethodId} {args : Array Value} {below : List Frame} {meth : Method} {c : Code} (Y : MX_ G p R s m args meth c cJ5_isLatin1 1 RJ5 (some Jvm.ClassFile.FieldType.boolean) 1 20 0 0 "isLatin1") {post : Int32 → Prop} {x0 : Nat} {σ : Hp} (hf : wJ5_isLatin1 x0 σ post) : WG_ G p l e R s m args below meth c (MQ below (QI_ G (fun r τ => τ = σ ∧ post r)) args s 0 0 (FR_ G)) BN_ 1 0 [(0, rv_ x0)] [] σ := by
  have ⟨X, hlk, hr, hRf, hRl, hRc, hnm⟩ := Y
  have ⟨⟨hx, hb, _, hown, hts⟩, _, _⟩ := X
  intro H locs cells slots ls hP hL hB hl
  obtain ⟨rfl, rfl⟩ := hB
  unfold wJ5_isLatin1 at hf
  refine p_gsC X hP q339 dJ5_isLatin1_0 ?_
  refine lv_if_eq (tgt := 17) hx hb dJ5_isLatin1_3 (by decide) (fun c1 => ?_) (fun c1 => ?_)
  · have hf := hf.1 c1
    refine lv_iconst (v := 0) hx hb dJ5_isLatin1_17 (by decide) ?_
    exact p_zret X hlk hP hL (Nat.le_refl _) (Nat.le_refl _) hr nr_0 dJ5_isLatin1_18 ⟨rfl, hf⟩
  · have hf := hf.2 c1
    refine p_aload_n hx hb dJ5_isLatin1_6 rfl (lv_at hl 0 rfl) ?_
    obtain ⟨ht2, hf⟩ := hf
    refine p_gI X cf12_ (k := 1) (by decide) rfl hP ht2 q425 (fun _ h => h) dJ5_isLatin1_7 ?_
    refine lv_if_ne (tgt := 17) hx hb dJ5_isLatin1_10 (by decide) (fun c3 => ?_) (fun c3 => ?_)
    · have hf := hf.1 c3
      refine lv_iconst (v := 0) hx hb dJ5_isLatin1_17 (by decide) ?_
      exact p_zret X hlk hP hL (Nat.le_refl _) (Nat.le_refl _) hr nr_0 dJ5_isLatin1_18 ⟨rfl, hf⟩
    · have hf := hf.2 c3
      refine lv_iconst (v := 1) hx hb dJ5_isLatin1_13 (by decide) ?_
      refine lv_goto (tgt := 18) hx hb dJ5_isLatin1_14 (by decide) ?_
      exact p_zret X hlk hP hL (Nat.le_refl _) (Nat.le_refl _) hr nr_1 dJ5_isLatin1_18 ⟨rfl, hf⟩
set_option maxHeartbeats 4000000 in
theorem metJ5_isLatin1 (l : Launch) (G : GG_) (x0 : Nat) (σ : Hp) (post : Int32 → Prop) (hG : GOK_ G) (hf : wJ5_isLatin1 x0 σ post) : Met l yJ5_isLatin1 (ws_ yJ5_isLatin1 cJ5_isLatin1 1 (some Jvm.ClassFile.FieldType.boolean)) { frames := 1, cells := 0, slots := 0, locals := 20 } (PC_ G [rv_ x0] σ) (QI_ G (fun r τ => τ = σ ∧ post r)) 0 0 (FR_ G) := by
  refine Met.ofW (cc := cJ5_isLatin1) (maxL := 1) (ret := (some Jvm.ClassFile.FieldType.boolean)) (by decide) rfl ?_
  intro p e s m args below meth c s₁ B hml hv
  obtain ⟨rfl, hP, hW⟩ := hv
  have hts := atoms_spec (ws := ws_ yJ5_isLatin1 cJ5_isLatin1 1 (some Jvm.ClassFile.FieldType.boolean)) B.pre
  have hts : ∀ w ∈ lw_all, w.before _ s = true := fun w h => hts w (List.mem_cons_of_mem _ h)
  rw [lg_entry_eq]
  have hl := en_entry [rv_ x0] [1] (n := 1) (ca_r ca_n) (by decide)
  exact sJ5_isLatin1 ⟨⟨⟨B.exec, B.bytes, hml, findClass_of_methodNamed B.named, hts⟩, hW, hG⟩, B.notSynchronized, B.returns, Nat.le_refl _, Nat.le_refl _, ⟨rfl, rfl⟩, (name_of_methodNamed B.named B.method).1⟩ hf _ _ _ _ _ hP (LO_nil G) ⟨rfl, rfl⟩ hl
abbrev cJ5_checkIndex : ByteArray := prog_19_method_155_code
def yJ5_checkIndex : MethodName := ⟨RJ5, "checkIndex", "(II)V"⟩
theorem dJ5_checkIndex_0 : decode cJ5_checkIndex 0 = .ok (.iload_n 0, 1) := by decide +kernel
theorem dJ5_checkIndex_1 : decode cJ5_checkIndex 1 = .ok (.iload_n 1, 1) := by decide +kernel
theorem dJ5_checkIndex_2 : decode cJ5_checkIndex 2 = .ok (.getstatic 1053, 3) := by decide +kernel
theorem dJ5_checkIndex_5 : decode cJ5_checkIndex 5 = .ok (.invokestatic 1059, 3) := by decide +kernel
theorem dJ5_checkIndex_8 : decode cJ5_checkIndex 8 = .ok (.pop, 1) := by decide +kernel
theorem dJ5_checkIndex_9 : decode cJ5_checkIndex 9 = .ok (.return_, 1) := by decide +kernel
/-- java/lang/String.checkIndex(II)V -/
def wJ5_checkIndex (x0 : Int32) (x1 : Int32) (σ : Hp) (post : Prop) : Prop :=
(∀ r1 : Nat, (wJ10_checkIndex x0 x1 r1 σ (fun r2 => post)))
set_option maxHeartbeats 4000000 in
theorem sJ5_checkIndex {G : GG_} {p : Program} {l : Launch} {e : Env} {R : Room} {s : State} {m : MethodId} {args : Array Value} {below : List Frame} {meth : Method} {c : Code} (Y : MX_ G p R s m args meth c cJ5_checkIndex 2 RJ5 none 2 42 0 0 "checkIndex") {post : Prop} {x0 : Int32} {x1 : Int32} {σ : Hp} (hf : wJ5_checkIndex x0 x1 σ post) : WG_ G p l e R s m args below meth c (MQ below (QV_ G (fun τ => τ = σ ∧ post)) args s 0 0 (FR_ G)) BN_ 2 0 [(0, .int x0), (1, .int x1)] [] σ := by
  have ⟨X, hlk, hr, hRf, hRl, hRc, hnm⟩ := Y
  have ⟨⟨hx, hb, _, hown, hts⟩, _, _⟩ := X
  intro H locs cells slots ls hP hL hB hl
  obtain ⟨rfl, rfl⟩ := hB
  unfold wJ5_checkIndex at hf
  refine lv_iload_n hx hb dJ5_checkIndex_0 rfl (lv_at hl 0 rfl) ?_
  refine lv_iload_n hx hb dJ5_checkIndex_1 rfl (lv_at hl 1 rfl) ?_
  refine p_gsQ X hP X.2.2.2.2.2.2.2.2.2.2.2 q317 dJ5_checkIndex_2 (fun r1 => ?_)
  have hf := hf r1
  refine p_calli hL (p_runS X hP (metJ10_checkIndex l G _ _ _ _ _ X.2.2 hf) (va_cwS 3 hts (lw_S q703 q704 q102 q705) rfl rfl rfl (by decide +kernel) ⟨Nat.le_trans (Nat.le_of_ble_eq_true rfl) hRf, Nat.le_trans (Nat.le_of_ble_eq_true rfl) hRl⟩) rfl hl.1 rfl (by decide) dJ5_checkIndex_5 ⟨Nat.zero_le _, Nat.zero_le _⟩) (fun r2 σ₁ H locs hf hP hL => ?_)
  obtain ⟨e₁, hf⟩ := hf
  rw [e₁] at hP
  refine lv_pop hx hb dJ5_checkIndex_8 rfl ?_
  exact p_vret X hlk hP hL (Nat.le_refl _) (Nat.le_refl _) hr dJ5_checkIndex_9 ⟨rfl, hf⟩
set_option maxHeartbeats 4000000 in
theorem metJ5_checkIndex (l : Launch) (G : GG_) (x0 : Int32) (x1 : Int32) (σ : Hp) (post : Prop) (hG : GOK_ G) (hf : wJ5_checkIndex x0 x1 σ post) : Met l yJ5_checkIndex (ws_ yJ5_checkIndex cJ5_checkIndex 2 none) { frames := 2, cells := 0, slots := 0, locals := 42 } (PC_ G [.int x0, .int x1] σ) (QV_ G (fun τ => τ = σ ∧ post)) 0 0 (FR_ G) := by
  refine Met.ofW (cc := cJ5_checkIndex) (maxL := 2) (ret := none) (by decide) rfl ?_
  intro p e s m args below meth c s₁ B hml hv
  obtain ⟨rfl, hP, hW⟩ := hv
  have hts := atoms_spec (ws := ws_ yJ5_checkIndex cJ5_checkIndex 2 none) B.pre
  have hts : ∀ w ∈ lw_all, w.before _ s = true := fun w h => hts w (List.mem_cons_of_mem _ h)
  rw [lg_entry_eq]
  have hl := en_entry [.int x0, .int x1] [1, 1] (n := 2) (ca_i (ca_i ca_n)) (by decide)
  exact sJ5_checkIndex ⟨⟨⟨B.exec, B.bytes, hml, findClass_of_methodNamed B.named, hts⟩, hW, hG⟩, B.notSynchronized, B.returns, Nat.le_refl _, Nat.le_refl _, ⟨rfl, rfl⟩, (name_of_methodNamed B.named B.method).1⟩ hf _ _ _ _ _ hP (LO_nil G) ⟨rfl, rfl⟩ hl
abbrev cJ11_charAt : ByteArray := prog_21_method_2_code
def yJ11_charAt : MethodName := ⟨RJ11, "charAt", "([BI)C"⟩
theorem dJ11_charAt_0 : decode cJ11_charAt 0 = .ok (.iload_n 1, 1) := by decide +kernel
theorem dJ11_charAt_1 : decode cJ11_charAt 1 = .ok (.aload_n 0, 1) := by decide +kernel
theorem dJ11_charAt_2 : decode cJ11_charAt 2 = .ok (.arraylength, 1) := by decide +kernel
theorem dJ11_charAt_3 : decode cJ11_charAt 3 = .ok (.invokestatic 9, 3) := by decide +kernel
theorem dJ11_charAt_6 : decode cJ11_charAt 6 = .ok (.aload_n 0, 1) := by decide +kernel
theorem dJ11_charAt_7 : decode cJ11_charAt 7 = .ok (.iload_n 1, 1) := by decide +kernel
theorem dJ11_charAt_8 : decode cJ11_charAt 8 = .ok (.baload, 1) := by decide +kernel
theorem dJ11_charAt_9 : decode cJ11_charAt 9 = .ok (.sipush 255, 3) := by decide +kernel
theorem dJ11_charAt_12 : decode cJ11_charAt 12 = .ok (.iand, 1) := by decide +kernel
theorem dJ11_charAt_13 : decode cJ11_charAt 13 = .ok (.i2c, 1) := by decide +kernel
theorem dJ11_charAt_14 : decode cJ11_charAt 14 = .ok (.ireturn, 1) := by decide +kernel
/-- java/lang/StringLatin1.charAt([BI)C -/
def wJ11_charAt (x0 : Nat) (x1 : Int32) (σ : Hp) (post : Int32 → Prop) : Prop :=
(tg_ σ x0 = 100 ∧ (wJ5_checkIndex x1 (nI (ln_ σ x0)) σ ((vp_in x1 (ln_ σ x0) ∧ (nr_ .char ((((aI_ σ x0 (x1).toNatClampNeg) &&& (255 : Int32))).toUInt32 % 65536).toInt32 ∧ post ((((aI_ σ x0 (x1).toNatClampNeg) &&& (255 : Int32))).toUInt32 % 65536).toInt32)))))
set_option maxHeartbeats 4000000 in
theorem sJ11_charAt {G : GG_} {p : Program} {l : Launch} {e : Env} {R : Room} {s : State} {m : MethodId} {args : Array Value} {below : List Frame} {meth : Method} {c : Code} (Y : MX_ G p R s m args meth c cJ11_charAt 2 RJ11 (some Jvm.ClassFile.FieldType.char) 3 63 0 0 "charAt") {post : Int32 → Prop} {x0 : Nat} {x1 : Int32} {σ : Hp} (hf : wJ11_charAt x0 x1 σ post) : WG_ G p l e R s m args below meth c (MQ below (QI_ G (fun r τ => τ = σ ∧ post r)) args s 0 0 (FR_ G)) BN_ 2 0 [(0, rv_ x0), (1, .int x1)] [] σ := by
  have ⟨X, hlk, hr, hRf, hRl, hRc, hnm⟩ := Y
  have ⟨⟨hx, hb, _, hown, hts⟩, _, _⟩ := X
  intro H locs cells slots ls hP hL hB hl
  obtain ⟨rfl, rfl⟩ := hB
  unfold wJ11_charAt at hf
  refine lv_iload_n hx hb dJ11_charAt_0 rfl (lv_at hl 1 rfl) ?_
  refine p_aload_n hx hb dJ11_charAt_1 rfl (lv_at hl 0 rfl) ?_
  obtain ⟨ht1, hf⟩ := hf
  refine p_alen X hP ht1 (by decide) (by decide) dJ11_charAt_2 ?_
  refine p_callv hL (p_runS X hP (metJ5_checkIndex l G _ _ _ _ X.2.2 hf) (va_cwS 2 hts (lw_S q873 q701 q96 q702) rfl rfl rfl (by decide +kernel) ⟨Nat.le_trans (Nat.le_of_ble_eq_true rfl) hRf, Nat.le_trans (Nat.le_of_ble_eq_true rfl) hRl⟩) rfl hl.1 rfl (by decide) dJ11_charAt_3 ⟨Nat.zero_le _, Nat.zero_le _⟩) (fun σ₁ H locs hf hP hL => ?_)
  obtain ⟨e₁, hf⟩ := hf
  rw [e₁] at hP
  refine p_aload_n hx hb dJ11_charAt_6 rfl (lv_at hl 0 rfl) ?_
  refine lv_iload_n hx hb dJ11_charAt_7 rfl (lv_at hl 1 rfl) ?_
  obtain ⟨hi2, hf⟩ := hf
  refine p_bald X hP ht1 hi2 dJ11_charAt_8 ?_
  refine lv_sipush (v := 255) hx hb dJ11_charAt_9 (by decide) ?_
  refine lv_iand hx hb dJ11_charAt_12 ?_
  refine lv_i2c hx hb dJ11_charAt_13 rfl ?_
  obtain ⟨hn3, hf⟩ := hf
  exact p_zret X hlk hP hL (Nat.le_refl _) (Nat.le_refl _) hr hn3 dJ11_charAt_14 ⟨rfl, hf⟩
set_option maxHeartbeats 4000000 in
theorem metJ11_charAt (l : Launch) (G : GG_) (x0 : Nat) (x1 : Int32) (σ : Hp) (post : Int32 → Prop) (hG : GOK_ G) (hf : wJ11_charAt x0 x1 σ post) : Met l yJ11_charAt (ws_ yJ11_charAt cJ11_charAt 2 (some Jvm.ClassFile.FieldType.char)) { frames := 3, cells := 0, slots := 0, locals := 63 } (PC_ G [rv_ x0, .int x1] σ) (QI_ G (fun r τ => τ = σ ∧ post r)) 0 0 (FR_ G) := by
  refine Met.ofW (cc := cJ11_charAt) (maxL := 2) (ret := (some Jvm.ClassFile.FieldType.char)) (by decide) rfl ?_
  intro p e s m args below meth c s₁ B hml hv
  obtain ⟨rfl, hP, hW⟩ := hv
  have hts := atoms_spec (ws := ws_ yJ11_charAt cJ11_charAt 2 (some Jvm.ClassFile.FieldType.char)) B.pre
  have hts : ∀ w ∈ lw_all, w.before _ s = true := fun w h => hts w (List.mem_cons_of_mem _ h)
  rw [lg_entry_eq]
  have hl := en_entry [rv_ x0, .int x1] [1, 1] (n := 2) (ca_r (ca_i ca_n)) (by decide)
  exact sJ11_charAt ⟨⟨⟨B.exec, B.bytes, hml, findClass_of_methodNamed B.named, hts⟩, hW, hG⟩, B.notSynchronized, B.returns, Nat.le_refl _, Nat.le_refl _, ⟨rfl, rfl⟩, (name_of_methodNamed B.named B.method).1⟩ hf _ _ _ _ _ hP (LO_nil G) ⟨rfl, rfl⟩ hl
abbrev cJ5_charAt : ByteArray := prog_19_method_56_code
def yJ5_charAt : MethodName := ⟨RJ5, "charAt", "(I)C"⟩
theorem dJ5_charAt_0 : decode cJ5_charAt 0 = .ok (.aload_n 0, 1) := by decide +kernel
theorem dJ5_charAt_1 : decode cJ5_charAt 1 = .ok (.invokevirtual 492, 3) := by decide +kernel
theorem dJ5_charAt_4 : decode cJ5_charAt 4 = .ok (.ifCond .eq 12, 3) := by decide +kernel
theorem dJ5_charAt_7 : decode cJ5_charAt 7 = .ok (.aload_n 0, 1) := by decide +kernel
theorem dJ5_charAt_8 : decode cJ5_charAt 8 = .ok (.getfield 9, 3) := by decide +kernel
theorem dJ5_charAt_11 : decode cJ5_charAt 11 = .ok (.iload_n 1, 1) := by decide +kernel
theorem dJ5_charAt_12 : decode cJ5_charAt 12 = .ok (.invokestatic 495, 3) := by decide +kernel
theorem dJ5_charAt_15 : decode cJ5_charAt 15 = .ok (.ireturn, 1) := by decide +kernel
theorem dJ5_charAt_16 : decode cJ5_charAt 16 = .ok (.aload_n 0, 1) := by decide +kernel
theorem dJ5_charAt_17 : decode cJ5_charAt 17 = .ok (.getfield 9, 3) := by decide +kernel
theorem dJ5_charAt_20 : decode cJ5_charAt 20 = .ok (.iload_n 1, 1) := by decide +kernel
theorem dJ5_charAt_21 : decode cJ5_charAt 21 = .ok (.invokestatic 498, 3) := by decide +kernel
theorem dJ5_charAt_24 : decode cJ5_charAt 24 = .ok (.ireturn, 1) := by decide +kernel
/-- java/lang/String.charAt(I)C -/
def wJ5_charAt (x0 : Nat) (x1 : Int32) (σ : Hp) (post : Int32 → Prop) : Prop :=
(tg_ σ x0 = 13 ∧ (wJ5_isLatin1 x0  σ (fun r2 => ((r2 = 0 →
  False) ∧
 (¬ r2 = 0 →
  (wJ11_charAt (fR_ σ 12 0 x0) x1 σ (fun r4 => (nr_ .char r4 ∧ post r4))))))))
set_option maxHeartbeats 4000000 in
theorem sJ5_charAt {G : GG_} {p : Program} {l : Launch} {e : Env} {R : Room} {s : State} {m : MethodId} {args : Array Value} {below : List Frame} {meth : Method} {c : Code} (Y : MX_ G p R s m args meth c cJ5_charAt 2 RJ5 (some Jvm.ClassFile.FieldType.char) 4 84 0 0 "charAt") {post : Int32 → Prop} {x0 : Nat} {x1 : Int32} {σ : Hp} (hf : wJ5_charAt x0 x1 σ post) : WG_ G p l e R s m args below meth c (MQ below (QI_ G (fun r τ => τ = σ ∧ post r)) args s 0 0 (FR_ G)) BN_ 2 0 [(0, rv_ x0), (1, .int x1)] [] σ := by
  have ⟨X, hlk, hr, hRf, hRl, hRc, hnm⟩ := Y
  have ⟨⟨hx, hb, _, hown, hts⟩, _, _⟩ := X
  intro H locs cells slots ls hP hL hB hl
  obtain ⟨rfl, rfl⟩ := hB
  unfold wJ5_charAt at hf
  refine p_aload_n hx hb dJ5_charAt_0 rfl (lv_at hl 0 rfl) ?_
  obtain ⟨ht1, hf⟩ := hf
  refine p_calli hL (p_runV X cf12_ hP ht1 (metJ5_isLatin1 l G _ _ _ X.2.2 hf) (cwV 0 hts (lw_V q866 q867 q868 q96 q869) rfl rfl rfl (by decide +kernel) ⟨Nat.le_trans (Nat.le_of_ble_eq_true rfl) hRf, Nat.le_trans (Nat.le_of_ble_eq_true rfl) hRl⟩) rfl hl.1 rfl (by decide) dJ5_charAt_1 ⟨Nat.zero_le _, Nat.zero_le _⟩) (fun r2 σ₁ H locs hf hP hL => ?_)
  obtain ⟨e₁, hf⟩ := hf
  rw [e₁] at hP
  refine lv_if_eq (tgt := 16) hx hb dJ5_charAt_4 (by decide) (fun c3 => ?_) (fun c3 => ?_)
  · have hf := hf.1 c3
    refine p_aload_n hx hb dJ5_charAt_16 rfl (lv_at hl 0 rfl) ?_
    refine p_gR X cf12_ (k := 0) (by decide) rfl hP ht1 q424 (fun _ h => h) dJ5_charAt_17 ?_
    refine lv_iload_n hx hb dJ5_charAt_20 rfl (lv_at hl 1 rfl) ?_
    exact hf.elim
  · have hf := hf.2 c3
    refine p_aload_n hx hb dJ5_charAt_7 rfl (lv_at hl 0 rfl) ?_
    refine p_gR X cf12_ (k := 0) (by decide) rfl hP ht1 q424 (fun _ h => h) dJ5_charAt_8 ?_
    refine lv_iload_n hx hb dJ5_charAt_11 rfl (lv_at hl 1 rfl) ?_
    refine p_calli hL (p_runS X hP (metJ11_charAt l G _ _ _ _ X.2.2 hf) (va_cwS 2 hts (lw_S q870 q871 q103 q872) rfl rfl rfl (by decide +kernel) ⟨Nat.le_trans (Nat.le_of_ble_eq_true rfl) hRf, Nat.le_trans (Nat.le_of_ble_eq_true rfl) hRl⟩) rfl hl.1 rfl (by decide) dJ5_charAt_12 ⟨Nat.zero_le _, Nat.zero_le _⟩) (fun r4 σ₁ H locs hf hP hL => ?_)
    obtain ⟨e₁, hf⟩ := hf
    rw [e₁] at hP
    obtain ⟨hn5, hf⟩ := hf
    exact p_zret X hlk hP hL (Nat.le_refl _) (Nat.le_refl _) hr hn5 dJ5_charAt_15 ⟨rfl, hf⟩
set_option maxHeartbeats 4000000 in
theorem metJ5_charAt (l : Launch) (G : GG_) (x0 : Nat) (x1 : Int32) (σ : Hp) (post : Int32 → Prop) (hG : GOK_ G) (hf : wJ5_charAt x0 x1 σ post) : Met l yJ5_charAt (ws_ yJ5_charAt cJ5_charAt 2 (some Jvm.ClassFile.FieldType.char)) { frames := 4, cells := 0, slots := 0, locals := 84 } (PC_ G [rv_ x0, .int x1] σ) (QI_ G (fun r τ => τ = σ ∧ post r)) 0 0 (FR_ G) := by
  refine Met.ofW (cc := cJ5_charAt) (maxL := 2) (ret := (some Jvm.ClassFile.FieldType.char)) (by decide) rfl ?_
  intro p e s m args below meth c s₁ B hml hv
  obtain ⟨rfl, hP, hW⟩ := hv
  have hts := atoms_spec (ws := ws_ yJ5_charAt cJ5_charAt 2 (some Jvm.ClassFile.FieldType.char)) B.pre
  have hts : ∀ w ∈ lw_all, w.before _ s = true := fun w h => hts w (List.mem_cons_of_mem _ h)
  rw [lg_entry_eq]
  have hl := en_entry [rv_ x0, .int x1] [1, 1] (n := 2) (ca_r (ca_i ca_n)) (by decide)
  exact sJ5_charAt ⟨⟨⟨B.exec, B.bytes, hml, findClass_of_methodNamed B.named, hts⟩, hW, hG⟩, B.notSynchronized, B.returns, Nat.le_refl _, Nat.le_refl _, ⟨rfl, rfl⟩, (name_of_methodNamed B.named B.method).1⟩ hf _ _ _ _ _ hP (LO_nil G) ⟨rfl, rfl⟩ hl
abbrev cJ11_equals : ByteArray := prog_21_method_13_code
def yJ11_equals : MethodName := ⟨RJ11, "equals", "([B[B)Z"⟩
theorem dJ11_equals_0 : decode cJ11_equals 0 = .ok (.aload_n 0, 1) := by decide +kernel
theorem dJ11_equals_1 : decode cJ11_equals 1 = .ok (.arraylength, 1) := by decide +kernel
theorem dJ11_equals_2 : decode cJ11_equals 2 = .ok (.aload_n 1, 1) := by decide +kernel
theorem dJ11_equals_3 : decode cJ11_equals 3 = .ok (.arraylength, 1) := by decide +kernel
theorem dJ11_equals_4 : decode cJ11_equals 4 = .ok (.if_icmp .ne 30, 3) := by decide +kernel
theorem dJ11_equals_7 : decode cJ11_equals 7 = .ok (.iconst 0, 1) := by decide +kernel
theorem dJ11_equals_8 : decode cJ11_equals 8 = .ok (.istore_n 2, 1) := by decide +kernel
theorem dJ11_equals_9 : decode cJ11_equals 9 = .ok (.iload_n 2, 1) := by decide +kernel
theorem dJ11_equals_10 : decode cJ11_equals 10 = .ok (.aload_n 0, 1) := by decide +kernel
theorem dJ11_equals_11 : decode cJ11_equals 11 = .ok (.arraylength, 1) := by decide +kernel
theorem dJ11_equals_12 : decode cJ11_equals 12 = .ok (.if_icmp .ge 20, 3) := by decide +kernel
theorem dJ11_equals_15 : decode cJ11_equals 15 = .ok (.aload_n 0, 1) := by decide +kernel
theorem dJ11_equals_16 : decode cJ11_equals 16 = .ok (.iload_n 2, 1) := by decide +kernel
theorem dJ11_equals_17 : decode cJ11_equals 17 = .ok (.baload, 1) := by decide +kernel
theorem dJ11_equals_18 : decode cJ11_equals 18 = .ok (.aload_n 1, 1) := by decide +kernel
theorem dJ11_equals_19 : decode cJ11_equals 19 = .ok (.iload_n 2, 1) := by decide +kernel
theorem dJ11_equals_20 : decode cJ11_equals 20 = .ok (.baload, 1) := by decide +kernel
theorem dJ11_equals_21 : decode cJ11_equals 21 = .ok (.if_icmp .eq 5, 3) := by decide +kernel
theorem dJ11_equals_24 : decode cJ11_equals 24 = .ok (.iconst 0, 1) := by decide +kernel
theorem dJ11_equals_25 : decode cJ11_equals 25 = .ok (.ireturn, 1) := by decide +kernel
theorem dJ11_equals_26 : decode cJ11_equals 26 = .ok (.iinc 2 1, 3) := by decide +kernel
theorem dJ11_equals_29 : decode cJ11_equals 29 = .ok (.goto (-20), 3) := by decide +kernel
theorem dJ11_equals_32 : decode cJ11_equals 32 = .ok (.iconst 1, 1) := by decide +kernel
theorem dJ11_equals_33 : decode cJ11_equals 33 = .ok (.ireturn, 1) := by decide +kernel
theorem dJ11_equals_34 : decode cJ11_equals 34 = .ok (.iconst 0, 1) := by decide +kernel
theorem dJ11_equals_35 : decode cJ11_equals 35 = .ok (.ireturn, 1) := by decide +kernel
/-- java/lang/StringLatin1.equals([B[B)Z -/
def wJ11_equals_B9 (post : Int32 → Prop) (rc9 : Int32 → Prop) (x0 : Nat) (x1 : Nat) (x2 : Int32) (σ : Hp) : Prop :=
(tg_ σ x0 = 100 ∧ (((nI (ln_ σ x0)) ≤ x2 →
  post (1 : Int32)) ∧
 (¬ (nI (ln_ σ x0)) ≤ x2 →
  (vp_in x2 (ln_ σ x0) ∧ (tg_ σ x1 = 100 ∧ (vp_in x2 (ln_ σ x1) ∧ (((aI_ σ x0 (x2).toNatClampNeg) = (aI_ σ x1 (x2).toNatClampNeg) →
   (∀ y7 : Int32, y7 = x2 + 1 → rc9 y7)) ∧
  (¬ (aI_ σ x0 (x2).toNatClampNeg) = (aI_ σ x1 (x2).toNatClampNeg) →
   post (0 : Int32)))))))))
def wJ11_equals_L9 (post : Int32 → Prop) (x0 : Nat) (x1 : Nat) (x2 : Int32) (σ : Hp) : Prop :=
 ∃ (I : Int32 → Prop) (μ : Int32 → Nat), I x2 ∧ ∀ (x2 : Int32), I x2 → wJ11_equals_B9 post (fun x2' => I x2' ∧ μ x2' < μ x2) x0 x1 x2 σ
def wJ11_equals (x0 : Nat) (x1 : Nat) (σ : Hp) (post : Int32 → Prop) : Prop :=
(tg_ σ x0 = 100 ∧ (tg_ σ x1 = 100 ∧ ((¬ (nI (ln_ σ x0)) = (nI (ln_ σ x1)) →
  post (0 : Int32)) ∧
 ((nI (ln_ σ x0)) = (nI (ln_ σ x1)) →
  wJ11_equals_L9 post x0 x1 (0 : Int32) σ))))
set_option maxHeartbeats 4000000 in
theorem sJ11_equals_B9 {G : GG_} {p : Program} {l : Launch} {e : Env} {R : Room} {s : State} {m : MethodId} {args : Array Value} {below : List Frame} {meth : Method} {c : Code} (Y : MX_ G p R s m args meth c cJ11_equals 3 RJ11 (some Jvm.ClassFile.FieldType.boolean) 1 20 0 0 "equals") {post : Int32 → Prop} {rc9 : Int32 → Prop} {x0 : Nat} {x1 : Nat} {x2 : Int32} {σ : Hp} (hrc9 : ∀ (x2 : Int32), rc9 x2 → WG_ G p l e R s m args below meth c (MQ below (QI_ G (fun r τ => τ = σ ∧ post r)) args s 0 0 (FR_ G)) BN_ 3 9 [(0, rv_ x0), (1, rv_ x1), (2, .int x2)] [] σ) (hf : wJ11_equals_B9 post rc9 x0 x1 x2 σ) : WG_ G p l e R s m args below meth c (MQ below (QI_ G (fun r τ => τ = σ ∧ post r)) args s 0 0 (FR_ G)) BN_ 3 9 [(0, rv_ x0), (1, rv_ x1), (2, .int x2)] [] σ := by
  have ⟨X, hlk, hr, hRf, hRl, hRc, hnm⟩ := Y
  have ⟨⟨hx, hb, _, hown, hts⟩, _, _⟩ := X
  intro H locs cells slots ls hP hL hB hl
  obtain ⟨rfl, rfl⟩ := hB
  unfold wJ11_equals_B9 at hf
  refine lv_iload_n hx hb dJ11_equals_9 rfl (lv_at hl 2 rfl) ?_
  refine p_aload_n hx hb dJ11_equals_10 rfl (lv_at hl 0 rfl) ?_
  obtain ⟨ht1, hf⟩ := hf
  refine p_alen X hP ht1 (by decide) (by decide) dJ11_equals_11 ?_
  refine lv_icmp_ge (tgt := 32) hx hb dJ11_equals_12 (by decide) (fun c2 => ?_) (fun c2 => ?_)
  · have hf := hf.1 c2
    refine lv_iconst (v := 1) hx hb dJ11_equals_32 (by decide) ?_
    exact p_zret X hlk hP hL (Nat.le_refl _) (Nat.le_refl _) hr nr_1 dJ11_equals_33 ⟨rfl, hf⟩
  · have hf := hf.2 c2
    refine p_aload_n hx hb dJ11_equals_15 rfl (lv_at hl 0 rfl) ?_
    refine lv_iload_n hx hb dJ11_equals_16 rfl (lv_at hl 2 rfl) ?_
    obtain ⟨hi3, hf⟩ := hf
    refine p_bald X hP ht1 hi3 dJ11_equals_17 ?_
    refine p_aload_n hx hb dJ11_equals_18 rfl (lv_at hl 1 rfl) ?_
    refine lv_iload_n hx hb dJ11_equals_19 rfl (lv_at hl 2 rfl) ?_
    obtain ⟨ht4, hf⟩ := hf
    obtain ⟨hi5, hf⟩ := hf
    refine p_bald X hP ht4 hi5 dJ11_equals_20 ?_
    refine lv_icmp_eq (tgt := 26) hx hb dJ11_equals_21 (by decide) (fun c6 => ?_) (fun c6 => ?_)
    · have hf := hf.1 c6
      have hl := lv_sub hl [2, 0, 1] rfl
      refine p_iincc (i := 2) (k := 1) hx hb (by decide) dJ11_equals_26 hl (by decide) ⟨⟨ne_ rfl, Or.inl (ne_ rfl)⟩, ⟨⟨ne_ rfl, Or.inr (rv_cat _)⟩, trivial⟩⟩ (fun y7 hy7 ls hl => ?_)
      have hf := hf y7 hy7
      refine lv_goto (tgt := 9) hx hb dJ11_equals_29 (by decide) ?_
      exact hrc9 _ hf _ _ _ _ _ hP hL ⟨rfl, rfl⟩ (lv_sub hl [1, 2, 0] rfl)
    · have hf := hf.2 c6
      refine lv_iconst (v := 0) hx hb dJ11_equals_24 (by decide) ?_
      exact p_zret X hlk hP hL (Nat.le_refl _) (Nat.le_refl _) hr nr_0 dJ11_equals_25 ⟨rfl, hf⟩
set_option maxHeartbeats 4000000 in
theorem sJ11_equals_L9 {G : GG_} {p : Program} {l : Launch} {e : Env} {R : Room} {s : State} {m : MethodId} {args : Array Value} {below : List Frame} {meth : Method} {c : Code} (Y : MX_ G p R s m args meth c cJ11_equals 3 RJ11 (some Jvm.ClassFile.FieldType.boolean) 1 20 0 0 "equals") {post : Int32 → Prop} {x0 : Nat} {x1 : Nat} {x2 : Int32} {σ : Hp} (hf : wJ11_equals_L9 post x0 x1 x2 σ) : WG_ G p l e R s m args below meth c (MQ below (QI_ G (fun r τ => τ = σ ∧ post r)) args s 0 0 (FR_ G)) BN_ 3 9 [(0, rv_ x0), (1, rv_ x1), (2, .int x2)] [] σ := by
  unfold wJ11_equals_L9 at hf
  obtain ⟨I, μ, h0, hI⟩ := hf
  have key : ∀ (n : Nat) (x2 : Int32), I x2 → μ x2 < n → WG_ G p l e R s m args below meth c (MQ below (QI_ G (fun r τ => τ = σ ∧ post r)) args s 0 0 (FR_ G)) BN_ 3 9 [(0, rv_ x0), (1, rv_ x1), (2, .int x2)] [] σ := by
    intro n
    induction n with
    | zero => intro x2 _ h; exact absurd h (Nat.not_lt_zero _)
    | succ n ih => intro x2 hi hn; exact sJ11_equals_B9 Y (fun x2' h => ih x2' h.1 (Nat.lt_of_lt_of_le h.2 (Nat.le_of_lt_succ hn))) (hI x2 hi)
  exact key _ _ h0 (Nat.lt_succ_self _)
set_option maxHeartbeats 4000000 in
theorem sJ11_equals {G : GG_} {p : Program} {l : Launch} {e : Env} {R : Room} {s : State} {m : MethodId} {args : Array Value} {below : List Frame} {meth : Method} {c : Code} (Y : MX_ G p R s m args meth c cJ11_equals 3 RJ11 (some Jvm.ClassFile.FieldType.boolean) 1 20 0 0 "equals") {post : Int32 → Prop} {x0 : Nat} {x1 : Nat} {σ : Hp} (hf : wJ11_equals x0 x1 σ post) : WG_ G p l e R s m args below meth c (MQ below (QI_ G (fun r τ => τ = σ ∧ post r)) args s 0 0 (FR_ G)) BN_ 3 0 [(0, rv_ x0), (1, rv_ x1)] [] σ := by
  have ⟨X, hlk, hr, hRf, hRl, hRc, hnm⟩ := Y
  have ⟨⟨hx, hb, _, hown, hts⟩, _, _⟩ := X
  intro H locs cells slots ls hP hL hB hl
  obtain ⟨rfl, rfl⟩ := hB
  unfold wJ11_equals at hf
  refine p_aload_n hx hb dJ11_equals_0 rfl (lv_at hl 0 rfl) ?_
  obtain ⟨ht8, hf⟩ := hf
  refine p_alen X hP ht8 (by decide) (by decide) dJ11_equals_1 ?_
  refine p_aload_n hx hb dJ11_equals_2 rfl (lv_at hl 1 rfl) ?_
  obtain ⟨ht9, hf⟩ := hf
  refine p_alen X hP ht9 (by decide) (by decide) dJ11_equals_3 ?_
  refine lv_icmp_ne (tgt := 34) hx hb dJ11_equals_4 (by decide) (fun c10 => ?_) (fun c10 => ?_)
  · have hf := hf.1 c10
    refine lv_iconst (v := 0) hx hb dJ11_equals_34 (by decide) ?_
    exact p_zret X hlk hP hL (Nat.le_refl _) (Nat.le_refl _) hr nr_0 dJ11_equals_35 ⟨rfl, hf⟩
  · have hf := hf.2 c10
    refine lv_iconst (v := 0) hx hb dJ11_equals_7 (by decide) ?_
    refine p_istore_n (i := 2) hx hb dJ11_equals_8 rfl hl (by decide) ⟨⟨ne_ rfl, Or.inl (ne_ rfl)⟩, ⟨⟨ne_ rfl, Or.inr (rv_cat _)⟩, trivial⟩⟩ (fun ls hl => ?_)
    exact sJ11_equals_L9 Y hf _ _ _ _ _ hP hL ⟨rfl, rfl⟩ (lv_sub hl [1, 2, 0] rfl)
set_option maxHeartbeats 4000000 in
theorem metJ11_equals (l : Launch) (G : GG_) (x0 : Nat) (x1 : Nat) (σ : Hp) (post : Int32 → Prop) (hG : GOK_ G) (hf : wJ11_equals x0 x1 σ post) : Met l yJ11_equals (ws_ yJ11_equals cJ11_equals 3 (some Jvm.ClassFile.FieldType.boolean)) { frames := 1, cells := 0, slots := 0, locals := 20 } (PC_ G [rv_ x0, rv_ x1] σ) (QI_ G (fun r τ => τ = σ ∧ post r)) 0 0 (FR_ G) := by
  refine Met.ofW (cc := cJ11_equals) (maxL := 3) (ret := (some Jvm.ClassFile.FieldType.boolean)) (by decide) rfl ?_
  intro p e s m args below meth c s₁ B hml hv
  obtain ⟨rfl, hP, hW⟩ := hv
  have hts := atoms_spec (ws := ws_ yJ11_equals cJ11_equals 3 (some Jvm.ClassFile.FieldType.boolean)) B.pre
  have hts : ∀ w ∈ lw_all, w.before _ s = true := fun w h => hts w (List.mem_cons_of_mem _ h)
  rw [lg_entry_eq]
  have hl := en_entry [rv_ x0, rv_ x1] [1, 1] (n := 3) (ca_r (ca_r ca_n)) (by decide)
  exact sJ11_equals ⟨⟨⟨B.exec, B.bytes, hml, findClass_of_methodNamed B.named, hts⟩, hW, hG⟩, B.notSynchronized, B.returns, Nat.le_refl _, Nat.le_refl _, ⟨rfl, rfl⟩, (name_of_methodNamed B.named B.method).1⟩ hf _ _ _ _ _ hP (LO_nil G) ⟨rfl, rfl⟩ hl
abbrev cJ5_equals : ByteArray := prog_19_method_66_code
def yJ5_equals : MethodName := ⟨RJ5, "equals", "(Ljava/lang/Object;)Z"⟩
theorem dJ5_equals_0 : decode cJ5_equals 0 = .ok (.aload_n 0, 1) := by decide +kernel
theorem dJ5_equals_1 : decode cJ5_equals 1 = .ok (.aload_n 1, 1) := by decide +kernel
theorem dJ5_equals_2 : decode cJ5_equals 2 = .ok (.if_acmp .ne 5, 3) := by decide +kernel
theorem dJ5_equals_5 : decode cJ5_equals 5 = .ok (.iconst 1, 1) := by decide +kernel
theorem dJ5_equals_6 : decode cJ5_equals 6 = .ok (.ireturn, 1) := by decide +kernel
theorem dJ5_equals_7 : decode cJ5_equals 7 = .ok (.aload_n 1, 1) := by decide +kernel
theorem dJ5_equals_8 : decode cJ5_equals 8 = .ok (.instanceof 10, 3) := by decide +kernel
theorem dJ5_equals_11 : decode cJ5_equals 11 = .ok (.ifCond .eq 43, 3) := by decide +kernel
theorem dJ5_equals_14 : decode cJ5_equals 14 = .ok (.aload_n 1, 1) := by decide +kernel
theorem dJ5_equals_15 : decode cJ5_equals 15 = .ok (.checkcast 10, 3) := by decide +kernel
theorem dJ5_equals_18 : decode cJ5_equals 18 = .ok (.astore_n 2, 1) := by decide +kernel
theorem dJ5_equals_19 : decode cJ5_equals 19 = .ok (.getstatic 38, 3) := by decide +kernel
theorem dJ5_equals_22 : decode cJ5_equals 22 = .ok (.ifCond .eq 14, 3) := by decide +kernel
theorem dJ5_equals_25 : decode cJ5_equals 25 = .ok (.aload_n 0, 1) := by decide +kernel
theorem dJ5_equals_26 : decode cJ5_equals 26 = .ok (.getfield 15, 3) := by decide +kernel
theorem dJ5_equals_29 : decode cJ5_equals 29 = .ok (.aload_n 2, 1) := by decide +kernel
theorem dJ5_equals_30 : decode cJ5_equals 30 = .ok (.getfield 15, 3) := by decide +kernel
theorem dJ5_equals_33 : decode cJ5_equals 33 = .ok (.if_icmp .ne 21, 3) := by decide +kernel
theorem dJ5_equals_36 : decode cJ5_equals 36 = .ok (.aload_n 0, 1) := by decide +kernel
theorem dJ5_equals_37 : decode cJ5_equals 37 = .ok (.getfield 9, 3) := by decide +kernel
theorem dJ5_equals_40 : decode cJ5_equals 40 = .ok (.aload_n 2, 1) := by decide +kernel
theorem dJ5_equals_41 : decode cJ5_equals 41 = .ok (.getfield 9, 3) := by decide +kernel
theorem dJ5_equals_44 : decode cJ5_equals 44 = .ok (.invokestatic 541, 3) := by decide +kernel
theorem dJ5_equals_47 : decode cJ5_equals 47 = .ok (.ifCond .eq 7, 3) := by decide +kernel
theorem dJ5_equals_50 : decode cJ5_equals 50 = .ok (.iconst 1, 1) := by decide +kernel
theorem dJ5_equals_51 : decode cJ5_equals 51 = .ok (.goto 4, 3) := by decide +kernel
theorem dJ5_equals_54 : decode cJ5_equals 54 = .ok (.iconst 0, 1) := by decide +kernel
theorem dJ5_equals_55 : decode cJ5_equals 55 = .ok (.ireturn, 1) := by decide +kernel
/-- java/lang/String.equals(Ljava/lang/Object;)Z -/
def wJ5_equals_L36 (post : Int32 → Prop) (x0 : Nat) (x2 : Nat) (σ : Hp) : Prop :=
(tg_ σ x0 = 13 ∧ (tg_ σ x2 = 13 ∧ (wJ11_equals (fR_ σ 12 0 x0) (fR_ σ 12 0 x2) σ (fun r3 => ((r3 = 0 →
  post (0 : Int32)) ∧
 (¬ r3 = 0 →
  post (1 : Int32)))))))
def wJ5_equals (x0 : Nat) (x1 : Nat) (σ : Hp) (post : Int32 → Prop) : Prop :=
((¬ x0 = x1 →
  (tg_ σ x1 = 13 ∧ (((1 : Int32) = 0 →
   post (0 : Int32)) ∧
  (¬ (1 : Int32) = 0 →
   (((1 : Int32) = 0 →
    wJ5_equals_L36 post x0 x1 σ) ∧
   (¬ (1 : Int32) = 0 →
    (tg_ σ x0 = 13 ∧ ((¬ (fI_ σ 12 1 x0) = (fI_ σ 12 1 x1) →
     post (0 : Int32)) ∧
    ((fI_ σ 12 1 x0) = (fI_ σ 12 1 x1) →
     wJ5_equals_L36 post x0 x1 σ))))))))) ∧
 (x0 = x1 →
  post (1 : Int32)))
set_option maxHeartbeats 4000000 in
theorem sJ5_equals_L36 {G : GG_} {p : Program} {l : Launch} {e : Env} {R : Room} {s : State} {m : MethodId} {args : Array Value} {below : List Frame} {meth : Method} {c : Code} (Y : MX_ G p R s m args meth c cJ5_equals 3 RJ5 (some Jvm.ClassFile.FieldType.boolean) 2 42 0 0 "equals") {post : Int32 → Prop} {x0 : Nat} {x2 : Nat} {σ : Hp} (hf : wJ5_equals_L36 post x0 x2 σ) : WG_ G p l e R s m args below meth c (MQ below (QI_ G (fun r τ => τ = σ ∧ post r)) args s 0 0 (FR_ G)) BN_ 3 36 [(0, rv_ x0), (2, rv_ x2)] [] σ := by
  have ⟨X, hlk, hr, hRf, hRl, hRc, hnm⟩ := Y
  have ⟨⟨hx, hb, _, hown, hts⟩, _, _⟩ := X
  intro H locs cells slots ls hP hL hB hl
  obtain ⟨rfl, rfl⟩ := hB
  unfold wJ5_equals_L36 at hf
  refine p_aload_n hx hb dJ5_equals_36 rfl (lv_at hl 0 rfl) ?_
  obtain ⟨ht1, hf⟩ := hf
  refine p_gR X cf12_ (k := 0) (by decide) rfl hP ht1 q424 (fun _ h => h) dJ5_equals_37 ?_
  refine p_aload_n hx hb dJ5_equals_40 rfl (lv_at hl 1 rfl) ?_
  obtain ⟨ht2, hf⟩ := hf
  refine p_gR X cf12_ (k := 0) (by decide) rfl hP ht2 q424 (fun _ h => h) dJ5_equals_41 ?_
  refine p_calli hL (p_runS X hP (metJ11_equals l G _ _ _ _ X.2.2 hf) (va_cwS 2 hts (lw_S q750 q751 q103 q752) rfl rfl rfl (by decide +kernel) ⟨Nat.le_trans (Nat.le_of_ble_eq_true rfl) hRf, Nat.le_trans (Nat.le_of_ble_eq_true rfl) hRl⟩) rfl hl.1 rfl (by decide) dJ5_equals_44 ⟨Nat.zero_le _, Nat.zero_le _⟩) (fun r3 σ₁ H locs hf hP hL => ?_)
  obtain ⟨e₁, hf⟩ := hf
  rw [e₁] at hP
  refine lv_if_eq (tgt := 54) hx hb dJ5_equals_47 (by decide) (fun c4 => ?_) (fun c4 => ?_)
  · have hf := hf.1 c4
    refine lv_iconst (v := 0) hx hb dJ5_equals_54 (by decide) ?_
    exact p_zret X hlk hP hL (Nat.le_refl _) (Nat.le_refl _) hr nr_0 dJ5_equals_55 ⟨rfl, hf⟩
  · have hf := hf.2 c4
    refine lv_iconst (v := 1) hx hb dJ5_equals_50 (by decide) ?_
    refine lv_goto (tgt := 55) hx hb dJ5_equals_51 (by decide) ?_
    exact p_zret X hlk hP hL (Nat.le_refl _) (Nat.le_refl _) hr nr_1 dJ5_equals_55 ⟨rfl, hf⟩
set_option maxHeartbeats 4000000 in
theorem sJ5_equals {G : GG_} {p : Program} {l : Launch} {e : Env} {R : Room} {s : State} {m : MethodId} {args : Array Value} {below : List Frame} {meth : Method} {c : Code} (Y : MX_ G p R s m args meth c cJ5_equals 3 RJ5 (some Jvm.ClassFile.FieldType.boolean) 2 42 0 0 "equals") {post : Int32 → Prop} {x0 : Nat} {x1 : Nat} {σ : Hp} (hf : wJ5_equals x0 x1 σ post) : WG_ G p l e R s m args below meth c (MQ below (QI_ G (fun r τ => τ = σ ∧ post r)) args s 0 0 (FR_ G)) BN_ 3 0 [(0, rv_ x0), (1, rv_ x1)] [] σ := by
  have ⟨X, hlk, hr, hRf, hRl, hRc, hnm⟩ := Y
  have ⟨⟨hx, hb, _, hown, hts⟩, _, _⟩ := X
  intro H locs cells slots ls hP hL hB hl
  obtain ⟨rfl, rfl⟩ := hB
  unfold wJ5_equals at hf
  refine p_aload_n hx hb dJ5_equals_0 rfl (lv_at hl 0 rfl) ?_
  refine p_aload_n hx hb dJ5_equals_1 rfl (lv_at hl 1 rfl) ?_
  refine p_acmp_ne (tgt := 7) hx hb dJ5_equals_2 (by decide) (fun c5 => ?_) (fun c5 => ?_)
  · have hf := hf.1 c5
    refine p_aload_n hx hb dJ5_equals_7 rfl (lv_at hl 1 rfl) ?_
    obtain ⟨ht6, hf⟩ := hf
    refine p_inst X cf12_ hP ht6 q749 dJ5_equals_8 ?_
    refine lv_if_eq (tgt := 54) hx hb dJ5_equals_11 (by decide) (fun c7 => ?_) (fun c7 => ?_)
    · have hf := hf.1 c7
      refine lv_iconst (v := 0) hx hb dJ5_equals_54 (by decide) ?_
      exact p_zret X hlk hP hL (Nat.le_refl _) (Nat.le_refl _) hr nr_0 dJ5_equals_55 ⟨rfl, hf⟩
    · have hf := hf.2 c7
      refine p_aload_n hx hb dJ5_equals_14 rfl (lv_at hl 1 rfl) ?_
      refine p_cast X cf12_ hP (Or.inr ht6) q749 dJ5_equals_15 ?_
      have hl := lv_sub hl [0] rfl
      refine p_astore_n (i := 2) hx hb dJ5_equals_18 rfl hl (by decide) ⟨⟨ne_ rfl, Or.inl (ne_ rfl)⟩, trivial⟩ (fun ls hl => ?_)
      refine p_gsC X hP q339 dJ5_equals_19 ?_
      refine lv_if_eq (tgt := 36) hx hb dJ5_equals_22 (by decide) (fun c9 => ?_) (fun c9 => ?_)
      · have hf := hf.1 c9
        exact sJ5_equals_L36 Y hf _ _ _ _ _ hP hL ⟨rfl, rfl⟩ (lv_sub hl [1, 0] rfl)
      · have hf := hf.2 c9
        refine p_aload_n hx hb dJ5_equals_25 rfl (lv_at hl 1 rfl) ?_
        obtain ⟨ht10, hf⟩ := hf
        refine p_gI X cf12_ (k := 1) (by decide) rfl hP ht10 q425 (fun _ h => h) dJ5_equals_26 ?_
        refine p_aload_n hx hb dJ5_equals_29 rfl (lv_at hl 0 rfl) ?_
        refine p_gI X cf12_ (k := 1) (by decide) rfl hP ht6 q425 (fun _ h => h) dJ5_equals_30 ?_
        refine lv_icmp_ne (tgt := 54) hx hb dJ5_equals_33 (by decide) (fun c11 => ?_) (fun c11 => ?_)
        · have hf := hf.1 c11
          refine lv_iconst (v := 0) hx hb dJ5_equals_54 (by decide) ?_
          exact p_zret X hlk hP hL (Nat.le_refl _) (Nat.le_refl _) hr nr_0 dJ5_equals_55 ⟨rfl, hf⟩
        · have hf := hf.2 c11
          exact sJ5_equals_L36 Y hf _ _ _ _ _ hP hL ⟨rfl, rfl⟩ (lv_sub hl [1, 0] rfl)
  · have hf := hf.2 c5
    refine lv_iconst (v := 1) hx hb dJ5_equals_5 (by decide) ?_
    exact p_zret X hlk hP hL (Nat.le_refl _) (Nat.le_refl _) hr nr_1 dJ5_equals_6 ⟨rfl, hf⟩
set_option maxHeartbeats 4000000 in
theorem metJ5_equals (l : Launch) (G : GG_) (x0 : Nat) (x1 : Nat) (σ : Hp) (post : Int32 → Prop) (hG : GOK_ G) (hf : wJ5_equals x0 x1 σ post) : Met l yJ5_equals (ws_ yJ5_equals cJ5_equals 3 (some Jvm.ClassFile.FieldType.boolean)) { frames := 2, cells := 0, slots := 0, locals := 42 } (PC_ G [rv_ x0, rv_ x1] σ) (QI_ G (fun r τ => τ = σ ∧ post r)) 0 0 (FR_ G) := by
  refine Met.ofW (cc := cJ5_equals) (maxL := 3) (ret := (some Jvm.ClassFile.FieldType.boolean)) (by decide) rfl ?_
  intro p e s m args below meth c s₁ B hml hv
  obtain ⟨rfl, hP, hW⟩ := hv
  have hts := atoms_spec (ws := ws_ yJ5_equals cJ5_equals 3 (some Jvm.ClassFile.FieldType.boolean)) B.pre
  have hts : ∀ w ∈ lw_all, w.before _ s = true := fun w h => hts w (List.mem_cons_of_mem _ h)
  rw [lg_entry_eq]
  have hl := en_entry [rv_ x0, rv_ x1] [1, 1] (n := 3) (ca_r (ca_r ca_n)) (by decide)
  exact sJ5_equals ⟨⟨⟨B.exec, B.bytes, hml, findClass_of_methodNamed B.named, hts⟩, hW, hG⟩, B.notSynchronized, B.returns, Nat.le_refl _, Nat.le_refl _, ⟨rfl, rfl⟩, (name_of_methodNamed B.named B.method).1⟩ hf _ _ _ _ _ hP (LO_nil G) ⟨rfl, rfl⟩ hl
