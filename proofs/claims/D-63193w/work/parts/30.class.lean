set_option maxRecDepth 100000
abbrev cX2_init : ByteArray := prog_7_method_1_code
def yX2_init : MethodName := ⟨RX2, "<init>", "()V"⟩
theorem dX2_init_0 : decode cX2_init 0 = .ok (.aload_n 0, 1) := by decide +kernel
theorem dX2_init_1 : decode cX2_init 1 = .ok (.invokespecial 3, 3) := by decide +kernel
theorem dX2_init_4 : decode cX2_init 4 = .ok (.aload_n 0, 1) := by decide +kernel
theorem dX2_init_5 : decode cX2_init 5 = .ok (.iconst (-1), 1) := by decide +kernel
theorem dX2_init_6 : decode cX2_init 6 = .ok (.putfield 9, 3) := by decide +kernel
theorem dX2_init_9 : decode cX2_init 9 = .ok (.return_, 1) := by decide +kernel
/-- WriteOnceDisc$Power.<init>()V -/
def wX2_init (x0 : Nat) (σ : Hp) (post : Hp → Prop) : Prop :=
(tg_ σ x0 = 2 ∧ (∀ σ2, σ2 = sI_ σ 1 0 x0 (-1 : Int32) → post σ2))
set_option maxHeartbeats 4000000 in
theorem sX2_init {G : GG_} {p : Program} {l : Launch} {e : Env} {R : Room} {s : State} {m : MethodId} {args : Array Value} {below : List Frame} {meth : Method} {c : Code} (Y : MX_ G p R s m args meth c cX2_init 1 RX2 none 1 28 0 0 "<init>") {post : Hp → Prop} {x0 : Nat} {σ : Hp} (hf : wX2_init x0 σ post) : WG_ G p l e R s m args below meth c (MQ below (QV_ G post) args s 0 0 (FR_ G)) BN_ 1 0 [(0, rv_ x0)] [] σ := by
  have ⟨X, hlk, hr, hRf, hRl, hRc, hnm⟩ := Y
  have ⟨⟨hx, hb, _, hown, hts⟩, _, _⟩ := X
  intro H locs cells slots ls hP hL hB hl
  obtain ⟨rfl, rfl⟩ := hB
  unfold wX2_init at hf
  refine p_aload_n hx hb dX2_init_0 rfl (lv_at hl 0 rfl) ?_
  obtain ⟨ht1, hf⟩ := hf
  refine p_objInit X hP ht1 q126 q119 q120 hl.1 dX2_init_1 (Nat.le_trans (by decide) hRf) (by decide) (Nat.le_trans (by decide) hRl) ?_
  refine p_aload_n hx hb dX2_init_4 rfl (lv_at hl 0 rfl) ?_
  refine lv_iconst (v := (-1)) hx hb dX2_init_5 (by decide) ?_
  refine p_pI X cf1_ (k := 0) (by decide) rfl hP hL ht1 (p_ow hP ht1 rfl) q127 (fun _ h => h) (Or.inl rfl) rfl rfl dX2_init_6 (fun H locs hP hL => ?_)
  refine p_nmP hP (fun σ2 hσ2 hP => ?_)
  have hf := hf σ2 hσ2
  have ht1 : tg_ σ2 x0 = 2 := by rw [hσ2]; exact ht1
  exact p_vret X hlk hP hL (Nat.le_refl _) (Nat.le_refl _) hr dX2_init_9 hf
set_option maxHeartbeats 4000000 in
theorem metX2_init (l : Launch) (G : GG_) (x0 : Nat) (σ : Hp) (post : Hp → Prop) (hG : GOK_ G) (hf : wX2_init x0 σ post) : Met l yX2_init (ws_ yX2_init cX2_init 1 none) { frames := 1, cells := 0, slots := 0, locals := 28 } (PC_ G [rv_ x0] σ) (QV_ G post) 0 0 (FR_ G) := by
  refine Met.ofW (cc := cX2_init) (maxL := 1) (ret := none) (by decide) rfl ?_
  intro p e s m args below meth c s₁ B hml hv
  obtain ⟨rfl, hP, hW⟩ := hv
  have hts := atoms_spec (ws := ws_ yX2_init cX2_init 1 none) B.pre
  have hts : ∀ w ∈ lw_all, w.before _ s = true := fun w h => hts w (List.mem_cons_of_mem _ h)
  rw [lg_entry_eq]
  have hl := en_entry [rv_ x0] [1] (n := 1) (ca_r ca_n) (by decide)
  exact sX2_init ⟨⟨⟨B.exec, B.bytes, hml, findClass_of_methodNamed B.named, hts⟩, hW, hG⟩, B.notSynchronized, B.returns, Nat.le_refl _, Nat.le_refl _, ⟨rfl, rfl⟩, (name_of_methodNamed B.named B.method).1⟩ hf _ _ _ _ _ hP (LO_nil G) ⟨rfl, rfl⟩ hl
abbrev cX4_init : ByteArray := prog_6_method_1_code
def yX4_init : MethodName := ⟨RX4, "<init>", "()V"⟩
theorem dX4_init_0 : decode cX4_init 0 = .ok (.aload_n 0, 1) := by decide +kernel
theorem dX4_init_1 : decode cX4_init 1 = .ok (.invokespecial 3, 3) := by decide +kernel
theorem dX4_init_4 : decode cX4_init 4 = .ok (.aload_n 0, 1) := by decide +kernel
theorem dX4_init_5 : decode cX4_init 5 = .ok (.sipush 2048, 3) := by decide +kernel
theorem dX4_init_8 : decode cX4_init 8 = .ok (.newarray .byte, 2) := by decide +kernel
theorem dX4_init_10 : decode cX4_init 10 = .ok (.putfield 9, 3) := by decide +kernel
theorem dX4_init_13 : decode cX4_init 13 = .ok (.return_, 1) := by decide +kernel
/-- WriteOnceDisc$Page.<init>()V -/
def wX4_init (x0 : Nat) (σ : Hp) (post : Hp → Prop) : Prop :=
(tg_ σ x0 = 4 ∧ (¬ (2048 : Int32) < 0 ∧ (((2048 : Int32)).toNatClampNeg ≤ 1000000 ∧ (1 ≤ bc_ σ ∧ (((2048 : Int32)).toNatClampNeg ≤ bs_ σ ∧ (∀ σ6, σ6 = mA_ σ 100 ((2048 : Int32)).toNatClampNeg → (tg_ σ6 x0 = 4 ∧ (∀ σ8, σ8 = sR_ σ6 3 0 x0 (nx_ σ) → post σ8))))))))
set_option maxHeartbeats 4000000 in
theorem sX4_init {G : GG_} {p : Program} {l : Launch} {e : Env} {R : Room} {s : State} {m : MethodId} {args : Array Value} {below : List Frame} {meth : Method} {c : Code} {mc ms : Nat} (Y : MX_ G p R s m args meth c cX4_init 1 RX4 none 1 28 mc ms "<init>") {post : Hp → Prop} {x0 : Nat} {σ : Hp} (hf : wX4_init x0 σ post) : WG_ G p l e R s m args below meth c (MQ below (QV_ G post) args s mc ms (FR_ G)) (BU_ R) 1 0 [(0, rv_ x0)] [] σ := by
  have ⟨X, hlk, hr, hRf, hRl, hRc, hnm⟩ := Y
  have ⟨⟨hx, hb, _, hown, hts⟩, _, _⟩ := X
  intro H locs cells slots ls hP hL hB hl
  unfold wX4_init at hf
  refine p_aload_n hx hb dX4_init_0 rfl (lv_at hl 0 rfl) ?_
  obtain ⟨ht1, hf⟩ := hf
  refine p_objInit X hP ht1 q178 q119 q120 hl.1 dX4_init_1 (Nat.le_trans (by decide) hRf) (by decide) (Nat.le_trans (by decide) hRl) ?_
  refine p_aload_n hx hb dX4_init_4 rfl (lv_at hl 0 rfl) ?_
  refine lv_sipush (v := 2048) hx hb dX4_init_5 (by decide) ?_
  obtain ⟨hb2, hf⟩ := hf
  obtain ⟨hb3, hf⟩ := hf
  obtain ⟨hb4, hf⟩ := hf
  obtain ⟨hb5, hf⟩ := hf
  refine p_newa X (atype := .byte) (t := 100) rfl (by decide) (by decide) q184 hP hB hb2 hb3 hb4 hb5 dX4_init_8 (fun H hP hB => ?_)
  refine p_nmPB hP hB (fun σ6 hσ6 hP hB => ?_)
  have hf := hf σ6 hσ6
  obtain ⟨ht7, hf⟩ := hf
  refine p_pR X cf3_ (k := 0) (by decide) rfl hP hL ht7 (p_ow hP ht7 rfl) q179 (fun _ h => h) (Or.inr ⟨rfl, hnm, rfl⟩) dX4_init_10 (fun H locs hP hL => ?_)
  refine p_nmPB hP hB (fun σ8 hσ8 hP hB => ?_)
  have hf := hf σ8 hσ8
  have ht7 : tg_ σ8 x0 = 4 := by rw [hσ8]; exact ht7
  exact p_vret X hlk hP hL (BU_le hB hRc).1 (BU_le hB hRc).2 hr dX4_init_13 hf
set_option maxHeartbeats 4000000 in
theorem metX4_init (l : Launch) (G : GG_) (mc ms : Nat) (x0 : Nat) (σ : Hp) (post : Hp → Prop) (hG : GOK_ G) (hf : wX4_init x0 (bu_ σ mc ms) post) : Met l yX4_init (ws_ yX4_init cX4_init 1 none) { frames := 1, cells := mc, slots := ms, locals := 28 } (PC_ G [rv_ x0] (bu_ σ mc ms)) (QV_ G post) mc ms (FR_ G) := by
  refine Met.ofW (cc := cX4_init) (maxL := 1) (ret := none) (by decide) rfl ?_
  intro p e s m args below meth c s₁ B hml hv
  obtain ⟨rfl, hP, hW⟩ := hv
  have hts := atoms_spec (ws := ws_ yX4_init cX4_init 1 none) B.pre
  have hts : ∀ w ∈ lw_all, w.before _ s = true := fun w h => hts w (List.mem_cons_of_mem _ h)
  rw [lg_entry_eq]
  have hl := en_entry [rv_ x0] [1] (n := 1) (ca_r ca_n) (by decide)
  exact sX4_init ⟨⟨⟨B.exec, B.bytes, hml, findClass_of_methodNamed B.named, hts⟩, hW, hG⟩, B.notSynchronized, B.returns, Nat.le_refl _, Nat.le_refl _, ⟨rfl, rfl⟩, (name_of_methodNamed B.named B.method).1⟩ hf _ _ _ _ _ hP (LO_nil G) (BU_in ⟨rfl, rfl⟩) hl
abbrev cX3_init : ByteArray := prog_2_method_1_code
def yX3_init : MethodName := ⟨RX3, "<init>", "(LWriteOnceDisc$Power;)V"⟩
theorem dX3_init_0 : decode cX3_init 0 = .ok (.aload_n 0, 1) := by decide +kernel
theorem dX3_init_1 : decode cX3_init 1 = .ok (.invokespecial 3, 3) := by decide +kernel
theorem dX3_init_4 : decode cX3_init 4 = .ok (.aload_n 0, 1) := by decide +kernel
theorem dX3_init_5 : decode cX3_init 5 = .ok (.new 9, 3) := by decide +kernel
theorem dX3_init_8 : decode cX3_init 8 = .ok (.dup, 1) := by decide +kernel
theorem dX3_init_9 : decode cX3_init 9 = .ok (.invokespecial 11, 3) := by decide +kernel
theorem dX3_init_12 : decode cX3_init 12 = .ok (.putfield 12, 3) := by decide +kernel
theorem dX3_init_15 : decode cX3_init 15 = .ok (.aload_n 0, 1) := by decide +kernel
theorem dX3_init_16 : decode cX3_init 16 = .ok (.new 18, 3) := by decide +kernel
theorem dX3_init_19 : decode cX3_init 19 = .ok (.dup, 1) := by decide +kernel
theorem dX3_init_20 : decode cX3_init 20 = .ok (.invokespecial 20, 3) := by decide +kernel
theorem dX3_init_23 : decode cX3_init 23 = .ok (.putfield 21, 3) := by decide +kernel
theorem dX3_init_26 : decode cX3_init 26 = .ok (.aload_n 0, 1) := by decide +kernel
theorem dX3_init_27 : decode cX3_init 27 = .ok (.aload_n 1, 1) := by decide +kernel
theorem dX3_init_28 : decode cX3_init 28 = .ok (.putfield 25, 3) := by decide +kernel
theorem dX3_init_31 : decode cX3_init 31 = .ok (.return_, 1) := by decide +kernel
/-- WriteOnceDisc$Burner.<init>(LWriteOnceDisc$Power;)V -/
def wX3_init (x0 : Nat) (x1 : Nat) (σ : Hp) (post : Hp → Prop) : Prop :=
(tg_ σ x0 = 3 ∧ (1 ≤ bc_ σ ∧ (3 ≤ bs_ σ ∧ (∀ σ4, σ4 = mO_ σ 10 3 → (tg_ σ4 (nx_ σ) = 11 ∧ (wJ2_init (nx_ σ)  σ4 (fun σ6 => (∀ σ7, σ7 = bu_ σ6 (bc_ σ4) (bs_ σ4) → (tg_ σ7 x0 = 3 ∧ (∀ σ9, σ9 = sR_ σ7 2 4 x0 (nx_ σ) → (1 ≤ bc_ σ9 ∧ (1 ≤ bs_ σ9 ∧ (∀ σ12, σ12 = mO_ σ9 3 1 → (tg_ σ12 (nx_ σ9) = 4 ∧ (∃ mc14 ms15 : Nat, (mc14 ≤ bc_ σ12 ∧ (ms15 ≤ bs_ σ12 ∧ (wX4_init (nx_ σ9)  (bu_ σ12 mc14 ms15) (fun σ18 => (∀ σ19, σ19 = bu_ σ18 (bc_ σ12 - mc14) (bs_ σ12 - ms15) → (tg_ σ19 x0 = 3 ∧ (∀ σ21, σ21 = sR_ σ19 2 5 x0 (nx_ σ9) → (∀ σ22, σ22 = sR_ σ21 2 2 x0 x1 → post σ22)))))))))))))))))))))))
set_option maxHeartbeats 4000000 in
theorem sX3_init {G : GG_} {p : Program} {l : Launch} {e : Env} {R : Room} {s : State} {m : MethodId} {args : Array Value} {below : List Frame} {meth : Method} {c : Code} {mc ms : Nat} (Y : MX_ G p R s m args meth c cX3_init 2 RX3 none 4 88 mc ms "<init>") {post : Hp → Prop} {x0 : Nat} {x1 : Nat} {σ : Hp} (hf : wX3_init x0 x1 σ post) : WG_ G p l e R s m args below meth c (MQ below (QV_ G post) args s mc ms (FR_ G)) (BU_ R) 2 0 [(0, rv_ x0), (1, rv_ x1)] [] σ := by
  have ⟨X, hlk, hr, hRf, hRl, hRc, hnm⟩ := Y
  have ⟨⟨hx, hb, _, hown, hts⟩, _, _⟩ := X
  intro H locs cells slots ls hP hL hB hl
  unfold wX3_init at hf
  refine p_aload_n hx hb dX3_init_0 rfl (lv_at hl 0 rfl) ?_
  obtain ⟨ht1, hf⟩ := hf
  refine p_objInit X hP ht1 q146 q119 q120 hl.1 dX3_init_1 (Nat.le_trans (by decide) hRf) (by decide) (Nat.le_trans (by decide) hRl) ?_
  refine p_aload_n hx hb dX3_init_4 rfl (lv_at hl 0 rfl) ?_
  obtain ⟨hb2, hf⟩ := hf
  obtain ⟨hb3, hf⟩ := hf
  refine p_new X cf10_ (by decide +kernel) hP hB q147 q148 q90 hb2 hb3 dX3_init_5 (fun H hP hB => ?_)
  refine p_nmPB hP hB (fun σ4 hσ4 hP hB => ?_)
  have hf := hf σ4 hσ4
  refine lv_dup hx hb dX3_init_8 (rv_cat _) ?_
  obtain ⟨ht5, hf⟩ := hf
  refine p_callv hL (p_runI X hP ht5 (metJ2_init l G _ _ _ X.2.2 hf) (cwI 0 hts (lw_meth q151) rfl rfl rfl (hts _ q90) (hts _ q149) (hts _ q150) rfl (by decide +kernel) ⟨Nat.le_trans (Nat.le_of_ble_eq_true rfl) hRf, Nat.le_trans (Nat.le_of_ble_eq_true rfl) hRl⟩) rfl hl.1 rfl (by rw [(ca_r (ca_r ca_n))]; decide) dX3_init_9 (BU_call hB (Nat.zero_le _) (Nat.zero_le _))) (fun σ6 H locs hf hP hL => ?_)
  have hB := BU_keep (τ := σ6) hB
  have hP := Pic_bu hP (bc_ σ4) (bs_ σ4)
  refine p_nmPB hP hB (fun σ7 hσ7 hP hB => ?_)
  have hf := hf σ7 hσ7
  obtain ⟨ht8, hf⟩ := hf
  refine p_pR X cf2_ (k := 4) (by decide) rfl hP hL ht8 (p_ow hP ht8 rfl) q189 (fun _ h => h) (Or.inr ⟨rfl, hnm, rfl⟩) dX3_init_12 (fun H locs hP hL => ?_)
  refine p_nmPB hP hB (fun σ9 hσ9 hP hB => ?_)
  have hf := hf σ9 hσ9
  have ht8 : tg_ σ9 x0 = 3 := by rw [hσ9]; exact ht8
  refine p_aload_n hx hb dX3_init_15 rfl (lv_at hl 0 rfl) ?_
  obtain ⟨hb10, hf⟩ := hf
  obtain ⟨hb11, hf⟩ := hf
  refine p_new X cf3_ (by decide +kernel) hP hB q173 q174 q91 hb10 hb11 dX3_init_16 (fun H hP hB => ?_)
  refine p_nmPB hP hB (fun σ12 hσ12 hP hB => ?_)
  have hf := hf σ12 hσ12
  refine lv_dup hx hb dX3_init_19 (rv_cat _) ?_
  obtain ⟨ht13, hf⟩ := hf
  obtain ⟨mc14, ms15, hf⟩ := hf
  obtain ⟨hb16, hf⟩ := hf
  obtain ⟨hb17, hf⟩ := hf
  refine p_callv hL (p_runIN X (Pic_bu hP mc14 ms15) ht13 (metX4_init l G _ _ _ _ _ X.2.2 hf) ⟨va_cnB 0 hts (lw_meth q177) rfl rfl rfl (p_nest X q175) (hts _ q91) (by decide +kernel) ⟨Nat.le_trans (Nat.le_of_ble_eq_true rfl) hRf, Nat.le_trans (Nat.le_of_ble_eq_true rfl) hRl⟩, rfl, hts _ q176⟩ rfl hl.1 rfl (by rw [(ca_r (ca_r ca_n))]; decide) dX3_init_20 (BU_call hB hb16 hb17)) (fun σ18 H locs hf hP hL => ?_)
  have hB := BU_back (τ := σ18) hB hb16 hb17
  have hP := Pic_bu hP (bc_ σ12 - mc14) (bs_ σ12 - ms15)
  refine p_nmPB hP hB (fun σ19 hσ19 hP hB => ?_)
  have hf := hf σ19 hσ19
  obtain ⟨ht20, hf⟩ := hf
  refine p_pR X cf2_ (k := 5) (by decide) rfl hP hL ht20 (p_ow hP ht20 rfl) q190 (fun _ h => h) (Or.inr ⟨rfl, hnm, rfl⟩) dX3_init_23 (fun H locs hP hL => ?_)
  refine p_nmPB hP hB (fun σ21 hσ21 hP hB => ?_)
  have hf := hf σ21 hσ21
  have ht20 : tg_ σ21 x0 = 3 := by rw [hσ21]; exact ht20
  refine p_aload_n hx hb dX3_init_26 rfl (lv_at hl 0 rfl) ?_
  refine p_aload_n hx hb dX3_init_27 rfl (lv_at hl 1 rfl) ?_
  refine p_pR X cf2_ (k := 2) (by decide) rfl hP hL ht20 (p_ow hP ht20 rfl) q187 (fun _ h => h) (Or.inr ⟨rfl, hnm, rfl⟩) dX3_init_28 (fun H locs hP hL => ?_)
  refine p_nmPB hP hB (fun σ22 hσ22 hP hB => ?_)
  have hf := hf σ22 hσ22
  have ht20 : tg_ σ22 x0 = 3 := by rw [hσ22]; exact ht20
  exact p_vret X hlk hP hL (BU_le hB hRc).1 (BU_le hB hRc).2 hr dX3_init_31 hf
set_option maxHeartbeats 4000000 in
theorem metX3_init (l : Launch) (G : GG_) (mc ms : Nat) (x0 : Nat) (x1 : Nat) (σ : Hp) (post : Hp → Prop) (hG : GOK_ G) (hf : wX3_init x0 x1 (bu_ σ mc ms) post) : Met l yX3_init (ws_ yX3_init cX3_init 2 none) { frames := 4, cells := mc, slots := ms, locals := 88 } (PC_ G [rv_ x0, rv_ x1] (bu_ σ mc ms)) (QV_ G post) mc ms (FR_ G) := by
  refine Met.ofW (cc := cX3_init) (maxL := 2) (ret := none) (by decide) rfl ?_
  intro p e s m args below meth c s₁ B hml hv
  obtain ⟨rfl, hP, hW⟩ := hv
  have hts := atoms_spec (ws := ws_ yX3_init cX3_init 2 none) B.pre
  have hts : ∀ w ∈ lw_all, w.before _ s = true := fun w h => hts w (List.mem_cons_of_mem _ h)
  rw [lg_entry_eq]
  have hl := en_entry [rv_ x0, rv_ x1] [1, 1] (n := 2) (ca_r (ca_r ca_n)) (by decide)
  exact sX3_init ⟨⟨⟨B.exec, B.bytes, hml, findClass_of_methodNamed B.named, hts⟩, hW, hG⟩, B.notSynchronized, B.returns, Nat.le_refl _, Nat.le_refl _, ⟨rfl, rfl⟩, (name_of_methodNamed B.named B.method).1⟩ hf _ _ _ _ _ hP (LO_nil G) (BU_in ⟨rfl, rfl⟩) hl
abbrev cX6_call : ByteArray := prog_5_method_2_code
def yX6_call : MethodName := ⟨RX6, "call", "(Ljava/lang/String;)V"⟩
theorem dX6_call_0 : decode cX6_call 0 = .ok (.aload_n 0, 1) := by decide +kernel
theorem dX6_call_1 : decode cX6_call 1 = .ok (.aload_n 1, 1) := by decide +kernel
theorem dX6_call_2 : decode cX6_call 2 = .ok (.putfield 26, 3) := by decide +kernel
theorem dX6_call_5 : decode cX6_call 5 = .ok (.aload_n 0, 1) := by decide +kernel
theorem dX6_call_6 : decode cX6_call 6 = .ok (.aload_n 0, 1) := by decide +kernel
theorem dX6_call_7 : decode cX6_call 7 = .ok (.getfield 18, 3) := by decide +kernel
theorem dX6_call_10 : decode cX6_call 10 = .ok (.ifCond .eq 7, 3) := by decide +kernel
theorem dX6_call_13 : decode cX6_call 13 = .ok (.aload_n 1, 1) := by decide +kernel
theorem dX6_call_14 : decode cX6_call 14 = .ok (.goto 22, 3) := by decide +kernel
theorem dX6_call_17 : decode cX6_call 17 = .ok (.new 30, 3) := by decide +kernel
theorem dX6_call_20 : decode cX6_call 20 = .ok (.dup, 1) := by decide +kernel
theorem dX6_call_21 : decode cX6_call 21 = .ok (.invokespecial 32, 3) := by decide +kernel
theorem dX6_call_24 : decode cX6_call 24 = .ok (.aload_n 1, 1) := by decide +kernel
theorem dX6_call_25 : decode cX6_call 25 = .ok (.invokevirtual 33, 3) := by decide +kernel
theorem dX6_call_28 : decode cX6_call 28 = .ok (.ldc 37, 2) := by decide +kernel
theorem dX6_call_30 : decode cX6_call 30 = .ok (.invokevirtual 33, 3) := by decide +kernel
theorem dX6_call_33 : decode cX6_call 33 = .ok (.invokevirtual 39, 3) := by decide +kernel
theorem dX6_call_36 : decode cX6_call 36 = .ok (.putfield 43, 3) := by decide +kernel
theorem dX6_call_39 : decode cX6_call 39 = .ok (.return_, 1) := by decide +kernel
/-- WriteOnceDisc$Node.call(Ljava/lang/String;)V -/
def wX6_call_L36 (post : Hp → Prop) (s0 : Nat) (s1 : Nat) (σ : Hp) : Prop :=
(tg_ σ s1 = 6 ∧ (∀ σ2, σ2 = sR_ σ 5 7 s1 s0 → post σ2))
def wX6_call (x0 : Nat) (x1 : Nat) (σ : Hp) (post : Hp → Prop) : Prop :=
(tg_ σ x0 = 6 ∧ (∀ σ4, σ4 = sR_ σ 5 6 x0 x1 → (((fI_ σ4 5 1 x0) = 0 →
  (1 ≤ bc_ σ4 ∧ (4 ≤ bs_ σ4 ∧ (∀ σ8, σ8 = mO_ σ4 11 4 → (tg_ σ8 (nx_ σ4) = 12 ∧ (∃ mc10 ms11 : Nat, (mc10 ≤ bc_ σ8 ∧ (ms11 ≤ bs_ σ8 ∧ (wJ4_init (nx_ σ4)  (bu_ σ8 mc10 ms11) (fun σ14 => (∀ σ15, σ15 = bu_ σ14 (bc_ σ8 - mc10) (bs_ σ8 - ms11) → (tg_ σ15 (nx_ σ4) = 12 ∧ (wJ4_append (nx_ σ4) x1 σ15 (fun r17 σ18 => (∀ σ19, σ19 = bu_ σ18 (bc_ σ15) (bs_ σ15) → (tg_ σ19 r17 = 12 ∧ (wJ4_append r17 (fR_ σ19 101 6 0) σ19 (fun r21 σ22 => (∀ σ23, σ23 = bu_ σ22 (bc_ σ19) (bs_ σ19) → (tg_ σ23 r21 = 12 ∧ (∃ mc25 ms26 : Nat, (mc25 ≤ bc_ σ23 ∧ (ms26 ≤ bs_ σ23 ∧ (wJ4_toString r21  (bu_ σ23 mc25 ms26) (fun r29 σ30 => (∀ σ31, σ31 = bu_ σ30 (bc_ σ23 - mc25) (bs_ σ23 - ms26) → wX6_call_L36 post r29 x0 σ31)))))))))))))))))))))))))) ∧
 (¬ (fI_ σ4 5 1 x0) = 0 →
  wX6_call_L36 post x1 x0 σ4))))
set_option maxHeartbeats 4000000 in
theorem sX6_call_L36 {G : GG_} {p : Program} {l : Launch} {e : Env} {R : Room} {s : State} {m : MethodId} {args : Array Value} {below : List Frame} {meth : Method} {c : Code} {mc ms : Nat} (Y : MX_ G p R s m args meth c cX6_call 2 RX6 none 7 159 mc ms "call") {post : Hp → Prop} {s0 : Nat} {s1 : Nat} {σ : Hp} (hf : wX6_call_L36 post s0 s1 σ) : WG_ G p l e R s m args below meth c (MQ below (QV_ G post) args s mc ms (FR_ G)) (BU_ R) 2 36 [] [rv_ s0, rv_ s1] σ := by
  have ⟨X, hlk, hr, hRf, hRl, hRc, hnm⟩ := Y
  have ⟨⟨hx, hb, _, hown, hts⟩, _, _⟩ := X
  intro H locs cells slots ls hP hL hB hl
  unfold wX6_call_L36 at hf
  obtain ⟨ht1, hf⟩ := hf
  refine p_pR X cf5_ (k := 7) (by decide) rfl hP hL ht1 (p_ow hP ht1 rfl) q458 (fun _ h => h) (Or.inl rfl) dX6_call_36 (fun H locs hP hL => ?_)
  refine p_nmPB hP hB (fun σ2 hσ2 hP hB => ?_)
  have hf := hf σ2 hσ2
  have ht1 : tg_ σ2 s1 = 6 := by rw [hσ2]; exact ht1
  exact p_vret X hlk hP hL (BU_le hB hRc).1 (BU_le hB hRc).2 hr dX6_call_39 hf
set_option maxHeartbeats 4000000 in
theorem sX6_call {G : GG_} {p : Program} {l : Launch} {e : Env} {R : Room} {s : State} {m : MethodId} {args : Array Value} {below : List Frame} {meth : Method} {c : Code} {mc ms : Nat} (Y : MX_ G p R s m args meth c cX6_call 2 RX6 none 7 159 mc ms "call") {post : Hp → Prop} {x0 : Nat} {x1 : Nat} {σ : Hp} (hf : wX6_call x0 x1 σ post) : WG_ G p l e R s m args below meth c (MQ below (QV_ G post) args s mc ms (FR_ G)) (BU_ R) 2 0 [(0, rv_ x0), (1, rv_ x1)] [] σ := by
  have ⟨X, hlk, hr, hRf, hRl, hRc, hnm⟩ := Y
  have ⟨⟨hx, hb, _, hown, hts⟩, _, _⟩ := X
  intro H locs cells slots ls hP hL hB hl
  unfold wX6_call at hf
  refine p_aload_n hx hb dX6_call_0 rfl (lv_at hl 0 rfl) ?_
  refine p_aload_n hx hb dX6_call_1 rfl (lv_at hl 1 rfl) ?_
  obtain ⟨ht3, hf⟩ := hf
  refine p_pR X cf5_ (k := 6) (by decide) rfl hP hL ht3 (p_ow hP ht3 rfl) q454 (fun _ h => h) (Or.inl rfl) dX6_call_2 (fun H locs hP hL => ?_)
  refine p_nmPB hP hB (fun σ4 hσ4 hP hB => ?_)
  have hf := hf σ4 hσ4
  have ht3 : tg_ σ4 x0 = 6 := by rw [hσ4]; exact ht3
  refine p_aload_n hx hb dX6_call_5 rfl (lv_at hl 0 rfl) ?_
  refine p_aload_n hx hb dX6_call_6 rfl (lv_at hl 0 rfl) ?_
  refine p_gI X cf5_ (k := 1) (by decide) rfl hP ht3 q439 (fun _ h => h) dX6_call_7 ?_
  refine lv_if_eq (tgt := 17) hx hb dX6_call_10 (by decide) (fun c5 => ?_) (fun c5 => ?_)
  · have hf := hf.1 c5
    obtain ⟨hb6, hf⟩ := hf
    obtain ⟨hb7, hf⟩ := hf
    refine p_new X cf11_ (by decide +kernel) hP hB q223 q224 q95 hb6 hb7 dX6_call_17 (fun H hP hB => ?_)
    refine p_nmPB hP hB (fun σ8 hσ8 hP hB => ?_)
    have hf := hf σ8 hσ8
    refine lv_dup hx hb dX6_call_20 (rv_cat _) ?_
    obtain ⟨ht9, hf⟩ := hf
    obtain ⟨mc10, ms11, hf⟩ := hf
    obtain ⟨hb12, hf⟩ := hf
    obtain ⟨hb13, hf⟩ := hf
    refine p_callv hL (p_runI X (Pic_bu hP mc10 ms11) ht9 (metJ4_init l G _ _ _ _ _ X.2.2 hf) (cwI 0 hts (lw_meth q227) rfl rfl rfl (hts _ q95) (hts _ q225) (hts _ q226) rfl (by decide +kernel) ⟨Nat.le_trans (Nat.le_of_ble_eq_true rfl) hRf, Nat.le_trans (Nat.le_of_ble_eq_true rfl) hRl⟩) rfl hl.1 rfl (by rw [(ca_r (ca_r ca_n))]; decide) dX6_call_21 (BU_call hB hb12 hb13)) (fun σ14 H locs hf hP hL => ?_)
    have hB := BU_back (τ := σ14) hB hb12 hb13
    have hP := Pic_bu hP (bc_ σ8 - mc10) (bs_ σ8 - ms11)
    refine p_nmPB hP hB (fun σ15 hσ15 hP hB => ?_)
    have hf := hf σ15 hσ15
    refine p_aload_n hx hb dX6_call_24 rfl (lv_at hl 1 rfl) ?_
    obtain ⟨ht16, hf⟩ := hf
    refine p_callr hL (p_runV X cf11_ hP ht16 (metJ4_append l G _ _ _ _ X.2.2 hf) (cwV 1 hts (lw_V q254 q255 q256 q95 q257) rfl rfl rfl (by decide +kernel) ⟨Nat.le_trans (Nat.le_of_ble_eq_true rfl) hRf, Nat.le_trans (Nat.le_of_ble_eq_true rfl) hRl⟩) rfl hl.1 rfl (by rw [(ca_r ca_n)]; decide) dX6_call_25 (BU_call hB (Nat.zero_le _) (Nat.zero_le _))) (fun r17 σ18 H locs hf hP hL => ?_)
    have hB := BU_keep (τ := σ18) hB
    have hP := Pic_bu hP (bc_ σ15) (bs_ σ15)
    refine p_nmPB hP hB (fun σ19 hσ19 hP hB => ?_)
    have hf := hf σ19 hσ19
    refine p_ldcS X hP (j := 6) rfl dX6_call_28 ?_
    obtain ⟨ht20, hf⟩ := hf
    refine p_callr hL (p_runV X cf11_ hP ht20 (metJ4_append l G _ _ _ _ X.2.2 hf) (cwV 1 hts (lw_V q254 q255 q256 q95 q257) rfl rfl rfl (by decide +kernel) ⟨Nat.le_trans (Nat.le_of_ble_eq_true rfl) hRf, Nat.le_trans (Nat.le_of_ble_eq_true rfl) hRl⟩) rfl hl.1 rfl (by rw [(ca_r ca_n)]; decide) dX6_call_30 (BU_call hB (Nat.zero_le _) (Nat.zero_le _))) (fun r21 σ22 H locs hf hP hL => ?_)
    have hB := BU_keep (τ := σ22) hB
    have hP := Pic_bu hP (bc_ σ19) (bs_ σ19)
    refine p_nmPB hP hB (fun σ23 hσ23 hP hB => ?_)
    have hf := hf σ23 hσ23
    obtain ⟨ht24, hf⟩ := hf
    obtain ⟨mc25, ms26, hf⟩ := hf
    obtain ⟨hb27, hf⟩ := hf
    obtain ⟨hb28, hf⟩ := hf
    refine p_callr hL (p_runV X cf11_ (Pic_bu hP mc25 ms26) ht24 (metJ4_toString l G _ _ _ _ _ X.2.2 hf) (cwV 0 hts (lw_V q375 q376 q377 q95 q378) rfl rfl rfl (by decide +kernel) ⟨Nat.le_trans (Nat.le_of_ble_eq_true rfl) hRf, Nat.le_trans (Nat.le_of_ble_eq_true rfl) hRl⟩) rfl hl.1 rfl (by rw [(ca_r ca_n)]; decide) dX6_call_33 (BU_call hB hb27 hb28)) (fun r29 σ30 H locs hf hP hL => ?_)
    have hB := BU_back (τ := σ30) hB hb27 hb28
    have hP := Pic_bu hP (bc_ σ23 - mc25) (bs_ σ23 - ms26)
    refine p_nmPB hP hB (fun σ31 hσ31 hP hB => ?_)
    have hf := hf σ31 hσ31
    exact sX6_call_L36 Y hf _ _ _ _ _ hP hL hB (lv_sub hl [] rfl)
  · have hf := hf.2 c5
    refine p_aload_n hx hb dX6_call_13 rfl (lv_at hl 1 rfl) ?_
    refine lv_goto (tgt := 36) hx hb dX6_call_14 (by decide) ?_
    exact sX6_call_L36 Y hf _ _ _ _ _ hP hL hB (lv_sub hl [] rfl)
set_option maxHeartbeats 4000000 in
theorem metX6_call (l : Launch) (G : GG_) (mc ms : Nat) (x0 : Nat) (x1 : Nat) (σ : Hp) (post : Hp → Prop) (hG : GOK_ G) (hf : wX6_call x0 x1 (bu_ σ mc ms) post) : Met l yX6_call (ws_ yX6_call cX6_call 2 none) { frames := 7, cells := mc, slots := ms, locals := 159 } (PC_ G [rv_ x0, rv_ x1] (bu_ σ mc ms)) (QV_ G post) mc ms (FR_ G) := by
  refine Met.ofW (cc := cX6_call) (maxL := 2) (ret := none) (by decide) rfl ?_
  intro p e s m args below meth c s₁ B hml hv
  obtain ⟨rfl, hP, hW⟩ := hv
  have hts := atoms_spec (ws := ws_ yX6_call cX6_call 2 none) B.pre
  have hts : ∀ w ∈ lw_all, w.before _ s = true := fun w h => hts w (List.mem_cons_of_mem _ h)
  rw [lg_entry_eq]
  have hl := en_entry [rv_ x0, rv_ x1] [1, 1] (n := 2) (ca_r (ca_r ca_n)) (by decide)
  exact sX6_call ⟨⟨⟨B.exec, B.bytes, hml, findClass_of_methodNamed B.named, hts⟩, hW, hG⟩, B.notSynchronized, B.returns, Nat.le_refl _, Nat.le_refl _, ⟨rfl, rfl⟩, (name_of_methodNamed B.named B.method).1⟩ hf _ _ _ _ _ hP (LO_nil G) (BU_in ⟨rfl, rfl⟩) hl
abbrev cX6_init : ByteArray := prog_5_method_1_code
def yX6_init : MethodName := ⟨RX6, "<init>", "(IIZLjava/lang/String;)V"⟩
theorem dX6_init_0 : decode cX6_init 0 = .ok (.aload_n 0, 1) := by decide +kernel
theorem dX6_init_1 : decode cX6_init 1 = .ok (.invokespecial 3, 3) := by decide +kernel
theorem dX6_init_4 : decode cX6_init 4 = .ok (.aload_n 0, 1) := by decide +kernel
theorem dX6_init_5 : decode cX6_init 5 = .ok (.iload_n 1, 1) := by decide +kernel
theorem dX6_init_6 : decode cX6_init 6 = .ok (.putfield 9, 3) := by decide +kernel
theorem dX6_init_9 : decode cX6_init 9 = .ok (.aload_n 0, 1) := by decide +kernel
theorem dX6_init_10 : decode cX6_init 10 = .ok (.iload_n 2, 1) := by decide +kernel
theorem dX6_init_11 : decode cX6_init 11 = .ok (.putfield 15, 3) := by decide +kernel
theorem dX6_init_14 : decode cX6_init 14 = .ok (.aload_n 0, 1) := by decide +kernel
theorem dX6_init_15 : decode cX6_init 15 = .ok (.iload_n 3, 1) := by decide +kernel
theorem dX6_init_16 : decode cX6_init 16 = .ok (.putfield 18, 3) := by decide +kernel
theorem dX6_init_19 : decode cX6_init 19 = .ok (.aload_n 0, 1) := by decide +kernel
theorem dX6_init_20 : decode cX6_init 20 = .ok (.aload 4, 2) := by decide +kernel
theorem dX6_init_22 : decode cX6_init 22 = .ok (.invokevirtual 22, 3) := by decide +kernel
theorem dX6_init_25 : decode cX6_init 25 = .ok (.return_, 1) := by decide +kernel
/-- WriteOnceDisc$Node.<init>(IIZLjava/lang/String;)V -/
def wX6_init (x0 : Nat) (x1 : Int32) (x2 : Int32) (x3 : Int32) (x4 : Nat) (σ : Hp) (post : Hp → Prop) : Prop :=
(tg_ σ x0 = 6 ∧ (∀ σ2, σ2 = sI_ σ 5 0 x0 x1 → (∀ σ3, σ3 = sI_ σ2 5 2 x0 x2 → (pz_ .boolean x3 ∧ (∀ σ5, σ5 = sI_ σ3 5 1 x0 x3 → (∃ mc6 ms7 : Nat, (mc6 ≤ bc_ σ5 ∧ (ms7 ≤ bs_ σ5 ∧ (wX6_call x0 x4 (bu_ σ5 mc6 ms7) (fun σ10 => (∀ σ11, σ11 = bu_ σ10 (bc_ σ5 - mc6) (bs_ σ5 - ms7) → post σ11)))))))))))
set_option maxHeartbeats 4000000 in
theorem sX6_init {G : GG_} {p : Program} {l : Launch} {e : Env} {R : Room} {s : State} {m : MethodId} {args : Array Value} {below : List Frame} {meth : Method} {c : Code} {mc ms : Nat} (Y : MX_ G p R s m args meth c cX6_init 5 RX6 none 8 180 mc ms "<init>") {post : Hp → Prop} {x0 : Nat} {x1 : Int32} {x2 : Int32} {x3 : Int32} {x4 : Nat} {σ : Hp} (hf : wX6_init x0 x1 x2 x3 x4 σ post) : WG_ G p l e R s m args below meth c (MQ below (QV_ G post) args s mc ms (FR_ G)) (BU_ R) 5 0 [(0, rv_ x0), (1, .int x1), (2, .int x2), (3, .int x3), (4, rv_ x4)] [] σ := by
  have ⟨X, hlk, hr, hRf, hRl, hRc, hnm⟩ := Y
  have ⟨⟨hx, hb, _, hown, hts⟩, _, _⟩ := X
  intro H locs cells slots ls hP hL hB hl
  unfold wX6_init at hf
  refine p_aload_n hx hb dX6_init_0 rfl (lv_at hl 0 rfl) ?_
  obtain ⟨ht1, hf⟩ := hf
  refine p_objInit X hP ht1 q218 q119 q120 hl.1 dX6_init_1 (Nat.le_trans (by decide) hRf) (by decide) (Nat.le_trans (by decide) hRl) ?_
  refine p_aload_n hx hb dX6_init_4 rfl (lv_at hl 0 rfl) ?_
  refine lv_iload_n hx hb dX6_init_5 rfl (lv_at hl 1 rfl) ?_
  refine p_pI X cf5_ (k := 0) (by decide) rfl hP hL ht1 (p_ow hP ht1 rfl) q435 (fun _ h => h) (Or.inr ⟨rfl, hnm, rfl⟩) rfl rfl dX6_init_6 (fun H locs hP hL => ?_)
  refine p_nmPB hP hB (fun σ2 hσ2 hP hB => ?_)
  have hf := hf σ2 hσ2
  have ht1 : tg_ σ2 x0 = 6 := by rw [hσ2]; exact ht1
  refine p_aload_n hx hb dX6_init_9 rfl (lv_at hl 0 rfl) ?_
  refine lv_iload_n hx hb dX6_init_10 rfl (lv_at hl 2 rfl) ?_
  refine p_pI X cf5_ (k := 2) (by decide) rfl hP hL ht1 (p_ow hP ht1 rfl) q443 (fun _ h => h) (Or.inl rfl) rfl rfl dX6_init_11 (fun H locs hP hL => ?_)
  refine p_nmPB hP hB (fun σ3 hσ3 hP hB => ?_)
  have hf := hf σ3 hσ3
  have ht1 : tg_ σ3 x0 = 6 := by rw [hσ3]; exact ht1
  refine p_aload_n hx hb dX6_init_14 rfl (lv_at hl 0 rfl) ?_
  refine lv_iload_n hx hb dX6_init_15 rfl (lv_at hl 3 rfl) ?_
  obtain ⟨hz4, hf⟩ := hf
  refine p_pI X cf5_ (k := 1) (by decide) rfl hP hL ht1 (p_ow hP ht1 rfl) q439 (fun _ h => h) (Or.inr ⟨rfl, hnm, rfl⟩) hz4.1 hz4.2 dX6_init_16 (fun H locs hP hL => ?_)
  refine p_nmPB hP hB (fun σ5 hσ5 hP hB => ?_)
  have hf := hf σ5 hσ5
  have ht1 : tg_ σ5 x0 = 6 := by rw [hσ5]; exact ht1
  refine p_aload_n hx hb dX6_init_19 rfl (lv_at hl 0 rfl) ?_
  refine p_aload hx hb dX6_init_20 (lv_at hl 4 rfl) ?_
  obtain ⟨mc6, ms7, hf⟩ := hf
  obtain ⟨hb8, hf⟩ := hf
  obtain ⟨hb9, hf⟩ := hf
  refine p_callv hL (p_runV X cf5_ (Pic_bu hP mc6 ms7) ht1 (metX6_call l G _ _ _ _ _ _ X.2.2 hf) (cwV 1 hts (lw_V q219 q220 q221 q93 q222) rfl rfl rfl (by decide +kernel) ⟨Nat.le_trans (Nat.le_of_ble_eq_true rfl) hRf, Nat.le_trans (Nat.le_of_ble_eq_true rfl) hRl⟩) rfl hl.1 rfl (by decide) dX6_init_22 (BU_call hB hb8 hb9)) (fun σ10 H locs hf hP hL => ?_)
  have hB := BU_back (τ := σ10) hB hb8 hb9
  have hP := Pic_bu hP (bc_ σ5 - mc6) (bs_ σ5 - ms7)
  refine p_nmPB hP hB (fun σ11 hσ11 hP hB => ?_)
  have hf := hf σ11 hσ11
  exact p_vret X hlk hP hL (BU_le hB hRc).1 (BU_le hB hRc).2 hr dX6_init_25 hf
set_option maxHeartbeats 4000000 in
theorem metX6_init (l : Launch) (G : GG_) (mc ms : Nat) (x0 : Nat) (x1 : Int32) (x2 : Int32) (x3 : Int32) (x4 : Nat) (σ : Hp) (post : Hp → Prop) (hG : GOK_ G) (hf : wX6_init x0 x1 x2 x3 x4 (bu_ σ mc ms) post) : Met l yX6_init (ws_ yX6_init cX6_init 5 none) { frames := 8, cells := mc, slots := ms, locals := 180 } (PC_ G [rv_ x0, .int x1, .int x2, .int x3, rv_ x4] (bu_ σ mc ms)) (QV_ G post) mc ms (FR_ G) := by
  refine Met.ofW (cc := cX6_init) (maxL := 5) (ret := none) (by decide) rfl ?_
  intro p e s m args below meth c s₁ B hml hv
  obtain ⟨rfl, hP, hW⟩ := hv
  have hts := atoms_spec (ws := ws_ yX6_init cX6_init 5 none) B.pre
  have hts : ∀ w ∈ lw_all, w.before _ s = true := fun w h => hts w (List.mem_cons_of_mem _ h)
  rw [lg_entry_eq]
  have hl := en_entry [rv_ x0, .int x1, .int x2, .int x3, rv_ x4] [1, 1, 1, 1, 1] (n := 5) (ca_r (ca_i (ca_i (ca_i (ca_r ca_n))))) (by decide)
  exact sX6_init ⟨⟨⟨B.exec, B.bytes, hml, findClass_of_methodNamed B.named, hts⟩, hW, hG⟩, B.notSynchronized, B.returns, Nat.le_refl _, Nat.le_refl _, ⟨rfl, rfl⟩, (name_of_methodNamed B.named B.method).1⟩ hf _ _ _ _ _ hP (LO_nil G) (BU_in ⟨rfl, rfl⟩) hl
abbrev cX5_add : ByteArray := prog_9_method_2_code
def yX5_add : MethodName := ⟨RX5, "add", "(LWriteOnceDisc$Node;)V"⟩
theorem dX5_add_0 : decode cX5_add 0 = .ok (.aload_n 0, 1) := by decide +kernel
theorem dX5_add_1 : decode cX5_add 1 = .ok (.getfield 12, 3) := by decide +kernel
theorem dX5_add_4 : decode cX5_add 4 = .ok (.aload_n 1, 1) := by decide +kernel
theorem dX5_add_5 : decode cX5_add 5 = .ok (.invokevirtual 29, 3) := by decide +kernel
theorem dX5_add_8 : decode cX5_add 8 = .ok (.pop, 1) := by decide +kernel
theorem dX5_add_9 : decode cX5_add 9 = .ok (.aload_n 0, 1) := by decide +kernel
theorem dX5_add_10 : decode cX5_add 10 = .ok (.aload_n 1, 1) := by decide +kernel
theorem dX5_add_11 : decode cX5_add 11 = .ok (.getfield 32, 3) := by decide +kernel
theorem dX5_add_14 : decode cX5_add 14 = .ok (.iconst 1, 1) := by decide +kernel
theorem dX5_add_15 : decode cX5_add 15 = .ok (.iadd, 1) := by decide +kernel
theorem dX5_add_16 : decode cX5_add 16 = .ok (.putfield 36, 3) := by decide +kernel
theorem dX5_add_19 : decode cX5_add 19 = .ok (.return_, 1) := by decide +kernel
/-- WriteOnceDisc$Tree.add(LWriteOnceDisc$Node;)V -/
def wX5_add (x0 : Nat) (x1 : Nat) (σ : Hp) (post : Hp → Prop) : Prop :=
(tg_ σ x0 = 5 ∧ (tg_ σ (fR_ σ 4 0 x0) = 11 ∧ (∃ mc3 ms4 : Nat, (mc3 ≤ bc_ σ ∧ (ms4 ≤ bs_ σ ∧ (wJ2_add (fR_ σ 4 0 x0) x1 (bu_ σ mc3 ms4) (fun r7 σ8 => (∀ σ9, σ9 = bu_ σ8 (bc_ σ - mc3) (bs_ σ - ms4) → (tg_ σ9 x1 = 6 ∧ (tg_ σ9 x0 = 5 ∧ (∀ σ12, σ12 = sI_ σ9 4 1 x0 ((fI_ σ9 5 0 x1) + (1 : Int32)) → post σ12)))))))))))
set_option maxHeartbeats 4000000 in
theorem sX5_add {G : GG_} {p : Program} {l : Launch} {e : Env} {R : Room} {s : State} {m : MethodId} {args : Array Value} {below : List Frame} {meth : Method} {c : Code} {mc ms : Nat} (Y : MX_ G p R s m args meth c cX5_add 2 RX5 none 7 179 mc ms "add") {post : Hp → Prop} {x0 : Nat} {x1 : Nat} {σ : Hp} (hf : wX5_add x0 x1 σ post) : WG_ G p l e R s m args below meth c (MQ below (QV_ G post) args s mc ms (FR_ G)) (BU_ R) 2 0 [(0, rv_ x0), (1, rv_ x1)] [] σ := by
  have ⟨X, hlk, hr, hRf, hRl, hRc, hnm⟩ := Y
  have ⟨⟨hx, hb, _, hown, hts⟩, _, _⟩ := X
  intro H locs cells slots ls hP hL hB hl
  unfold wX5_add at hf
  refine p_aload_n hx hb dX5_add_0 rfl (lv_at hl 0 rfl) ?_
  obtain ⟨ht1, hf⟩ := hf
  refine p_gR X cf4_ (k := 0) (by decide) rfl hP ht1 q541 (fun _ h => h) dX5_add_1 ?_
  refine p_aload_n hx hb dX5_add_4 rfl (lv_at hl 1 rfl) ?_
  obtain ⟨ht2, hf⟩ := hf
  obtain ⟨mc3, ms4, hf⟩ := hf
  obtain ⟨hb5, hf⟩ := hf
  obtain ⟨hb6, hf⟩ := hf
  refine p_calli hL (p_runV X cf10_ (Pic_bu hP mc3 ms4) ht2 (metJ2_add l G _ _ _ _ _ _ X.2.2 hf) (cwV 1 hts (lw_V q495 q496 q497 q90 q498) rfl rfl rfl (by decide +kernel) ⟨Nat.le_trans (Nat.le_of_ble_eq_true rfl) hRf, Nat.le_trans (Nat.le_of_ble_eq_true rfl) hRl⟩) rfl hl.1 rfl (by decide) dX5_add_5 (BU_call hB hb5 hb6)) (fun r7 σ8 H locs hf hP hL => ?_)
  have hB := BU_back (τ := σ8) hB hb5 hb6
  have hP := Pic_bu hP (bc_ σ - mc3) (bs_ σ - ms4)
  refine p_nmPB hP hB (fun σ9 hσ9 hP hB => ?_)
  have hf := hf σ9 hσ9
  refine lv_pop hx hb dX5_add_8 rfl ?_
  refine p_aload_n hx hb dX5_add_9 rfl (lv_at hl 0 rfl) ?_
  refine p_aload_n hx hb dX5_add_10 rfl (lv_at hl 1 rfl) ?_
  obtain ⟨ht10, hf⟩ := hf
  refine p_gI X cf5_ (k := 0) (by decide) rfl hP ht10 q436 (fun _ h => h) dX5_add_11 ?_
  refine lv_iconst (v := 1) hx hb dX5_add_14 (by decide) ?_
  refine lv_iadd hx hb dX5_add_15 ?_
  obtain ⟨ht11, hf⟩ := hf
  refine p_pI X cf4_ (k := 1) (by decide) rfl hP hL ht11 (p_ow hP ht11 rfl) q544 (fun _ h => h) (Or.inl rfl) rfl rfl dX5_add_16 (fun H locs hP hL => ?_)
  refine p_nmPB hP hB (fun σ12 hσ12 hP hB => ?_)
  have hf := hf σ12 hσ12
  have ht10 : tg_ σ12 x1 = 6 := by rw [hσ12]; exact ht10
  have ht11 : tg_ σ12 x0 = 5 := by rw [hσ12]; exact ht11
  exact p_vret X hlk hP hL (BU_le hB hRc).1 (BU_le hB hRc).2 hr dX5_add_19 hf
set_option maxHeartbeats 4000000 in
theorem metX5_add (l : Launch) (G : GG_) (mc ms : Nat) (x0 : Nat) (x1 : Nat) (σ : Hp) (post : Hp → Prop) (hG : GOK_ G) (hf : wX5_add x0 x1 (bu_ σ mc ms) post) : Met l yX5_add (ws_ yX5_add cX5_add 2 none) { frames := 7, cells := mc, slots := ms, locals := 179 } (PC_ G [rv_ x0, rv_ x1] (bu_ σ mc ms)) (QV_ G post) mc ms (FR_ G) := by
  refine Met.ofW (cc := cX5_add) (maxL := 2) (ret := none) (by decide) rfl ?_
  intro p e s m args below meth c s₁ B hml hv
  obtain ⟨rfl, hP, hW⟩ := hv
  have hts := atoms_spec (ws := ws_ yX5_add cX5_add 2 none) B.pre
  have hts : ∀ w ∈ lw_all, w.before _ s = true := fun w h => hts w (List.mem_cons_of_mem _ h)
  rw [lg_entry_eq]
  have hl := en_entry [rv_ x0, rv_ x1] [1, 1] (n := 2) (ca_r (ca_r ca_n)) (by decide)
  exact sX5_add ⟨⟨⟨B.exec, B.bytes, hml, findClass_of_methodNamed B.named, hts⟩, hW, hG⟩, B.notSynchronized, B.returns, Nat.le_refl _, Nat.le_refl _, ⟨rfl, rfl⟩, (name_of_methodNamed B.named B.method).1⟩ hf _ _ _ _ _ hP (LO_nil G) (BU_in ⟨rfl, rfl⟩) hl
abbrev cX5_init : ByteArray := prog_9_method_1_code
def yX5_init : MethodName := ⟨RX5, "<init>", "()V"⟩
theorem dX5_init_0 : decode cX5_init 0 = .ok (.aload_n 0, 1) := by decide +kernel
theorem dX5_init_1 : decode cX5_init 1 = .ok (.invokespecial 3, 3) := by decide +kernel
theorem dX5_init_4 : decode cX5_init 4 = .ok (.aload_n 0, 1) := by decide +kernel
theorem dX5_init_5 : decode cX5_init 5 = .ok (.new 9, 3) := by decide +kernel
theorem dX5_init_8 : decode cX5_init 8 = .ok (.dup, 1) := by decide +kernel
theorem dX5_init_9 : decode cX5_init 9 = .ok (.invokespecial 11, 3) := by decide +kernel
theorem dX5_init_12 : decode cX5_init 12 = .ok (.putfield 12, 3) := by decide +kernel
theorem dX5_init_15 : decode cX5_init 15 = .ok (.aload_n 0, 1) := by decide +kernel
theorem dX5_init_16 : decode cX5_init 16 = .ok (.new 18, 3) := by decide +kernel
theorem dX5_init_19 : decode cX5_init 19 = .ok (.dup, 1) := by decide +kernel
theorem dX5_init_20 : decode cX5_init 20 = .ok (.iconst 0, 1) := by decide +kernel
theorem dX5_init_21 : decode cX5_init 21 = .ok (.iconst (-1), 1) := by decide +kernel
theorem dX5_init_22 : decode cX5_init 22 = .ok (.iconst 1, 1) := by decide +kernel
theorem dX5_init_23 : decode cX5_init 23 = .ok (.ldc 20, 2) := by decide +kernel
theorem dX5_init_25 : decode cX5_init 25 = .ok (.invokespecial 22, 3) := by decide +kernel
theorem dX5_init_28 : decode cX5_init 28 = .ok (.invokevirtual 25, 3) := by decide +kernel
theorem dX5_init_31 : decode cX5_init 31 = .ok (.return_, 1) := by decide +kernel
/-- WriteOnceDisc$Tree.<init>()V -/
def wX5_init (x0 : Nat) (σ : Hp) (post : Hp → Prop) : Prop :=
(tg_ σ x0 = 5 ∧ (1 ≤ bc_ σ ∧ (3 ≤ bs_ σ ∧ (∀ σ4, σ4 = mO_ σ 10 3 → (tg_ σ4 (nx_ σ) = 11 ∧ (wJ2_init (nx_ σ)  σ4 (fun σ6 => (∀ σ7, σ7 = bu_ σ6 (bc_ σ4) (bs_ σ4) → (tg_ σ7 x0 = 5 ∧ (∀ σ9, σ9 = sR_ σ7 4 0 x0 (nx_ σ) → (1 ≤ bc_ σ9 ∧ (12 ≤ bs_ σ9 ∧ (∀ σ12, σ12 = mO_ σ9 5 12 → (tg_ σ12 (nx_ σ9) = 6 ∧ (∃ mc14 ms15 : Nat, (mc14 ≤ bc_ σ12 ∧ (ms15 ≤ bs_ σ12 ∧ (wX6_init (nx_ σ9) (0 : Int32) (-1 : Int32) (1 : Int32) (fR_ σ12 101 5 0) (bu_ σ12 mc14 ms15) (fun σ18 => (∀ σ19, σ19 = bu_ σ18 (bc_ σ12 - mc14) (bs_ σ12 - ms15) → (tg_ σ19 x0 = 5 ∧ (∃ mc21 ms22 : Nat, (mc21 ≤ bc_ σ19 ∧ (ms22 ≤ bs_ σ19 ∧ (wX5_add x0 (nx_ σ9) (bu_ σ19 mc21 ms22) (fun σ25 => (∀ σ26, σ26 = bu_ σ25 (bc_ σ19 - mc21) (bs_ σ19 - ms22) → post σ26)))))))))))))))))))))))))))
set_option maxHeartbeats 4000000 in
theorem sX5_init {G : GG_} {p : Program} {l : Launch} {e : Env} {R : Room} {s : State} {m : MethodId} {args : Array Value} {below : List Frame} {meth : Method} {c : Code} {mc ms : Nat} (Y : MX_ G p R s m args meth c cX5_init 1 RX5 none 9 204 mc ms "<init>") {post : Hp → Prop} {x0 : Nat} {σ : Hp} (hf : wX5_init x0 σ post) : WG_ G p l e R s m args below meth c (MQ below (QV_ G post) args s mc ms (FR_ G)) (BU_ R) 1 0 [(0, rv_ x0)] [] σ := by
  have ⟨X, hlk, hr, hRf, hRl, hRc, hnm⟩ := Y
  have ⟨⟨hx, hb, _, hown, hts⟩, _, _⟩ := X
  intro H locs cells slots ls hP hL hB hl
  unfold wX5_init at hf
  refine p_aload_n hx hb dX5_init_0 rfl (lv_at hl 0 rfl) ?_
  obtain ⟨ht1, hf⟩ := hf
  refine p_objInit X hP ht1 q209 q119 q120 hl.1 dX5_init_1 (Nat.le_trans (by decide) hRf) (by decide) (Nat.le_trans (by decide) hRl) ?_
  refine p_aload_n hx hb dX5_init_4 rfl (lv_at hl 0 rfl) ?_
  obtain ⟨hb2, hf⟩ := hf
  obtain ⟨hb3, hf⟩ := hf
  refine p_new X cf10_ (by decide +kernel) hP hB q210 q148 q90 hb2 hb3 dX5_init_5 (fun H hP hB => ?_)
  refine p_nmPB hP hB (fun σ4 hσ4 hP hB => ?_)
  have hf := hf σ4 hσ4
  refine lv_dup hx hb dX5_init_8 (rv_cat _) ?_
  obtain ⟨ht5, hf⟩ := hf
  refine p_callv hL (p_runI X hP ht5 (metJ2_init l G _ _ _ X.2.2 hf) (cwI 0 hts (lw_meth q151) rfl rfl rfl (hts _ q90) (hts _ q211) (hts _ q150) rfl (by decide +kernel) ⟨Nat.le_trans (Nat.le_of_ble_eq_true rfl) hRf, Nat.le_trans (Nat.le_of_ble_eq_true rfl) hRl⟩) rfl hl.1 rfl (by rw [(ca_r (ca_r ca_n))]; decide) dX5_init_9 (BU_call hB (Nat.zero_le _) (Nat.zero_le _))) (fun σ6 H locs hf hP hL => ?_)
  have hB := BU_keep (τ := σ6) hB
  have hP := Pic_bu hP (bc_ σ4) (bs_ σ4)
  refine p_nmPB hP hB (fun σ7 hσ7 hP hB => ?_)
  have hf := hf σ7 hσ7
  obtain ⟨ht8, hf⟩ := hf
  refine p_pR X cf4_ (k := 0) (by decide) rfl hP hL ht8 (p_ow hP ht8 rfl) q541 (fun _ h => h) (Or.inr ⟨rfl, hnm, rfl⟩) dX5_init_12 (fun H locs hP hL => ?_)
  refine p_nmPB hP hB (fun σ9 hσ9 hP hB => ?_)
  have hf := hf σ9 hσ9
  have ht8 : tg_ σ9 x0 = 5 := by rw [hσ9]; exact ht8
  refine p_aload_n hx hb dX5_init_15 rfl (lv_at hl 0 rfl) ?_
  obtain ⟨hb10, hf⟩ := hf
  obtain ⟨hb11, hf⟩ := hf
  refine p_new X cf5_ (by decide +kernel) hP hB q212 q213 q93 hb10 hb11 dX5_init_16 (fun H hP hB => ?_)
  refine p_nmPB hP hB (fun σ12 hσ12 hP hB => ?_)
  have hf := hf σ12 hσ12
  refine lv_dup hx hb dX5_init_19 (rv_cat _) ?_
  refine lv_iconst (v := 0) hx hb dX5_init_20 (by decide) ?_
  refine lv_iconst (v := (-1)) hx hb dX5_init_21 (by decide) ?_
  refine lv_iconst (v := 1) hx hb dX5_init_22 (by decide) ?_
  refine p_ldcS X hP (j := 5) rfl dX5_init_23 ?_
  obtain ⟨ht13, hf⟩ := hf
  obtain ⟨mc14, ms15, hf⟩ := hf
  obtain ⟨hb16, hf⟩ := hf
  obtain ⟨hb17, hf⟩ := hf
  refine p_callv hL (p_runI X (Pic_bu hP mc14 ms15) ht13 (metX6_init l G _ _ _ _ _ _ _ _ _ X.2.2 hf) (cwI 4 hts (lw_meth q217) rfl rfl rfl (hts _ q93) (hts _ q215) (hts _ q216) rfl (by decide +kernel) ⟨Nat.le_trans (Nat.le_of_ble_eq_true rfl) hRf, Nat.le_trans (Nat.le_of_ble_eq_true rfl) hRl⟩) rfl hl.1 rfl (by rw [(ca_r (ca_r ca_n))]; decide) dX5_init_25 (BU_call hB hb16 hb17)) (fun σ18 H locs hf hP hL => ?_)
  have hB := BU_back (τ := σ18) hB hb16 hb17
  have hP := Pic_bu hP (bc_ σ12 - mc14) (bs_ σ12 - ms15)
  refine p_nmPB hP hB (fun σ19 hσ19 hP hB => ?_)
  have hf := hf σ19 hσ19
  obtain ⟨ht20, hf⟩ := hf
  obtain ⟨mc21, ms22, hf⟩ := hf
  obtain ⟨hb23, hf⟩ := hf
  obtain ⟨hb24, hf⟩ := hf
  refine p_callv hL (p_runV X cf4_ (Pic_bu hP mc21 ms22) ht20 (metX5_add l G _ _ _ _ _ _ X.2.2 hf) (cwV 1 hts (lw_V q491 q492 q493 q92 q494) rfl rfl rfl (by decide +kernel) ⟨Nat.le_trans (Nat.le_of_ble_eq_true rfl) hRf, Nat.le_trans (Nat.le_of_ble_eq_true rfl) hRl⟩) rfl hl.1 rfl (by decide) dX5_init_28 (BU_call hB hb23 hb24)) (fun σ25 H locs hf hP hL => ?_)
  have hB := BU_back (τ := σ25) hB hb23 hb24
  have hP := Pic_bu hP (bc_ σ19 - mc21) (bs_ σ19 - ms22)
  refine p_nmPB hP hB (fun σ26 hσ26 hP hB => ?_)
  have hf := hf σ26 hσ26
  exact p_vret X hlk hP hL (BU_le hB hRc).1 (BU_le hB hRc).2 hr dX5_init_31 hf
set_option maxHeartbeats 4000000 in
theorem metX5_init (l : Launch) (G : GG_) (mc ms : Nat) (x0 : Nat) (σ : Hp) (post : Hp → Prop) (hG : GOK_ G) (hf : wX5_init x0 (bu_ σ mc ms) post) : Met l yX5_init (ws_ yX5_init cX5_init 1 none) { frames := 9, cells := mc, slots := ms, locals := 204 } (PC_ G [rv_ x0] (bu_ σ mc ms)) (QV_ G post) mc ms (FR_ G) := by
  refine Met.ofW (cc := cX5_init) (maxL := 1) (ret := none) (by decide) rfl ?_
  intro p e s m args below meth c s₁ B hml hv
  obtain ⟨rfl, hP, hW⟩ := hv
  have hts := atoms_spec (ws := ws_ yX5_init cX5_init 1 none) B.pre
  have hts : ∀ w ∈ lw_all, w.before _ s = true := fun w h => hts w (List.mem_cons_of_mem _ h)
  rw [lg_entry_eq]
  have hl := en_entry [rv_ x0] [1] (n := 1) (ca_r ca_n) (by decide)
  exact sX5_init ⟨⟨⟨B.exec, B.bytes, hml, findClass_of_methodNamed B.named, hts⟩, hW, hG⟩, B.notSynchronized, B.returns, Nat.le_refl _, Nat.le_refl _, ⟨rfl, rfl⟩, (name_of_methodNamed B.named B.method).1⟩ hf _ _ _ _ _ hP (LO_nil G) (BU_in ⟨rfl, rfl⟩) hl
abbrev cX7_init : ByteArray := prog_4_method_1_code
def yX7_init : MethodName := ⟨RX7, "<init>", "(I)V"⟩
theorem dX7_init_0 : decode cX7_init 0 = .ok (.aload_n 0, 1) := by decide +kernel
theorem dX7_init_1 : decode cX7_init 1 = .ok (.invokespecial 3, 3) := by decide +kernel
theorem dX7_init_4 : decode cX7_init 4 = .ok (.aload_n 0, 1) := by decide +kernel
theorem dX7_init_5 : decode cX7_init 5 = .ok (.iload_n 1, 1) := by decide +kernel
theorem dX7_init_6 : decode cX7_init 6 = .ok (.putfield 9, 3) := by decide +kernel
theorem dX7_init_9 : decode cX7_init 9 = .ok (.aload_n 0, 1) := by decide +kernel
theorem dX7_init_10 : decode cX7_init 10 = .ok (.iload_n 1, 1) := by decide +kernel
theorem dX7_init_11 : decode cX7_init 11 = .ok (.sipush 2048, 3) := by decide +kernel
theorem dX7_init_14 : decode cX7_init 14 = .ok (.imul, 1) := by decide +kernel
theorem dX7_init_15 : decode cX7_init 15 = .ok (.newarray .byte, 2) := by decide +kernel
theorem dX7_init_17 : decode cX7_init 17 = .ok (.putfield 15, 3) := by decide +kernel
theorem dX7_init_20 : decode cX7_init 20 = .ok (.aload_n 0, 1) := by decide +kernel
theorem dX7_init_21 : decode cX7_init 21 = .ok (.iload_n 1, 1) := by decide +kernel
theorem dX7_init_22 : decode cX7_init 22 = .ok (.newarray .int, 2) := by decide +kernel
theorem dX7_init_24 : decode cX7_init 24 = .ok (.putfield 19, 3) := by decide +kernel
theorem dX7_init_27 : decode cX7_init 27 = .ok (.aload_n 0, 1) := by decide +kernel
theorem dX7_init_28 : decode cX7_init 28 = .ok (.iload_n 1, 1) := by decide +kernel
theorem dX7_init_29 : decode cX7_init 29 = .ok (.newarray .boolean, 2) := by decide +kernel
theorem dX7_init_31 : decode cX7_init 31 = .ok (.putfield 23, 3) := by decide +kernel
theorem dX7_init_34 : decode cX7_init 34 = .ok (.return_, 1) := by decide +kernel
/-- WriteOnceDisc$Medium.<init>(I)V -/
def wX7_init (x0 : Nat) (x1 : Int32) (σ : Hp) (post : Hp → Prop) : Prop :=
(tg_ σ x0 = 7 ∧ (∀ σ2, σ2 = sI_ σ 6 0 x0 x1 → (¬ (x1 * (2048 : Int32)) < 0 ∧ (((x1 * (2048 : Int32))).toNatClampNeg ≤ 1000000 ∧ (1 ≤ bc_ σ2 ∧ (((x1 * (2048 : Int32))).toNatClampNeg ≤ bs_ σ2 ∧ (∀ σ7, σ7 = mA_ σ2 100 ((x1 * (2048 : Int32))).toNatClampNeg → (tg_ σ7 x0 = 7 ∧ (∀ σ9, σ9 = sR_ σ7 6 1 x0 (nx_ σ2) → (¬ x1 < 0 ∧ ((x1).toNatClampNeg ≤ 1000000 ∧ (1 ≤ bc_ σ9 ∧ ((x1).toNatClampNeg ≤ bs_ σ9 ∧ (∀ σ14, σ14 = mA_ σ9 102 (x1).toNatClampNeg → (tg_ σ14 x0 = 7 ∧ (∀ σ16, σ16 = sR_ σ14 6 2 x0 (nx_ σ9) → (¬ x1 < 0 ∧ ((x1).toNatClampNeg ≤ 1000000 ∧ (1 ≤ bc_ σ16 ∧ ((x1).toNatClampNeg ≤ bs_ σ16 ∧ (∀ σ21, σ21 = mA_ σ16 101 (x1).toNatClampNeg → (tg_ σ21 x0 = 7 ∧ (∀ σ23, σ23 = sR_ σ21 6 3 x0 (nx_ σ16) → post σ23)))))))))))))))))))))))
set_option maxHeartbeats 4000000 in
theorem sX7_init {G : GG_} {p : Program} {l : Launch} {e : Env} {R : Room} {s : State} {m : MethodId} {args : Array Value} {below : List Frame} {meth : Method} {c : Code} {mc ms : Nat} (Y : MX_ G p R s m args meth c cX7_init 2 RX7 none 1 28 mc ms "<init>") {post : Hp → Prop} {x0 : Nat} {x1 : Int32} {σ : Hp} (hf : wX7_init x0 x1 σ post) : WG_ G p l e R s m args below meth c (MQ below (QV_ G post) args s mc ms (FR_ G)) (BU_ R) 2 0 [(0, rv_ x0), (1, .int x1)] [] σ := by
  have ⟨X, hlk, hr, hRf, hRl, hRc, hnm⟩ := Y
  have ⟨⟨hx, hb, _, hown, hts⟩, _, _⟩ := X
  intro H locs cells slots ls hP hL hB hl
  unfold wX7_init at hf
  refine p_aload_n hx hb dX7_init_0 rfl (lv_at hl 0 rfl) ?_
  obtain ⟨ht1, hf⟩ := hf
  refine p_objInit X hP ht1 q556 q119 q120 hl.1 dX7_init_1 (Nat.le_trans (by decide) hRf) (by decide) (Nat.le_trans (by decide) hRl) ?_
  refine p_aload_n hx hb dX7_init_4 rfl (lv_at hl 0 rfl) ?_
  refine lv_iload_n hx hb dX7_init_5 rfl (lv_at hl 1 rfl) ?_
  refine p_pI X cf6_ (k := 0) (by decide) rfl hP hL ht1 (p_ow hP ht1 rfl) q557 (fun _ h => h) (Or.inr ⟨rfl, hnm, rfl⟩) rfl rfl dX7_init_6 (fun H locs hP hL => ?_)
  refine p_nmPB hP hB (fun σ2 hσ2 hP hB => ?_)
  have hf := hf σ2 hσ2
  have ht1 : tg_ σ2 x0 = 7 := by rw [hσ2]; exact ht1
  refine p_aload_n hx hb dX7_init_9 rfl (lv_at hl 0 rfl) ?_
  refine lv_iload_n hx hb dX7_init_10 rfl (lv_at hl 1 rfl) ?_
  refine lv_sipush (v := 2048) hx hb dX7_init_11 (by decide) ?_
  refine lv_imul hx hb dX7_init_14 ?_
  obtain ⟨hb3, hf⟩ := hf
  obtain ⟨hb4, hf⟩ := hf
  obtain ⟨hb5, hf⟩ := hf
  obtain ⟨hb6, hf⟩ := hf
  refine p_newa X (atype := .byte) (t := 100) rfl (by decide) (by decide) q184 hP hB hb3 hb4 hb5 hb6 dX7_init_15 (fun H hP hB => ?_)
  refine p_nmPB hP hB (fun σ7 hσ7 hP hB => ?_)
  have hf := hf σ7 hσ7
  obtain ⟨ht8, hf⟩ := hf
  refine p_pR X cf6_ (k := 1) (by decide) rfl hP hL ht8 (p_ow hP ht8 rfl) q560 (fun _ h => h) (Or.inr ⟨rfl, hnm, rfl⟩) dX7_init_17 (fun H locs hP hL => ?_)
  refine p_nmPB hP hB (fun σ9 hσ9 hP hB => ?_)
  have hf := hf σ9 hσ9
  have ht8 : tg_ σ9 x0 = 7 := by rw [hσ9]; exact ht8
  refine p_aload_n hx hb dX7_init_20 rfl (lv_at hl 0 rfl) ?_
  refine lv_iload_n hx hb dX7_init_21 rfl (lv_at hl 1 rfl) ?_
  obtain ⟨hb10, hf⟩ := hf
  obtain ⟨hb11, hf⟩ := hf
  obtain ⟨hb12, hf⟩ := hf
  obtain ⟨hb13, hf⟩ := hf
  refine p_newa X (atype := .int) (t := 102) rfl (by decide) (by decide) q578 hP hB hb10 hb11 hb12 hb13 dX7_init_22 (fun H hP hB => ?_)
  refine p_nmPB hP hB (fun σ14 hσ14 hP hB => ?_)
  have hf := hf σ14 hσ14
  obtain ⟨ht15, hf⟩ := hf
  refine p_pR X cf6_ (k := 2) (by decide) rfl hP hL ht15 (p_ow hP ht15 rfl) q563 (fun _ h => h) (Or.inr ⟨rfl, hnm, rfl⟩) dX7_init_24 (fun H locs hP hL => ?_)
  refine p_nmPB hP hB (fun σ16 hσ16 hP hB => ?_)
  have hf := hf σ16 hσ16
  have ht15 : tg_ σ16 x0 = 7 := by rw [hσ16]; exact ht15
  refine p_aload_n hx hb dX7_init_27 rfl (lv_at hl 0 rfl) ?_
  refine lv_iload_n hx hb dX7_init_28 rfl (lv_at hl 1 rfl) ?_
  obtain ⟨hb17, hf⟩ := hf
  obtain ⟨hb18, hf⟩ := hf
  obtain ⟨hb19, hf⟩ := hf
  obtain ⟨hb20, hf⟩ := hf
  refine p_newa X (atype := .boolean) (t := 101) rfl (by decide) (by decide) q579 hP hB hb17 hb18 hb19 hb20 dX7_init_29 (fun H hP hB => ?_)
  refine p_nmPB hP hB (fun σ21 hσ21 hP hB => ?_)
  have hf := hf σ21 hσ21
  obtain ⟨ht22, hf⟩ := hf
  refine p_pR X cf6_ (k := 3) (by decide) rfl hP hL ht22 (p_ow hP ht22 rfl) q566 (fun _ h => h) (Or.inr ⟨rfl, hnm, rfl⟩) dX7_init_31 (fun H locs hP hL => ?_)
  refine p_nmPB hP hB (fun σ23 hσ23 hP hB => ?_)
  have hf := hf σ23 hσ23
  have ht22 : tg_ σ23 x0 = 7 := by rw [hσ23]; exact ht22
  exact p_vret X hlk hP hL (BU_le hB hRc).1 (BU_le hB hRc).2 hr dX7_init_34 hf
set_option maxHeartbeats 4000000 in
theorem metX7_init (l : Launch) (G : GG_) (mc ms : Nat) (x0 : Nat) (x1 : Int32) (σ : Hp) (post : Hp → Prop) (hG : GOK_ G) (hf : wX7_init x0 x1 (bu_ σ mc ms) post) : Met l yX7_init (ws_ yX7_init cX7_init 2 none) { frames := 1, cells := mc, slots := ms, locals := 28 } (PC_ G [rv_ x0, .int x1] (bu_ σ mc ms)) (QV_ G post) mc ms (FR_ G) := by
  refine Met.ofW (cc := cX7_init) (maxL := 2) (ret := none) (by decide) rfl ?_
  intro p e s m args below meth c s₁ B hml hv
  obtain ⟨rfl, hP, hW⟩ := hv
  have hts := atoms_spec (ws := ws_ yX7_init cX7_init 2 none) B.pre
  have hts : ∀ w ∈ lw_all, w.before _ s = true := fun w h => hts w (List.mem_cons_of_mem _ h)
  rw [lg_entry_eq]
  have hl := en_entry [rv_ x0, .int x1] [1, 1] (n := 2) (ca_r (ca_i ca_n)) (by decide)
  exact sX7_init ⟨⟨⟨B.exec, B.bytes, hml, findClass_of_methodNamed B.named, hts⟩, hW, hG⟩, B.notSynchronized, B.returns, Nat.le_refl _, Nat.le_refl _, ⟨rfl, rfl⟩, (name_of_methodNamed B.named B.method).1⟩ hf _ _ _ _ _ hP (LO_nil G) (BU_in ⟨rfl, rfl⟩) hl
abbrev cX8_init : ByteArray := prog_8_method_1_code
def yX8_init : MethodName := ⟨RX8, "<init>", "(LWriteOnceDisc$Medium;)V"⟩
theorem dX8_init_0 : decode cX8_init 0 = .ok (.aload_n 0, 1) := by decide +kernel
theorem dX8_init_1 : decode cX8_init 1 = .ok (.invokespecial 3, 3) := by decide +kernel
theorem dX8_init_4 : decode cX8_init 4 = .ok (.aload_n 0, 1) := by decide +kernel
theorem dX8_init_5 : decode cX8_init 5 = .ok (.new 9, 3) := by decide +kernel
theorem dX8_init_8 : decode cX8_init 8 = .ok (.dup, 1) := by decide +kernel
theorem dX8_init_9 : decode cX8_init 9 = .ok (.invokespecial 11, 3) := by decide +kernel
theorem dX8_init_12 : decode cX8_init 12 = .ok (.putfield 12, 3) := by decide +kernel
theorem dX8_init_15 : decode cX8_init 15 = .ok (.aload_n 0, 1) := by decide +kernel
theorem dX8_init_16 : decode cX8_init 16 = .ok (.bipush 31, 2) := by decide +kernel
theorem dX8_init_18 : decode cX8_init 18 = .ok (.anewarray 18, 3) := by decide +kernel
theorem dX8_init_21 : decode cX8_init 21 = .ok (.putfield 20, 3) := by decide +kernel
theorem dX8_init_24 : decode cX8_init 24 = .ok (.aload_n 0, 1) := by decide +kernel
theorem dX8_init_25 : decode cX8_init 25 = .ok (.bipush 30, 2) := by decide +kernel
theorem dX8_init_27 : decode cX8_init 27 = .ok (.newarray .int, 2) := by decide +kernel
theorem dX8_init_29 : decode cX8_init 29 = .ok (.putfield 24, 3) := by decide +kernel
theorem dX8_init_32 : decode cX8_init 32 = .ok (.aload_n 0, 1) := by decide +kernel
theorem dX8_init_33 : decode cX8_init 33 = .ok (.aload_n 1, 1) := by decide +kernel
theorem dX8_init_34 : decode cX8_init 34 = .ok (.putfield 28, 3) := by decide +kernel
theorem dX8_init_37 : decode cX8_init 37 = .ok (.return_, 1) := by decide +kernel
/-- WriteOnceDisc$Reader.<init>(LWriteOnceDisc$Medium;)V -/
def wX8_init (x0 : Nat) (x1 : Nat) (σ : Hp) (post : Hp → Prop) : Prop :=
(tg_ σ x0 = 8 ∧ (1 ≤ bc_ σ ∧ (3 ≤ bs_ σ ∧ (∀ σ4, σ4 = mO_ σ 10 3 → (tg_ σ4 (nx_ σ) = 11 ∧ (wJ2_init (nx_ σ)  σ4 (fun σ6 => (∀ σ7, σ7 = bu_ σ6 (bc_ σ4) (bs_ σ4) → (tg_ σ7 x0 = 8 ∧ (∀ σ9, σ9 = sR_ σ7 7 0 x0 (nx_ σ) → (¬ (31 : Int32) < 0 ∧ (((31 : Int32)).toNatClampNeg ≤ 1000000 ∧ (1 ≤ bc_ σ9 ∧ (((31 : Int32)).toNatClampNeg ≤ bs_ σ9 ∧ (∀ σ14, σ14 = mA_ σ9 105 ((31 : Int32)).toNatClampNeg → (tg_ σ14 x0 = 8 ∧ (∀ σ16, σ16 = sR_ σ14 7 1 x0 (nx_ σ9) → (¬ (30 : Int32) < 0 ∧ (((30 : Int32)).toNatClampNeg ≤ 1000000 ∧ (1 ≤ bc_ σ16 ∧ (((30 : Int32)).toNatClampNeg ≤ bs_ σ16 ∧ (∀ σ21, σ21 = mA_ σ16 102 ((30 : Int32)).toNatClampNeg → (tg_ σ21 x0 = 8 ∧ (∀ σ23, σ23 = sR_ σ21 7 9 x0 (nx_ σ16) → (∀ σ24, σ24 = sR_ σ23 7 3 x0 x1 → post σ24)))))))))))))))))))))))))
set_option maxHeartbeats 4000000 in
theorem sX8_init {G : GG_} {p : Program} {l : Launch} {e : Env} {R : Room} {s : State} {m : MethodId} {args : Array Value} {below : List Frame} {meth : Method} {c : Code} {mc ms : Nat} (Y : MX_ G p R s m args meth c cX8_init 2 RX8 none 4 88 mc ms "<init>") {post : Hp → Prop} {x0 : Nat} {x1 : Nat} {σ : Hp} (hf : wX8_init x0 x1 σ post) : WG_ G p l e R s m args below meth c (MQ below (QV_ G post) args s mc ms (FR_ G)) (BU_ R) 2 0 [(0, rv_ x0), (1, rv_ x1)] [] σ := by
  have ⟨X, hlk, hr, hRf, hRl, hRc, hnm⟩ := Y
  have ⟨⟨hx, hb, _, hown, hts⟩, _, _⟩ := X
  intro H locs cells slots ls hP hL hB hl
  unfold wX8_init at hf
  refine p_aload_n hx hb dX8_init_0 rfl (lv_at hl 0 rfl) ?_
  obtain ⟨ht1, hf⟩ := hf
  refine p_objInit X hP ht1 q585 q119 q120 hl.1 dX8_init_1 (Nat.le_trans (by decide) hRf) (by decide) (Nat.le_trans (by decide) hRl) ?_
  refine p_aload_n hx hb dX8_init_4 rfl (lv_at hl 0 rfl) ?_
  obtain ⟨hb2, hf⟩ := hf
  obtain ⟨hb3, hf⟩ := hf
  refine p_new X cf10_ (by decide +kernel) hP hB q586 q148 q90 hb2 hb3 dX8_init_5 (fun H hP hB => ?_)
  refine p_nmPB hP hB (fun σ4 hσ4 hP hB => ?_)
  have hf := hf σ4 hσ4
  refine lv_dup hx hb dX8_init_8 (rv_cat _) ?_
  obtain ⟨ht5, hf⟩ := hf
  refine p_callv hL (p_runI X hP ht5 (metJ2_init l G _ _ _ X.2.2 hf) (cwI 0 hts (lw_meth q151) rfl rfl rfl (hts _ q90) (hts _ q587) (hts _ q150) rfl (by decide +kernel) ⟨Nat.le_trans (Nat.le_of_ble_eq_true rfl) hRf, Nat.le_trans (Nat.le_of_ble_eq_true rfl) hRl⟩) rfl hl.1 rfl (by rw [(ca_r (ca_r ca_n))]; decide) dX8_init_9 (BU_call hB (Nat.zero_le _) (Nat.zero_le _))) (fun σ6 H locs hf hP hL => ?_)
  have hB := BU_keep (τ := σ6) hB
  have hP := Pic_bu hP (bc_ σ4) (bs_ σ4)
  refine p_nmPB hP hB (fun σ7 hσ7 hP hB => ?_)
  have hf := hf σ7 hσ7
  obtain ⟨ht8, hf⟩ := hf
  refine p_pR X cf7_ (k := 0) (by decide) rfl hP hL ht8 (p_ow hP ht8 rfl) q590 (fun _ h => h) (Or.inr ⟨rfl, hnm, rfl⟩) dX8_init_12 (fun H locs hP hL => ?_)
  refine p_nmPB hP hB (fun σ9 hσ9 hP hB => ?_)
  have hf := hf σ9 hσ9
  have ht8 : tg_ σ9 x0 = 8 := by rw [hσ9]; exact ht8
  refine p_aload_n hx hb dX8_init_15 rfl (lv_at hl 0 rfl) ?_
  refine lv_bipush (v := 31) hx hb dX8_init_16 (by decide) ?_
  obtain ⟨hb10, hf⟩ := hf
  obtain ⟨hb11, hf⟩ := hf
  obtain ⟨hb12, hf⟩ := hf
  obtain ⟨hb13, hf⟩ := hf
  refine p_anew X (t := 105) (by decide) (by decide) rfl q588 q589 hP hB hb10 hb11 hb12 hb13 dX8_init_18 (fun H hP hB => ?_)
  refine p_nmPB hP hB (fun σ14 hσ14 hP hB => ?_)
  have hf := hf σ14 hσ14
  obtain ⟨ht15, hf⟩ := hf
  refine p_pR X cf7_ (k := 1) (by decide) rfl hP hL ht15 (p_ow hP ht15 rfl) q592 (fun _ h => h) (Or.inr ⟨rfl, hnm, rfl⟩) dX8_init_21 (fun H locs hP hL => ?_)
  refine p_nmPB hP hB (fun σ16 hσ16 hP hB => ?_)
  have hf := hf σ16 hσ16
  have ht15 : tg_ σ16 x0 = 8 := by rw [hσ16]; exact ht15
  refine p_aload_n hx hb dX8_init_24 rfl (lv_at hl 0 rfl) ?_
  refine lv_bipush (v := 30) hx hb dX8_init_25 (by decide) ?_
  obtain ⟨hb17, hf⟩ := hf
  obtain ⟨hb18, hf⟩ := hf
  obtain ⟨hb19, hf⟩ := hf
  obtain ⟨hb20, hf⟩ := hf
  refine p_newa X (atype := .int) (t := 102) rfl (by decide) (by decide) q578 hP hB hb17 hb18 hb19 hb20 dX8_init_27 (fun H hP hB => ?_)
  refine p_nmPB hP hB (fun σ21 hσ21 hP hB => ?_)
  have hf := hf σ21 hσ21
  obtain ⟨ht22, hf⟩ := hf
  refine p_pR X cf7_ (k := 9) (by decide) rfl hP hL ht22 (p_ow hP ht22 rfl) q601 (fun _ h => h) (Or.inr ⟨rfl, hnm, rfl⟩) dX8_init_29 (fun H locs hP hL => ?_)
  refine p_nmPB hP hB (fun σ23 hσ23 hP hB => ?_)
  have hf := hf σ23 hσ23
  have ht22 : tg_ σ23 x0 = 8 := by rw [hσ23]; exact ht22
  refine p_aload_n hx hb dX8_init_32 rfl (lv_at hl 0 rfl) ?_
  refine p_aload_n hx hb dX8_init_33 rfl (lv_at hl 1 rfl) ?_
  refine p_pR X cf7_ (k := 3) (by decide) rfl hP hL ht22 (p_ow hP ht22 rfl) q594 (fun _ h => h) (Or.inl rfl) dX8_init_34 (fun H locs hP hL => ?_)
  refine p_nmPB hP hB (fun σ24 hσ24 hP hB => ?_)
  have hf := hf σ24 hσ24
  have ht22 : tg_ σ24 x0 = 8 := by rw [hσ24]; exact ht22
  exact p_vret X hlk hP hL (BU_le hB hRc).1 (BU_le hB hRc).2 hr dX8_init_37 hf
set_option maxHeartbeats 4000000 in
theorem metX8_init (l : Launch) (G : GG_) (mc ms : Nat) (x0 : Nat) (x1 : Nat) (σ : Hp) (post : Hp → Prop) (hG : GOK_ G) (hf : wX8_init x0 x1 (bu_ σ mc ms) post) : Met l yX8_init (ws_ yX8_init cX8_init 2 none) { frames := 4, cells := mc, slots := ms, locals := 88 } (PC_ G [rv_ x0, rv_ x1] (bu_ σ mc ms)) (QV_ G post) mc ms (FR_ G) := by
  refine Met.ofW (cc := cX8_init) (maxL := 2) (ret := none) (by decide) rfl ?_
  intro p e s m args below meth c s₁ B hml hv
  obtain ⟨rfl, hP, hW⟩ := hv
  have hts := atoms_spec (ws := ws_ yX8_init cX8_init 2 none) B.pre
  have hts : ∀ w ∈ lw_all, w.before _ s = true := fun w h => hts w (List.mem_cons_of_mem _ h)
  rw [lg_entry_eq]
  have hl := en_entry [rv_ x0, rv_ x1] [1, 1] (n := 2) (ca_r (ca_r ca_n)) (by decide)
  exact sX8_init ⟨⟨⟨B.exec, B.bytes, hml, findClass_of_methodNamed B.named, hts⟩, hW, hG⟩, B.notSynchronized, B.returns, Nat.le_refl _, Nat.le_refl _, ⟨rfl, rfl⟩, (name_of_methodNamed B.named B.method).1⟩ hf _ _ _ _ _ hP (LO_nil G) (BU_in ⟨rfl, rfl⟩) hl
abbrev cX1_init : ByteArray := prog_1_method_4_code
def yX1_init : MethodName := ⟨RX1, "<init>", "(I)V"⟩
theorem dX1_init_0 : decode cX1_init 0 = .ok (.aload_n 0, 1) := by decide +kernel
theorem dX1_init_1 : decode cX1_init 1 = .ok (.invokespecial 33, 3) := by decide +kernel
theorem dX1_init_4 : decode cX1_init 4 = .ok (.aload_n 0, 1) := by decide +kernel
theorem dX1_init_5 : decode cX1_init 5 = .ok (.new 36, 3) := by decide +kernel
theorem dX1_init_8 : decode cX1_init 8 = .ok (.dup, 1) := by decide +kernel
theorem dX1_init_9 : decode cX1_init 9 = .ok (.invokespecial 38, 3) := by decide +kernel
theorem dX1_init_12 : decode cX1_init 12 = .ok (.putfield 39, 3) := by decide +kernel
theorem dX1_init_15 : decode cX1_init 15 = .ok (.aload_n 0, 1) := by decide +kernel
theorem dX1_init_16 : decode cX1_init 16 = .ok (.new 43, 3) := by decide +kernel
theorem dX1_init_19 : decode cX1_init 19 = .ok (.dup, 1) := by decide +kernel
theorem dX1_init_20 : decode cX1_init 20 = .ok (.aload_n 0, 1) := by decide +kernel
theorem dX1_init_21 : decode cX1_init 21 = .ok (.getfield 39, 3) := by decide +kernel
theorem dX1_init_24 : decode cX1_init 24 = .ok (.invokespecial 45, 3) := by decide +kernel
theorem dX1_init_27 : decode cX1_init 27 = .ok (.putfield 48, 3) := by decide +kernel
theorem dX1_init_30 : decode cX1_init 30 = .ok (.aload_n 0, 1) := by decide +kernel
theorem dX1_init_31 : decode cX1_init 31 = .ok (.new 52, 3) := by decide +kernel
theorem dX1_init_34 : decode cX1_init 34 = .ok (.dup, 1) := by decide +kernel
theorem dX1_init_35 : decode cX1_init 35 = .ok (.invokespecial 54, 3) := by decide +kernel
theorem dX1_init_38 : decode cX1_init 38 = .ok (.putfield 55, 3) := by decide +kernel
theorem dX1_init_41 : decode cX1_init 41 = .ok (.iload_n 1, 1) := by decide +kernel
theorem dX1_init_42 : decode cX1_init 42 = .ok (.bipush 40, 2) := by decide +kernel
theorem dX1_init_44 : decode cX1_init 44 = .ok (.if_icmp .lt 14, 3) := by decide +kernel
theorem dX1_init_47 : decode cX1_init 47 = .ok (.iload_n 1, 1) := by decide +kernel
theorem dX1_init_48 : decode cX1_init 48 = .ok (.sipush 200, 3) := by decide +kernel
theorem dX1_init_51 : decode cX1_init 51 = .ok (.if_icmp .gt 7, 3) := by decide +kernel
theorem dX1_init_54 : decode cX1_init 54 = .ok (.iload_n 1, 1) := by decide +kernel
theorem dX1_init_55 : decode cX1_init 55 = .ok (.goto 5, 3) := by decide +kernel
theorem dX1_init_58 : decode cX1_init 58 = .ok (.bipush 100, 2) := by decide +kernel
theorem dX1_init_60 : decode cX1_init 60 = .ok (.istore_n 2, 1) := by decide +kernel
theorem dX1_init_61 : decode cX1_init 61 = .ok (.aload_n 0, 1) := by decide +kernel
theorem dX1_init_62 : decode cX1_init 62 = .ok (.new 59, 3) := by decide +kernel
theorem dX1_init_65 : decode cX1_init 65 = .ok (.dup, 1) := by decide +kernel
theorem dX1_init_66 : decode cX1_init 66 = .ok (.iload_n 2, 1) := by decide +kernel
theorem dX1_init_67 : decode cX1_init 67 = .ok (.invokespecial 61, 3) := by decide +kernel
theorem dX1_init_70 : decode cX1_init 70 = .ok (.putfield 64, 3) := by decide +kernel
theorem dX1_init_73 : decode cX1_init 73 = .ok (.aload_n 0, 1) := by decide +kernel
theorem dX1_init_74 : decode cX1_init 74 = .ok (.new 59, 3) := by decide +kernel
theorem dX1_init_77 : decode cX1_init 77 = .ok (.dup, 1) := by decide +kernel
theorem dX1_init_78 : decode cX1_init 78 = .ok (.iload_n 2, 1) := by decide +kernel
theorem dX1_init_79 : decode cX1_init 79 = .ok (.invokespecial 61, 3) := by decide +kernel
theorem dX1_init_82 : decode cX1_init 82 = .ok (.putfield 68, 3) := by decide +kernel
theorem dX1_init_85 : decode cX1_init 85 = .ok (.aload_n 0, 1) := by decide +kernel
theorem dX1_init_86 : decode cX1_init 86 = .ok (.new 71, 3) := by decide +kernel
theorem dX1_init_89 : decode cX1_init 89 = .ok (.dup, 1) := by decide +kernel
theorem dX1_init_90 : decode cX1_init 90 = .ok (.aload_n 0, 1) := by decide +kernel
theorem dX1_init_91 : decode cX1_init 91 = .ok (.getfield 64, 3) := by decide +kernel
theorem dX1_init_94 : decode cX1_init 94 = .ok (.invokespecial 73, 3) := by decide +kernel
theorem dX1_init_97 : decode cX1_init 97 = .ok (.putfield 76, 3) := by decide +kernel
theorem dX1_init_100 : decode cX1_init 100 = .ok (.aload_n 0, 1) := by decide +kernel
theorem dX1_init_101 : decode cX1_init 101 = .ok (.new 71, 3) := by decide +kernel
theorem dX1_init_104 : decode cX1_init 104 = .ok (.dup, 1) := by decide +kernel
theorem dX1_init_105 : decode cX1_init 105 = .ok (.aload_n 0, 1) := by decide +kernel
theorem dX1_init_106 : decode cX1_init 106 = .ok (.getfield 64, 3) := by decide +kernel
theorem dX1_init_109 : decode cX1_init 109 = .ok (.invokespecial 73, 3) := by decide +kernel
theorem dX1_init_112 : decode cX1_init 112 = .ok (.putfield 80, 3) := by decide +kernel
theorem dX1_init_115 : decode cX1_init 115 = .ok (.aload_n 0, 1) := by decide +kernel
theorem dX1_init_116 : decode cX1_init 116 = .ok (.new 71, 3) := by decide +kernel
theorem dX1_init_119 : decode cX1_init 119 = .ok (.dup, 1) := by decide +kernel
theorem dX1_init_120 : decode cX1_init 120 = .ok (.aload_n 0, 1) := by decide +kernel
theorem dX1_init_121 : decode cX1_init 121 = .ok (.getfield 64, 3) := by decide +kernel
theorem dX1_init_124 : decode cX1_init 124 = .ok (.invokespecial 73, 3) := by decide +kernel
theorem dX1_init_127 : decode cX1_init 127 = .ok (.putfield 83, 3) := by decide +kernel
theorem dX1_init_130 : decode cX1_init 130 = .ok (.aload_n 0, 1) := by decide +kernel
theorem dX1_init_131 : decode cX1_init 131 = .ok (.iload_n 2, 1) := by decide +kernel
theorem dX1_init_132 : decode cX1_init 132 = .ok (.iconst 1, 1) := by decide +kernel
theorem dX1_init_133 : decode cX1_init 133 = .ok (.iadd, 1) := by decide +kernel
theorem dX1_init_134 : decode cX1_init 134 = .ok (.newarray .int, 2) := by decide +kernel
theorem dX1_init_136 : decode cX1_init 136 = .ok (.putfield 86, 3) := by decide +kernel
theorem dX1_init_139 : decode cX1_init 139 = .ok (.return_, 1) := by decide +kernel
/-- WriteOnceDisc.<init>(I)V -/
def wX1_init_L60 (post : Hp → Prop) (x0 : Nat) (s0 : Int32) (σ : Hp) : Prop :=
(1 ≤ bc_ σ ∧ (4 ≤ bs_ σ ∧ (∀ σ3, σ3 = mO_ σ 6 4 → (tg_ σ3 (nx_ σ) = 7 ∧ (∃ mc5 ms6 : Nat, (mc5 ≤ bc_ σ3 ∧ (ms6 ≤ bs_ σ3 ∧ (wX7_init (nx_ σ) s0 (bu_ σ3 mc5 ms6) (fun σ9 => (∀ σ10, σ10 = bu_ σ9 (bc_ σ3 - mc5) (bs_ σ3 - ms6) → (tg_ σ10 x0 = 1 ∧ (∀ σ12, σ12 = sR_ σ10 0 2 x0 (nx_ σ) → (1 ≤ bc_ σ12 ∧ (4 ≤ bs_ σ12 ∧ (∀ σ15, σ15 = mO_ σ12 6 4 → (tg_ σ15 (nx_ σ12) = 7 ∧ (∃ mc17 ms18 : Nat, (mc17 ≤ bc_ σ15 ∧ (ms18 ≤ bs_ σ15 ∧ (wX7_init (nx_ σ12) s0 (bu_ σ15 mc17 ms18) (fun σ21 => (∀ σ22, σ22 = bu_ σ21 (bc_ σ15 - mc17) (bs_ σ15 - ms18) → (tg_ σ22 x0 = 1 ∧ (∀ σ24, σ24 = sR_ σ22 0 3 x0 (nx_ σ12) → (1 ≤ bc_ σ24 ∧ (11 ≤ bs_ σ24 ∧ (∀ σ27, σ27 = mO_ σ24 7 11 → (tg_ σ27 x0 = 1 ∧ (tg_ σ27 (nx_ σ24) = 8 ∧ (∃ mc30 ms31 : Nat, (mc30 ≤ bc_ σ27 ∧ (ms31 ≤ bs_ σ27 ∧ (wX8_init (nx_ σ24) (fR_ σ27 0 2 x0) (bu_ σ27 mc30 ms31) (fun σ34 => (∀ σ35, σ35 = bu_ σ34 (bc_ σ27 - mc30) (bs_ σ27 - ms31) → (tg_ σ35 x0 = 1 ∧ (∀ σ37, σ37 = sR_ σ35 0 5 x0 (nx_ σ24) → (1 ≤ bc_ σ37 ∧ (11 ≤ bs_ σ37 ∧ (∀ σ40, σ40 = mO_ σ37 7 11 → (tg_ σ40 x0 = 1 ∧ (tg_ σ40 (nx_ σ37) = 8 ∧ (∃ mc43 ms44 : Nat, (mc43 ≤ bc_ σ40 ∧ (ms44 ≤ bs_ σ40 ∧ (wX8_init (nx_ σ37) (fR_ σ40 0 2 x0) (bu_ σ40 mc43 ms44) (fun σ47 => (∀ σ48, σ48 = bu_ σ47 (bc_ σ40 - mc43) (bs_ σ40 - ms44) → (tg_ σ48 x0 = 1 ∧ (∀ σ50, σ50 = sR_ σ48 0 6 x0 (nx_ σ37) → (1 ≤ bc_ σ50 ∧ (11 ≤ bs_ σ50 ∧ (∀ σ53, σ53 = mO_ σ50 7 11 → (tg_ σ53 x0 = 1 ∧ (tg_ σ53 (nx_ σ50) = 8 ∧ (∃ mc56 ms57 : Nat, (mc56 ≤ bc_ σ53 ∧ (ms57 ≤ bs_ σ53 ∧ (wX8_init (nx_ σ50) (fR_ σ53 0 2 x0) (bu_ σ53 mc56 ms57) (fun σ60 => (∀ σ61, σ61 = bu_ σ60 (bc_ σ53 - mc56) (bs_ σ53 - ms57) → (tg_ σ61 x0 = 1 ∧ (∀ σ63, σ63 = sR_ σ61 0 7 x0 (nx_ σ50) → (¬ (s0 + (1 : Int32)) < 0 ∧ (((s0 + (1 : Int32))).toNatClampNeg ≤ 1000000 ∧ (1 ≤ bc_ σ63 ∧ (((s0 + (1 : Int32))).toNatClampNeg ≤ bs_ σ63 ∧ (∀ σ68, σ68 = mA_ σ63 102 ((s0 + (1 : Int32))).toNatClampNeg → (tg_ σ68 x0 = 1 ∧ (∀ σ70, σ70 = sR_ σ68 0 8 x0 (nx_ σ63) → post σ70))))))))))))))))))))))))))))))))))))))))))))))))))))))))))))))))))))))
def wX1_init_L58 (post : Hp → Prop) (x0 : Nat) (σ : Hp) : Prop :=
wX1_init_L60 post x0 (100 : Int32) σ
def wX1_init (x0 : Nat) (x1 : Int32) (σ : Hp) (post : Hp → Prop) : Prop :=
(tg_ σ x0 = 1 ∧ (1 ≤ bc_ σ ∧ (3 ≤ bs_ σ ∧ (∀ σ74, σ74 = mO_ σ 1 3 → (tg_ σ74 (nx_ σ) = 2 ∧ (wX2_init (nx_ σ)  σ74 (fun σ76 => (∀ σ77, σ77 = bu_ σ76 (bc_ σ74) (bs_ σ74) → (tg_ σ77 x0 = 1 ∧ (∀ σ79, σ79 = sR_ σ77 0 0 x0 (nx_ σ) → (1 ≤ bc_ σ79 ∧ (6 ≤ bs_ σ79 ∧ (∀ σ82, σ82 = mO_ σ79 2 6 → (tg_ σ82 x0 = 1 ∧ (tg_ σ82 (nx_ σ79) = 3 ∧ (∃ mc85 ms86 : Nat, (mc85 ≤ bc_ σ82 ∧ (ms86 ≤ bs_ σ82 ∧ (wX3_init (nx_ σ79) (fR_ σ82 0 0 x0) (bu_ σ82 mc85 ms86) (fun σ89 => (∀ σ90, σ90 = bu_ σ89 (bc_ σ82 - mc85) (bs_ σ82 - ms86) → (tg_ σ90 x0 = 1 ∧ (∀ σ92, σ92 = sR_ σ90 0 1 x0 (nx_ σ79) → (1 ≤ bc_ σ92 ∧ (2 ≤ bs_ σ92 ∧ (∀ σ95, σ95 = mO_ σ92 4 2 → (tg_ σ95 (nx_ σ92) = 5 ∧ (∃ mc97 ms98 : Nat, (mc97 ≤ bc_ σ95 ∧ (ms98 ≤ bs_ σ95 ∧ (wX5_init (nx_ σ92)  (bu_ σ95 mc97 ms98) (fun σ101 => (∀ σ102, σ102 = bu_ σ101 (bc_ σ95 - mc97) (bs_ σ95 - ms98) → (tg_ σ102 x0 = 1 ∧ (∀ σ104, σ104 = sR_ σ102 0 4 x0 (nx_ σ92) → ((x1 < (40 : Int32) →
  wX1_init_L58 post x0 σ104) ∧
 (¬ x1 < (40 : Int32) →
  (((200 : Int32) < x1 →
   wX1_init_L58 post x0 σ104) ∧
  (¬ (200 : Int32) < x1 →
   wX1_init_L60 post x0 x1 σ104)))))))))))))))))))))))))))))))))))))))
set_option maxHeartbeats 4000000 in
theorem sX1_init_L60 {G : GG_} {p : Program} {l : Launch} {e : Env} {R : Room} {s : State} {m : MethodId} {args : Array Value} {below : List Frame} {meth : Method} {c : Code} {mc ms : Nat} (Y : MX_ G p R s m args meth c cX1_init 3 RX1 none 10 224 mc ms "<init>") {post : Hp → Prop} {x0 : Nat} {s0 : Int32} {σ : Hp} (hf : wX1_init_L60 post x0 s0 σ) : WG_ G p l e R s m args below meth c (MQ below (QV_ G post) args s mc ms (FR_ G)) (BU_ R) 3 60 [(0, rv_ x0)] [.int s0] σ := by
  have ⟨X, hlk, hr, hRf, hRl, hRc, hnm⟩ := Y
  have ⟨⟨hx, hb, _, hown, hts⟩, _, _⟩ := X
  intro H locs cells slots ls hP hL hB hl
  unfold wX1_init_L60 at hf
  refine p_istore_n (i := 2) hx hb dX1_init_60 rfl hl (by decide) ⟨⟨ne_ rfl, Or.inl (ne_ rfl)⟩, trivial⟩ (fun ls hl => ?_)
  refine p_aload_n hx hb dX1_init_61 rfl (lv_at hl 1 rfl) ?_
  obtain ⟨hb1, hf⟩ := hf
  obtain ⟨hb2, hf⟩ := hf
  refine p_new X cf6_ (by decide +kernel) hP hB q551 q552 q104 hb1 hb2 dX1_init_62 (fun H hP hB => ?_)
  refine p_nmPB hP hB (fun σ3 hσ3 hP hB => ?_)
  have hf := hf σ3 hσ3
  refine lv_dup hx hb dX1_init_65 (rv_cat _) ?_
  refine lv_iload_n hx hb dX1_init_66 rfl (lv_at hl 0 rfl) ?_
  obtain ⟨ht4, hf⟩ := hf
  obtain ⟨mc5, ms6, hf⟩ := hf
  obtain ⟨hb7, hf⟩ := hf
  obtain ⟨hb8, hf⟩ := hf
  refine p_callv hL (p_runI X (Pic_bu hP mc5 ms6) ht4 (metX7_init l G _ _ _ _ _ _ X.2.2 hf) (cwI 1 hts (lw_meth q555) rfl rfl rfl (hts _ q104) (hts _ q553) (hts _ q554) rfl (by decide +kernel) ⟨Nat.le_trans (Nat.le_of_ble_eq_true rfl) hRf, Nat.le_trans (Nat.le_of_ble_eq_true rfl) hRl⟩) rfl hl.1 rfl (by rw [(ca_r (ca_r ca_n))]; decide) dX1_init_67 (BU_call hB hb7 hb8)) (fun σ9 H locs hf hP hL => ?_)
  have hB := BU_back (τ := σ9) hB hb7 hb8
  have hP := Pic_bu hP (bc_ σ3 - mc5) (bs_ σ3 - ms6)
  refine p_nmPB hP hB (fun σ10 hσ10 hP hB => ?_)
  have hf := hf σ10 hσ10
  obtain ⟨ht11, hf⟩ := hf
  refine p_pR X cf0_ (k := 2) (by decide) rfl hP hL ht11 (p_ow hP ht11 rfl) q628 (fun _ h => h) (Or.inl rfl) dX1_init_70 (fun H locs hP hL => ?_)
  refine p_nmPB hP hB (fun σ12 hσ12 hP hB => ?_)
  have hf := hf σ12 hσ12
  have ht11 : tg_ σ12 x0 = 1 := by rw [hσ12]; exact ht11
  refine p_aload_n hx hb dX1_init_73 rfl (lv_at hl 1 rfl) ?_
  obtain ⟨hb13, hf⟩ := hf
  obtain ⟨hb14, hf⟩ := hf
  refine p_new X cf6_ (by decide +kernel) hP hB q551 q552 q104 hb13 hb14 dX1_init_74 (fun H hP hB => ?_)
  refine p_nmPB hP hB (fun σ15 hσ15 hP hB => ?_)
  have hf := hf σ15 hσ15
  refine lv_dup hx hb dX1_init_77 (rv_cat _) ?_
  refine lv_iload_n hx hb dX1_init_78 rfl (lv_at hl 0 rfl) ?_
  obtain ⟨ht16, hf⟩ := hf
  obtain ⟨mc17, ms18, hf⟩ := hf
  obtain ⟨hb19, hf⟩ := hf
  obtain ⟨hb20, hf⟩ := hf
  refine p_callv hL (p_runI X (Pic_bu hP mc17 ms18) ht16 (metX7_init l G _ _ _ _ _ _ X.2.2 hf) (cwI 1 hts (lw_meth q555) rfl rfl rfl (hts _ q104) (hts _ q553) (hts _ q554) rfl (by decide +kernel) ⟨Nat.le_trans (Nat.le_of_ble_eq_true rfl) hRf, Nat.le_trans (Nat.le_of_ble_eq_true rfl) hRl⟩) rfl hl.1 rfl (by rw [(ca_r (ca_r ca_n))]; decide) dX1_init_79 (BU_call hB hb19 hb20)) (fun σ21 H locs hf hP hL => ?_)
  have hB := BU_back (τ := σ21) hB hb19 hb20
  have hP := Pic_bu hP (bc_ σ15 - mc17) (bs_ σ15 - ms18)
  refine p_nmPB hP hB (fun σ22 hσ22 hP hB => ?_)
  have hf := hf σ22 hσ22
  obtain ⟨ht23, hf⟩ := hf
  refine p_pR X cf0_ (k := 3) (by decide) rfl hP hL ht23 (p_ow hP ht23 rfl) q629 (fun _ h => h) (Or.inl rfl) dX1_init_82 (fun H locs hP hL => ?_)
  refine p_nmPB hP hB (fun σ24 hσ24 hP hB => ?_)
  have hf := hf σ24 hσ24
  have ht23 : tg_ σ24 x0 = 1 := by rw [hσ24]; exact ht23
  refine p_aload_n hx hb dX1_init_85 rfl (lv_at hl 1 rfl) ?_
  obtain ⟨hb25, hf⟩ := hf
  obtain ⟨hb26, hf⟩ := hf
  refine p_new X cf7_ (by decide +kernel) hP hB q580 q581 q105 hb25 hb26 dX1_init_86 (fun H hP hB => ?_)
  refine p_nmPB hP hB (fun σ27 hσ27 hP hB => ?_)
  have hf := hf σ27 hσ27
  refine lv_dup hx hb dX1_init_89 (rv_cat _) ?_
  refine p_aload_n hx hb dX1_init_90 rfl (lv_at hl 1 rfl) ?_
  obtain ⟨ht28, hf⟩ := hf
  refine p_gR X cf0_ (k := 2) (by decide) rfl hP ht28 q628 (fun _ h => h) dX1_init_91 ?_
  obtain ⟨ht29, hf⟩ := hf
  obtain ⟨mc30, ms31, hf⟩ := hf
  obtain ⟨hb32, hf⟩ := hf
  obtain ⟨hb33, hf⟩ := hf
  refine p_callv hL (p_runI X (Pic_bu hP mc30 ms31) ht29 (metX8_init l G _ _ _ _ _ _ X.2.2 hf) (cwI 1 hts (lw_meth q584) rfl rfl rfl (hts _ q105) (hts _ q582) (hts _ q583) rfl (by decide +kernel) ⟨Nat.le_trans (Nat.le_of_ble_eq_true rfl) hRf, Nat.le_trans (Nat.le_of_ble_eq_true rfl) hRl⟩) rfl hl.1 rfl (by rw [(ca_r (ca_r ca_n))]; decide) dX1_init_94 (BU_call hB hb32 hb33)) (fun σ34 H locs hf hP hL => ?_)
  have hB := BU_back (τ := σ34) hB hb32 hb33
  have hP := Pic_bu hP (bc_ σ27 - mc30) (bs_ σ27 - ms31)
  refine p_nmPB hP hB (fun σ35 hσ35 hP hB => ?_)
  have hf := hf σ35 hσ35
  obtain ⟨ht36, hf⟩ := hf
  refine p_pR X cf0_ (k := 5) (by decide) rfl hP hL ht36 (p_ow hP ht36 rfl) q631 (fun _ h => h) (Or.inr ⟨rfl, hnm, rfl⟩) dX1_init_97 (fun H locs hP hL => ?_)
  refine p_nmPB hP hB (fun σ37 hσ37 hP hB => ?_)
  have hf := hf σ37 hσ37
  have ht36 : tg_ σ37 x0 = 1 := by rw [hσ37]; exact ht36
  refine p_aload_n hx hb dX1_init_100 rfl (lv_at hl 1 rfl) ?_
  obtain ⟨hb38, hf⟩ := hf
  obtain ⟨hb39, hf⟩ := hf
  refine p_new X cf7_ (by decide +kernel) hP hB q580 q581 q105 hb38 hb39 dX1_init_101 (fun H hP hB => ?_)
  refine p_nmPB hP hB (fun σ40 hσ40 hP hB => ?_)
  have hf := hf σ40 hσ40
  refine lv_dup hx hb dX1_init_104 (rv_cat _) ?_
  refine p_aload_n hx hb dX1_init_105 rfl (lv_at hl 1 rfl) ?_
  obtain ⟨ht41, hf⟩ := hf
  refine p_gR X cf0_ (k := 2) (by decide) rfl hP ht41 q628 (fun _ h => h) dX1_init_106 ?_
  obtain ⟨ht42, hf⟩ := hf
  obtain ⟨mc43, ms44, hf⟩ := hf
  obtain ⟨hb45, hf⟩ := hf
  obtain ⟨hb46, hf⟩ := hf
  refine p_callv hL (p_runI X (Pic_bu hP mc43 ms44) ht42 (metX8_init l G _ _ _ _ _ _ X.2.2 hf) (cwI 1 hts (lw_meth q584) rfl rfl rfl (hts _ q105) (hts _ q582) (hts _ q583) rfl (by decide +kernel) ⟨Nat.le_trans (Nat.le_of_ble_eq_true rfl) hRf, Nat.le_trans (Nat.le_of_ble_eq_true rfl) hRl⟩) rfl hl.1 rfl (by rw [(ca_r (ca_r ca_n))]; decide) dX1_init_109 (BU_call hB hb45 hb46)) (fun σ47 H locs hf hP hL => ?_)
  have hB := BU_back (τ := σ47) hB hb45 hb46
  have hP := Pic_bu hP (bc_ σ40 - mc43) (bs_ σ40 - ms44)
  refine p_nmPB hP hB (fun σ48 hσ48 hP hB => ?_)
  have hf := hf σ48 hσ48
  obtain ⟨ht49, hf⟩ := hf
  refine p_pR X cf0_ (k := 6) (by decide) rfl hP hL ht49 (p_ow hP ht49 rfl) q632 (fun _ h => h) (Or.inr ⟨rfl, hnm, rfl⟩) dX1_init_112 (fun H locs hP hL => ?_)
  refine p_nmPB hP hB (fun σ50 hσ50 hP hB => ?_)
  have hf := hf σ50 hσ50
  have ht49 : tg_ σ50 x0 = 1 := by rw [hσ50]; exact ht49
  refine p_aload_n hx hb dX1_init_115 rfl (lv_at hl 1 rfl) ?_
  obtain ⟨hb51, hf⟩ := hf
  obtain ⟨hb52, hf⟩ := hf
  refine p_new X cf7_ (by decide +kernel) hP hB q580 q581 q105 hb51 hb52 dX1_init_116 (fun H hP hB => ?_)
  refine p_nmPB hP hB (fun σ53 hσ53 hP hB => ?_)
  have hf := hf σ53 hσ53
  refine lv_dup hx hb dX1_init_119 (rv_cat _) ?_
  refine p_aload_n hx hb dX1_init_120 rfl (lv_at hl 1 rfl) ?_
  obtain ⟨ht54, hf⟩ := hf
  refine p_gR X cf0_ (k := 2) (by decide) rfl hP ht54 q628 (fun _ h => h) dX1_init_121 ?_
  obtain ⟨ht55, hf⟩ := hf
  obtain ⟨mc56, ms57, hf⟩ := hf
  obtain ⟨hb58, hf⟩ := hf
  obtain ⟨hb59, hf⟩ := hf
  refine p_callv hL (p_runI X (Pic_bu hP mc56 ms57) ht55 (metX8_init l G _ _ _ _ _ _ X.2.2 hf) (cwI 1 hts (lw_meth q584) rfl rfl rfl (hts _ q105) (hts _ q582) (hts _ q583) rfl (by decide +kernel) ⟨Nat.le_trans (Nat.le_of_ble_eq_true rfl) hRf, Nat.le_trans (Nat.le_of_ble_eq_true rfl) hRl⟩) rfl hl.1 rfl (by rw [(ca_r (ca_r ca_n))]; decide) dX1_init_124 (BU_call hB hb58 hb59)) (fun σ60 H locs hf hP hL => ?_)
  have hB := BU_back (τ := σ60) hB hb58 hb59
  have hP := Pic_bu hP (bc_ σ53 - mc56) (bs_ σ53 - ms57)
  refine p_nmPB hP hB (fun σ61 hσ61 hP hB => ?_)
  have hf := hf σ61 hσ61
  obtain ⟨ht62, hf⟩ := hf
  refine p_pR X cf0_ (k := 7) (by decide) rfl hP hL ht62 (p_ow hP ht62 rfl) q633 (fun _ h => h) (Or.inr ⟨rfl, hnm, rfl⟩) dX1_init_127 (fun H locs hP hL => ?_)
  refine p_nmPB hP hB (fun σ63 hσ63 hP hB => ?_)
  have hf := hf σ63 hσ63
  have ht62 : tg_ σ63 x0 = 1 := by rw [hσ63]; exact ht62
  refine p_aload_n hx hb dX1_init_130 rfl (lv_at hl 1 rfl) ?_
  refine lv_iload_n hx hb dX1_init_131 rfl (lv_at hl 0 rfl) ?_
  refine lv_iconst (v := 1) hx hb dX1_init_132 (by decide) ?_
  refine lv_iadd hx hb dX1_init_133 ?_
  obtain ⟨hb64, hf⟩ := hf
  obtain ⟨hb65, hf⟩ := hf
  obtain ⟨hb66, hf⟩ := hf
  obtain ⟨hb67, hf⟩ := hf
  refine p_newa X (atype := .int) (t := 102) rfl (by decide) (by decide) q578 hP hB hb64 hb65 hb66 hb67 dX1_init_134 (fun H hP hB => ?_)
  refine p_nmPB hP hB (fun σ68 hσ68 hP hB => ?_)
  have hf := hf σ68 hσ68
  obtain ⟨ht69, hf⟩ := hf
  refine p_pR X cf0_ (k := 8) (by decide) rfl hP hL ht69 (p_ow hP ht69 rfl) q634 (fun _ h => h) (Or.inr ⟨rfl, hnm, rfl⟩) dX1_init_136 (fun H locs hP hL => ?_)
  refine p_nmPB hP hB (fun σ70 hσ70 hP hB => ?_)
  have hf := hf σ70 hσ70
  have ht69 : tg_ σ70 x0 = 1 := by rw [hσ70]; exact ht69
  exact p_vret X hlk hP hL (BU_le hB hRc).1 (BU_le hB hRc).2 hr dX1_init_139 hf
set_option maxHeartbeats 4000000 in
theorem sX1_init_L58 {G : GG_} {p : Program} {l : Launch} {e : Env} {R : Room} {s : State} {m : MethodId} {args : Array Value} {below : List Frame} {meth : Method} {c : Code} {mc ms : Nat} (Y : MX_ G p R s m args meth c cX1_init 3 RX1 none 10 224 mc ms "<init>") {post : Hp → Prop} {x0 : Nat} {σ : Hp} (hf : wX1_init_L58 post x0 σ) : WG_ G p l e R s m args below meth c (MQ below (QV_ G post) args s mc ms (FR_ G)) (BU_ R) 3 58 [(0, rv_ x0)] [] σ := by
  have ⟨X, hlk, hr, hRf, hRl, hRc, hnm⟩ := Y
  have ⟨⟨hx, hb, _, hown, hts⟩, _, _⟩ := X
  intro H locs cells slots ls hP hL hB hl
  unfold wX1_init_L58 at hf
  refine lv_bipush (v := 100) hx hb dX1_init_58 (by decide) ?_
  exact sX1_init_L60 Y hf _ _ _ _ _ hP hL hB (lv_sub hl [0] rfl)
set_option maxHeartbeats 4000000 in
theorem sX1_init {G : GG_} {p : Program} {l : Launch} {e : Env} {R : Room} {s : State} {m : MethodId} {args : Array Value} {below : List Frame} {meth : Method} {c : Code} {mc ms : Nat} (Y : MX_ G p R s m args meth c cX1_init 3 RX1 none 10 224 mc ms "<init>") {post : Hp → Prop} {x0 : Nat} {x1 : Int32} {σ : Hp} (hf : wX1_init x0 x1 σ post) : WG_ G p l e R s m args below meth c (MQ below (QV_ G post) args s mc ms (FR_ G)) (BU_ R) 3 0 [(0, rv_ x0), (1, .int x1)] [] σ := by
  have ⟨X, hlk, hr, hRf, hRl, hRc, hnm⟩ := Y
  have ⟨⟨hx, hb, _, hown, hts⟩, _, _⟩ := X
  intro H locs cells slots ls hP hL hB hl
  unfold wX1_init at hf
  refine p_aload_n hx hb dX1_init_0 rfl (lv_at hl 0 rfl) ?_
  obtain ⟨ht71, hf⟩ := hf
  refine p_objInit X hP ht71 q118 q119 q120 hl.1 dX1_init_1 (Nat.le_trans (by decide) hRf) (by decide) (Nat.le_trans (by decide) hRl) ?_
  refine p_aload_n hx hb dX1_init_4 rfl (lv_at hl 0 rfl) ?_
  obtain ⟨hb72, hf⟩ := hf
  obtain ⟨hb73, hf⟩ := hf
  refine p_new X cf1_ (by decide +kernel) hP hB q121 q122 q86 hb72 hb73 dX1_init_5 (fun H hP hB => ?_)
  refine p_nmPB hP hB (fun σ74 hσ74 hP hB => ?_)
  have hf := hf σ74 hσ74
  refine lv_dup hx hb dX1_init_8 (rv_cat _) ?_
  obtain ⟨ht75, hf⟩ := hf
  refine p_callv hL (p_runIN X hP ht75 (metX2_init l G _ _ _ X.2.2 hf) ⟨va_cnB 0 hts (lw_meth q125) rfl rfl rfl (p_nest X q123) (hts _ q86) (by decide +kernel) ⟨Nat.le_trans (Nat.le_of_ble_eq_true rfl) hRf, Nat.le_trans (Nat.le_of_ble_eq_true rfl) hRl⟩, rfl, hts _ q124⟩ rfl hl.1 rfl (by rw [(ca_r (ca_r ca_n))]; decide) dX1_init_9 (BU_call hB (Nat.zero_le _) (Nat.zero_le _))) (fun σ76 H locs hf hP hL => ?_)
  have hB := BU_keep (τ := σ76) hB
  have hP := Pic_bu hP (bc_ σ74) (bs_ σ74)
  refine p_nmPB hP hB (fun σ77 hσ77 hP hB => ?_)
  have hf := hf σ77 hσ77
  obtain ⟨ht78, hf⟩ := hf
  refine p_pR X cf0_ (k := 0) (by decide) rfl hP hL ht78 (p_ow hP ht78 rfl) q626 (fun _ h => h) (Or.inr ⟨rfl, hnm, rfl⟩) dX1_init_12 (fun H locs hP hL => ?_)
  refine p_nmPB hP hB (fun σ79 hσ79 hP hB => ?_)
  have hf := hf σ79 hσ79
  have ht78 : tg_ σ79 x0 = 1 := by rw [hσ79]; exact ht78
  refine p_aload_n hx hb dX1_init_15 rfl (lv_at hl 0 rfl) ?_
  obtain ⟨hb80, hf⟩ := hf
  obtain ⟨hb81, hf⟩ := hf
  refine p_new X cf2_ (by decide +kernel) hP hB q141 q142 q87 hb80 hb81 dX1_init_16 (fun H hP hB => ?_)
  refine p_nmPB hP hB (fun σ82 hσ82 hP hB => ?_)
  have hf := hf σ82 hσ82
  refine lv_dup hx hb dX1_init_19 (rv_cat _) ?_
  refine p_aload_n hx hb dX1_init_20 rfl (lv_at hl 0 rfl) ?_
  obtain ⟨ht83, hf⟩ := hf
  refine p_gR X cf0_ (k := 0) (by decide) rfl hP ht83 q626 (fun _ h => h) dX1_init_21 ?_
  obtain ⟨ht84, hf⟩ := hf
  obtain ⟨mc85, ms86, hf⟩ := hf
  obtain ⟨hb87, hf⟩ := hf
  obtain ⟨hb88, hf⟩ := hf
  refine p_callv hL (p_runI X (Pic_bu hP mc85 ms86) ht84 (metX3_init l G _ _ _ _ _ _ X.2.2 hf) (cwI 1 hts (lw_meth q145) rfl rfl rfl (hts _ q87) (hts _ q143) (hts _ q144) rfl (by decide +kernel) ⟨Nat.le_trans (Nat.le_of_ble_eq_true rfl) hRf, Nat.le_trans (Nat.le_of_ble_eq_true rfl) hRl⟩) rfl hl.1 rfl (by rw [(ca_r (ca_r ca_n))]; decide) dX1_init_24 (BU_call hB hb87 hb88)) (fun σ89 H locs hf hP hL => ?_)
  have hB := BU_back (τ := σ89) hB hb87 hb88
  have hP := Pic_bu hP (bc_ σ82 - mc85) (bs_ σ82 - ms86)
  refine p_nmPB hP hB (fun σ90 hσ90 hP hB => ?_)
  have hf := hf σ90 hσ90
  obtain ⟨ht91, hf⟩ := hf
  refine p_pR X cf0_ (k := 1) (by decide) rfl hP hL ht91 (p_ow hP ht91 rfl) q627 (fun _ h => h) (Or.inr ⟨rfl, hnm, rfl⟩) dX1_init_27 (fun H locs hP hL => ?_)
  refine p_nmPB hP hB (fun σ92 hσ92 hP hB => ?_)
  have hf := hf σ92 hσ92
  have ht91 : tg_ σ92 x0 = 1 := by rw [hσ92]; exact ht91
  refine p_aload_n hx hb dX1_init_30 rfl (lv_at hl 0 rfl) ?_
  obtain ⟨hb93, hf⟩ := hf
  obtain ⟨hb94, hf⟩ := hf
  refine p_new X cf4_ (by decide +kernel) hP hB q204 q205 q92 hb93 hb94 dX1_init_31 (fun H hP hB => ?_)
  refine p_nmPB hP hB (fun σ95 hσ95 hP hB => ?_)
  have hf := hf σ95 hσ95
  refine lv_dup hx hb dX1_init_34 (rv_cat _) ?_
  obtain ⟨ht96, hf⟩ := hf
  obtain ⟨mc97, ms98, hf⟩ := hf
  obtain ⟨hb99, hf⟩ := hf
  obtain ⟨hb100, hf⟩ := hf
  refine p_callv hL (p_runI X (Pic_bu hP mc97 ms98) ht96 (metX5_init l G _ _ _ _ _ X.2.2 hf) (cwI 0 hts (lw_meth q208) rfl rfl rfl (hts _ q92) (hts _ q206) (hts _ q207) rfl (by decide +kernel) ⟨Nat.le_trans (Nat.le_of_ble_eq_true rfl) hRf, Nat.le_trans (Nat.le_of_ble_eq_true rfl) hRl⟩) rfl hl.1 rfl (by rw [(ca_r (ca_r ca_n))]; decide) dX1_init_35 (BU_call hB hb99 hb100)) (fun σ101 H locs hf hP hL => ?_)
  have hB := BU_back (τ := σ101) hB hb99 hb100
  have hP := Pic_bu hP (bc_ σ95 - mc97) (bs_ σ95 - ms98)
  refine p_nmPB hP hB (fun σ102 hσ102 hP hB => ?_)
  have hf := hf σ102 hσ102
  obtain ⟨ht103, hf⟩ := hf
  refine p_pR X cf0_ (k := 4) (by decide) rfl hP hL ht103 (p_ow hP ht103 rfl) q630 (fun _ h => h) (Or.inl rfl) dX1_init_38 (fun H locs hP hL => ?_)
  refine p_nmPB hP hB (fun σ104 hσ104 hP hB => ?_)
  have hf := hf σ104 hσ104
  have ht103 : tg_ σ104 x0 = 1 := by rw [hσ104]; exact ht103
  refine lv_iload_n hx hb dX1_init_41 rfl (lv_at hl 1 rfl) ?_
  refine lv_bipush (v := 40) hx hb dX1_init_42 (by decide) ?_
  refine lv_icmp_lt (tgt := 58) hx hb dX1_init_44 (by decide) (fun c105 => ?_) (fun c105 => ?_)
  · have hf := hf.1 c105
    exact sX1_init_L58 Y hf _ _ _ _ _ hP hL hB (lv_sub hl [0] rfl)
  · have hf := hf.2 c105
    refine lv_iload_n hx hb dX1_init_47 rfl (lv_at hl 1 rfl) ?_
    refine lv_sipush (v := 200) hx hb dX1_init_48 (by decide) ?_
    refine lv_icmp_gt (tgt := 58) hx hb dX1_init_51 (by decide) (fun c106 => ?_) (fun c106 => ?_)
    · have hf := hf.1 c106
      exact sX1_init_L58 Y hf _ _ _ _ _ hP hL hB (lv_sub hl [0] rfl)
    · have hf := hf.2 c106
      refine lv_iload_n hx hb dX1_init_54 rfl (lv_at hl 1 rfl) ?_
      refine lv_goto (tgt := 60) hx hb dX1_init_55 (by decide) ?_
      exact sX1_init_L60 Y hf _ _ _ _ _ hP hL hB (lv_sub hl [0] rfl)
set_option maxHeartbeats 4000000 in
theorem metX1_init (l : Launch) (G : GG_) (mc ms : Nat) (x0 : Nat) (x1 : Int32) (σ : Hp) (post : Hp → Prop) (hG : GOK_ G) (hf : wX1_init x0 x1 (bu_ σ mc ms) post) : Met l yX1_init (ws_ yX1_init cX1_init 3 none) { frames := 10, cells := mc, slots := ms, locals := 224 } (PC_ G [rv_ x0, .int x1] (bu_ σ mc ms)) (QV_ G post) mc ms (FR_ G) := by
  refine Met.ofW (cc := cX1_init) (maxL := 3) (ret := none) (by decide) rfl ?_
  intro p e s m args below meth c s₁ B hml hv
  obtain ⟨rfl, hP, hW⟩ := hv
  have hts := atoms_spec (ws := ws_ yX1_init cX1_init 3 none) B.pre
  have hts : ∀ w ∈ lw_all, w.before _ s = true := fun w h => hts w (List.mem_cons_of_mem _ h)
  rw [lg_entry_eq]
  have hl := en_entry [rv_ x0, .int x1] [1, 1] (n := 3) (ca_r (ca_i ca_n)) (by decide)
  exact sX1_init ⟨⟨⟨B.exec, B.bytes, hml, findClass_of_methodNamed B.named, hts⟩, hW, hG⟩, B.notSynchronized, B.returns, Nat.le_refl _, Nat.le_refl _, ⟨rfl, rfl⟩, (name_of_methodNamed B.named B.method).1⟩ hf _ _ _ _ _ hP (LO_nil G) (BU_in ⟨rfl, rfl⟩) hl
abbrev cX1_in : ByteArray := prog_1_method_5_code
def yX1_in : MethodName := ⟨RX1, "in", "(III)Z"⟩
theorem dX1_in_0 : decode cX1_in 0 = .ok (.iload_n 0, 1) := by decide +kernel
theorem dX1_in_1 : decode cX1_in 1 = .ok (.iload_n 1, 1) := by decide +kernel
theorem dX1_in_2 : decode cX1_in 2 = .ok (.if_icmp .lt 12, 3) := by decide +kernel
theorem dX1_in_5 : decode cX1_in 5 = .ok (.iload_n 0, 1) := by decide +kernel
theorem dX1_in_6 : decode cX1_in 6 = .ok (.iload_n 2, 1) := by decide +kernel
theorem dX1_in_7 : decode cX1_in 7 = .ok (.if_icmp .gt 7, 3) := by decide +kernel
theorem dX1_in_10 : decode cX1_in 10 = .ok (.iconst 1, 1) := by decide +kernel
theorem dX1_in_11 : decode cX1_in 11 = .ok (.goto 4, 3) := by decide +kernel
theorem dX1_in_14 : decode cX1_in 14 = .ok (.iconst 0, 1) := by decide +kernel
theorem dX1_in_15 : decode cX1_in 15 = .ok (.ireturn, 1) := by decide +kernel
/-- WriteOnceDisc.in(III)Z -/
def wX1_in (x0 : Int32) (x1 : Int32) (x2 : Int32) (σ : Hp) (post : Int32 → Prop) : Prop :=
((x0 < x1 →
  post (0 : Int32)) ∧
 (¬ x0 < x1 →
  ((x2 < x0 →
   post (0 : Int32)) ∧
  (¬ x2 < x0 →
   post (1 : Int32)))))
set_option maxHeartbeats 4000000 in
theorem sX1_in {G : GG_} {p : Program} {l : Launch} {e : Env} {R : Room} {s : State} {m : MethodId} {args : Array Value} {below : List Frame} {meth : Method} {c : Code} (Y : MX_ G p R s m args meth c cX1_in 3 RX1 (some Jvm.ClassFile.FieldType.boolean) 1 20 0 0 "in") {post : Int32 → Prop} {x0 : Int32} {x1 : Int32} {x2 : Int32} {σ : Hp} (hf : wX1_in x0 x1 x2 σ post) : WG_ G p l e R s m args below meth c (MQ below (QI_ G (fun r τ => τ = σ ∧ post r)) args s 0 0 (FR_ G)) BN_ 3 0 [(0, .int x0), (1, .int x1), (2, .int x2)] [] σ := by
  have ⟨X, hlk, hr, hRf, hRl, hRc, hnm⟩ := Y
  have ⟨⟨hx, hb, _, hown, hts⟩, _, _⟩ := X
  intro H locs cells slots ls hP hL hB hl
  obtain ⟨rfl, rfl⟩ := hB
  unfold wX1_in at hf
  refine lv_iload_n hx hb dX1_in_0 rfl (lv_at hl 0 rfl) ?_
  refine lv_iload_n hx hb dX1_in_1 rfl (lv_at hl 1 rfl) ?_
  refine lv_icmp_lt (tgt := 14) hx hb dX1_in_2 (by decide) (fun c1 => ?_) (fun c1 => ?_)
  · have hf := hf.1 c1
    refine lv_iconst (v := 0) hx hb dX1_in_14 (by decide) ?_
    exact p_zret X hlk hP hL (Nat.le_refl _) (Nat.le_refl _) hr nr_0 dX1_in_15 ⟨rfl, hf⟩
  · have hf := hf.2 c1
    refine lv_iload_n hx hb dX1_in_5 rfl (lv_at hl 0 rfl) ?_
    refine lv_iload_n hx hb dX1_in_6 rfl (lv_at hl 2 rfl) ?_
    refine lv_icmp_gt (tgt := 14) hx hb dX1_in_7 (by decide) (fun c2 => ?_) (fun c2 => ?_)
    · have hf := hf.1 c2
      refine lv_iconst (v := 0) hx hb dX1_in_14 (by decide) ?_
      exact p_zret X hlk hP hL (Nat.le_refl _) (Nat.le_refl _) hr nr_0 dX1_in_15 ⟨rfl, hf⟩
    · have hf := hf.2 c2
      refine lv_iconst (v := 1) hx hb dX1_in_10 (by decide) ?_
      refine lv_goto (tgt := 15) hx hb dX1_in_11 (by decide) ?_
      exact p_zret X hlk hP hL (Nat.le_refl _) (Nat.le_refl _) hr nr_1 dX1_in_15 ⟨rfl, hf⟩
set_option maxHeartbeats 4000000 in
theorem metX1_in (l : Launch) (G : GG_) (x0 : Int32) (x1 : Int32) (x2 : Int32) (σ : Hp) (post : Int32 → Prop) (hG : GOK_ G) (hf : wX1_in x0 x1 x2 σ post) : Met l yX1_in (ws_ yX1_in cX1_in 3 (some Jvm.ClassFile.FieldType.boolean)) { frames := 1, cells := 0, slots := 0, locals := 20 } (PC_ G [.int x0, .int x1, .int x2] σ) (QI_ G (fun r τ => τ = σ ∧ post r)) 0 0 (FR_ G) := by
  refine Met.ofW (cc := cX1_in) (maxL := 3) (ret := (some Jvm.ClassFile.FieldType.boolean)) (by decide) rfl ?_
  intro p e s m args below meth c s₁ B hml hv
  obtain ⟨rfl, hP, hW⟩ := hv
  have hts := atoms_spec (ws := ws_ yX1_in cX1_in 3 (some Jvm.ClassFile.FieldType.boolean)) B.pre
  have hts : ∀ w ∈ lw_all, w.before _ s = true := fun w h => hts w (List.mem_cons_of_mem _ h)
  rw [lg_entry_eq]
  have hl := en_entry [.int x0, .int x1, .int x2] [1, 1, 1] (n := 3) (ca_i (ca_i (ca_i ca_n))) (by decide)
  exact sX1_in ⟨⟨⟨B.exec, B.bytes, hml, findClass_of_methodNamed B.named, hts⟩, hW, hG⟩, B.notSynchronized, B.returns, Nat.le_refl _, Nat.le_refl _, ⟨rfl, rfl⟩, (name_of_methodNamed B.named B.method).1⟩ hf _ _ _ _ _ hP (LO_nil G) ⟨rfl, rfl⟩ hl
abbrev cX1_defect : ByteArray := prog_1_method_6_code
def yX1_defect : MethodName := ⟨RX1, "defect", "(I)Z"⟩
theorem dX1_defect_0 : decode cX1_defect 0 = .ok (.iload_n 1, 1) := by decide +kernel
theorem dX1_defect_1 : decode cX1_defect 1 = .ok (.iconst 0, 1) := by decide +kernel
theorem dX1_defect_2 : decode cX1_defect 2 = .ok (.aload_n 0, 1) := by decide +kernel
theorem dX1_defect_3 : decode cX1_defect 3 = .ok (.getfield 64, 3) := by decide +kernel
theorem dX1_defect_6 : decode cX1_defect 6 = .ok (.getfield 90, 3) := by decide +kernel
theorem dX1_defect_9 : decode cX1_defect 9 = .ok (.iconst 1, 1) := by decide +kernel
theorem dX1_defect_10 : decode cX1_defect 10 = .ok (.isub, 1) := by decide +kernel
theorem dX1_defect_11 : decode cX1_defect 11 = .ok (.invokestatic 94, 3) := by decide +kernel
theorem dX1_defect_14 : decode cX1_defect 14 = .ok (.ifCond .ne 5, 3) := by decide +kernel
theorem dX1_defect_17 : decode cX1_defect 17 = .ok (.iconst 0, 1) := by decide +kernel
theorem dX1_defect_18 : decode cX1_defect 18 = .ok (.ireturn, 1) := by decide +kernel
theorem dX1_defect_19 : decode cX1_defect 19 = .ok (.aload_n 0, 1) := by decide +kernel
theorem dX1_defect_20 : decode cX1_defect 20 = .ok (.getfield 64, 3) := by decide +kernel
theorem dX1_defect_23 : decode cX1_defect 23 = .ok (.getfield 98, 3) := by decide +kernel
theorem dX1_defect_26 : decode cX1_defect 26 = .ok (.iload_n 1, 1) := by decide +kernel
theorem dX1_defect_27 : decode cX1_defect 27 = .ok (.iconst 1, 1) := by decide +kernel
theorem dX1_defect_28 : decode cX1_defect 28 = .ok (.bastore, 1) := by decide +kernel
theorem dX1_defect_29 : decode cX1_defect 29 = .ok (.iconst 1, 1) := by decide +kernel
theorem dX1_defect_30 : decode cX1_defect 30 = .ok (.ireturn, 1) := by decide +kernel
/-- WriteOnceDisc.defect(I)Z -/
def wX1_defect (x0 : Nat) (x1 : Int32) (σ : Hp) (post : Int32 → Hp → Prop) : Prop :=
(tg_ σ x0 = 1 ∧ (tg_ σ (fR_ σ 0 2 x0) = 7 ∧ (wX1_in x1 (0 : Int32) ((fI_ σ 6 0 (fR_ σ 0 2 x0)) - (1 : Int32)) σ (fun r3 => ((¬ r3 = 0 →
  (tg_ σ (fR_ σ 6 3 (fR_ σ 0 2 x0)) = 101 ∧ (vp_in x1 (ln_ σ (fR_ σ 6 3 (fR_ σ 0 2 x0))) ∧ (∀ σ7, σ7 = wI_ σ (fR_ σ 6 3 (fR_ σ 0 2 x0)) (x1).toNatClampNeg (vp_nar .boolean (1 : Int32)) → post (1 : Int32) σ7)))) ∧
 (r3 = 0 →
  post (0 : Int32) σ))))))
set_option maxHeartbeats 4000000 in
theorem sX1_defect {G : GG_} {p : Program} {l : Launch} {e : Env} {R : Room} {s : State} {m : MethodId} {args : Array Value} {below : List Frame} {meth : Method} {c : Code} (Y : MX_ G p R s m args meth c cX1_defect 2 RX1 (some Jvm.ClassFile.FieldType.boolean) 2 42 0 0 "defect") {post : Int32 → Hp → Prop} {x0 : Nat} {x1 : Int32} {σ : Hp} (hf : wX1_defect x0 x1 σ post) : WG_ G p l e R s m args below meth c (MQ below (QI_ G post) args s 0 0 (FR_ G)) BN_ 2 0 [(0, rv_ x0), (1, .int x1)] [] σ := by
  have ⟨X, hlk, hr, hRf, hRl, hRc, hnm⟩ := Y
  have ⟨⟨hx, hb, _, hown, hts⟩, _, _⟩ := X
  intro H locs cells slots ls hP hL hB hl
  obtain ⟨rfl, rfl⟩ := hB
  unfold wX1_defect at hf
  refine lv_iload_n hx hb dX1_defect_0 rfl (lv_at hl 1 rfl) ?_
  refine lv_iconst (v := 0) hx hb dX1_defect_1 (by decide) ?_
  refine p_aload_n hx hb dX1_defect_2 rfl (lv_at hl 0 rfl) ?_
  obtain ⟨ht1, hf⟩ := hf
  refine p_gR X cf0_ (k := 2) (by decide) rfl hP ht1 q628 (fun _ h => h) dX1_defect_3 ?_
  obtain ⟨ht2, hf⟩ := hf
  refine p_gI X cf6_ (k := 0) (by decide) rfl hP ht2 q559 (fun _ h => h) dX1_defect_6 ?_
  refine lv_iconst (v := 1) hx hb dX1_defect_9 (by decide) ?_
  refine lv_isub hx hb dX1_defect_10 ?_
  refine p_calli hL (p_runS X hP (metX1_in l G _ _ _ _ _ X.2.2 hf) (va_cwS 3 hts (lw_S q664 q665 q85 q666) rfl rfl rfl (by decide +kernel) ⟨Nat.le_trans (Nat.le_of_ble_eq_true rfl) hRf, Nat.le_trans (Nat.le_of_ble_eq_true rfl) hRl⟩) rfl hl.1 rfl (by decide) dX1_defect_11 ⟨Nat.zero_le _, Nat.zero_le _⟩) (fun r3 σ₁ H locs hf hP hL => ?_)
  obtain ⟨e₁, hf⟩ := hf
  rw [e₁] at hP
  refine lv_if_ne (tgt := 19) hx hb dX1_defect_14 (by decide) (fun c4 => ?_) (fun c4 => ?_)
  · have hf := hf.1 c4
    refine p_aload_n hx hb dX1_defect_19 rfl (lv_at hl 0 rfl) ?_
    refine p_gR X cf0_ (k := 2) (by decide) rfl hP ht1 q628 (fun _ h => h) dX1_defect_20 ?_
    refine p_gR X cf6_ (k := 3) (by decide) rfl hP ht2 q568 (fun _ h => h) dX1_defect_23 ?_
    refine lv_iload_n hx hb dX1_defect_26 rfl (lv_at hl 1 rfl) ?_
    refine lv_iconst (v := 1) hx hb dX1_defect_27 (by decide) ?_
    obtain ⟨ht5, hf⟩ := hf
    obtain ⟨hi6, hf⟩ := hf
    refine p_zast X hP hL ht5 (p_ow hP ht5 rfl) hi6 dX1_defect_28 (fun H locs hP hL => ?_)
    refine p_nmP hP (fun σ7 hσ7 hP => ?_)
    have hf := hf σ7 hσ7
    have ht1 : tg_ σ7 x0 = 1 := by rw [hσ7]; exact ht1
    refine lv_iconst (v := 1) hx hb dX1_defect_29 (by decide) ?_
    exact p_zret X hlk hP hL (Nat.le_refl _) (Nat.le_refl _) hr nr_1 dX1_defect_30 hf
  · have hf := hf.2 c4
    refine lv_iconst (v := 0) hx hb dX1_defect_17 (by decide) ?_
    exact p_zret X hlk hP hL (Nat.le_refl _) (Nat.le_refl _) hr nr_0 dX1_defect_18 hf
set_option maxHeartbeats 4000000 in
theorem metX1_defect (l : Launch) (G : GG_) (x0 : Nat) (x1 : Int32) (σ : Hp) (post : Int32 → Hp → Prop) (hG : GOK_ G) (hf : wX1_defect x0 x1 σ post) : Met l yX1_defect (ws_ yX1_defect cX1_defect 2 (some Jvm.ClassFile.FieldType.boolean)) { frames := 2, cells := 0, slots := 0, locals := 42 } (PC_ G [rv_ x0, .int x1] σ) (QI_ G post) 0 0 (FR_ G) := by
  refine Met.ofW (cc := cX1_defect) (maxL := 2) (ret := (some Jvm.ClassFile.FieldType.boolean)) (by decide) rfl ?_
  intro p e s m args below meth c s₁ B hml hv
  obtain ⟨rfl, hP, hW⟩ := hv
  have hts := atoms_spec (ws := ws_ yX1_defect cX1_defect 2 (some Jvm.ClassFile.FieldType.boolean)) B.pre
  have hts : ∀ w ∈ lw_all, w.before _ s = true := fun w h => hts w (List.mem_cons_of_mem _ h)
  rw [lg_entry_eq]
  have hl := en_entry [rv_ x0, .int x1] [1, 1] (n := 2) (ca_r (ca_i ca_n)) (by decide)
  exact sX1_defect ⟨⟨⟨B.exec, B.bytes, hml, findClass_of_methodNamed B.named, hts⟩, hW, hG⟩, B.notSynchronized, B.returns, Nat.le_refl _, Nat.le_refl _, ⟨rfl, rfl⟩, (name_of_methodNamed B.named B.method).1⟩ hf _ _ _ _ _ hP (LO_nil G) ⟨rfl, rfl⟩ hl
abbrev cX1_power : ByteArray := prog_1_method_7_code
def yX1_power : MethodName := ⟨RX1, "power", "(I)V"⟩
theorem dX1_power_0 : decode cX1_power 0 = .ok (.aload_n 0, 1) := by decide +kernel
theorem dX1_power_1 : decode cX1_power 1 = .ok (.getfield 39, 3) := by decide +kernel
theorem dX1_power_4 : decode cX1_power 4 = .ok (.iload_n 1, 1) := by decide +kernel
theorem dX1_power_5 : decode cX1_power 5 = .ok (.ifCond .ge 7, 3) := by decide +kernel
theorem dX1_power_8 : decode cX1_power 8 = .ok (.iconst (-1), 1) := by decide +kernel
theorem dX1_power_9 : decode cX1_power 9 = .ok (.goto 4, 3) := by decide +kernel
theorem dX1_power_12 : decode cX1_power 12 = .ok (.iload_n 1, 1) := by decide +kernel
theorem dX1_power_13 : decode cX1_power 13 = .ok (.putfield 102, 3) := by decide +kernel
theorem dX1_power_16 : decode cX1_power 16 = .ok (.return_, 1) := by decide +kernel
/-- WriteOnceDisc.power(I)V -/
def wX1_power_L13 (post : Hp → Prop) (s0 : Int32) (s1 : Nat) (σ : Hp) : Prop :=
(tg_ σ s1 = 2 ∧ (∀ σ2, σ2 = sI_ σ 1 0 s1 s0 → post σ2))
def wX1_power (x0 : Nat) (x1 : Int32) (σ : Hp) (post : Hp → Prop) : Prop :=
(tg_ σ x0 = 1 ∧ ((0 ≤ x1 →
  wX1_power_L13 post x1 (fR_ σ 0 0 x0) σ) ∧
 (¬ 0 ≤ x1 →
  wX1_power_L13 post (-1 : Int32) (fR_ σ 0 0 x0) σ)))
set_option maxHeartbeats 4000000 in
theorem sX1_power_L13 {G : GG_} {p : Program} {l : Launch} {e : Env} {R : Room} {s : State} {m : MethodId} {args : Array Value} {below : List Frame} {meth : Method} {c : Code} (Y : MX_ G p R s m args meth c cX1_power 2 RX1 none 1 20 0 0 "power") {post : Hp → Prop} {s0 : Int32} {s1 : Nat} {σ : Hp} (hf : wX1_power_L13 post s0 s1 σ) : WG_ G p l e R s m args below meth c (MQ below (QV_ G post) args s 0 0 (FR_ G)) BN_ 2 13 [] [.int s0, rv_ s1] σ := by
  have ⟨X, hlk, hr, hRf, hRl, hRc, hnm⟩ := Y
  have ⟨⟨hx, hb, _, hown, hts⟩, _, _⟩ := X
  intro H locs cells slots ls hP hL hB hl
  obtain ⟨rfl, rfl⟩ := hB
  unfold wX1_power_L13 at hf
  obtain ⟨ht1, hf⟩ := hf
  refine p_pI X cf1_ (k := 0) (by decide) rfl hP hL ht1 (p_ow hP ht1 rfl) q128 (fun _ h => h) (Or.inl rfl) rfl rfl dX1_power_13 (fun H locs hP hL => ?_)
  refine p_nmP hP (fun σ2 hσ2 hP => ?_)
  have hf := hf σ2 hσ2
  have ht1 : tg_ σ2 s1 = 2 := by rw [hσ2]; exact ht1
  exact p_vret X hlk hP hL (Nat.le_refl _) (Nat.le_refl _) hr dX1_power_16 hf
set_option maxHeartbeats 4000000 in
theorem sX1_power {G : GG_} {p : Program} {l : Launch} {e : Env} {R : Room} {s : State} {m : MethodId} {args : Array Value} {below : List Frame} {meth : Method} {c : Code} (Y : MX_ G p R s m args meth c cX1_power 2 RX1 none 1 20 0 0 "power") {post : Hp → Prop} {x0 : Nat} {x1 : Int32} {σ : Hp} (hf : wX1_power x0 x1 σ post) : WG_ G p l e R s m args below meth c (MQ below (QV_ G post) args s 0 0 (FR_ G)) BN_ 2 0 [(0, rv_ x0), (1, .int x1)] [] σ := by
  have ⟨X, hlk, hr, hRf, hRl, hRc, hnm⟩ := Y
  have ⟨⟨hx, hb, _, hown, hts⟩, _, _⟩ := X
  intro H locs cells slots ls hP hL hB hl
  obtain ⟨rfl, rfl⟩ := hB
  unfold wX1_power at hf
  refine p_aload_n hx hb dX1_power_0 rfl (lv_at hl 0 rfl) ?_
  obtain ⟨ht3, hf⟩ := hf
  refine p_gR X cf0_ (k := 0) (by decide) rfl hP ht3 q626 (fun _ h => h) dX1_power_1 ?_
  refine lv_iload_n hx hb dX1_power_4 rfl (lv_at hl 1 rfl) ?_
  refine lv_if_ge (tgt := 12) hx hb dX1_power_5 (by decide) (fun c4 => ?_) (fun c4 => ?_)
  · have hf := hf.1 c4
    refine lv_iload_n hx hb dX1_power_12 rfl (lv_at hl 1 rfl) ?_
    exact sX1_power_L13 Y hf _ _ _ _ _ hP hL ⟨rfl, rfl⟩ (lv_sub hl [] rfl)
  · have hf := hf.2 c4
    refine lv_iconst (v := (-1)) hx hb dX1_power_8 (by decide) ?_
    refine lv_goto (tgt := 13) hx hb dX1_power_9 (by decide) ?_
    exact sX1_power_L13 Y hf _ _ _ _ _ hP hL ⟨rfl, rfl⟩ (lv_sub hl [] rfl)
set_option maxHeartbeats 4000000 in
theorem metX1_power (l : Launch) (G : GG_) (x0 : Nat) (x1 : Int32) (σ : Hp) (post : Hp → Prop) (hG : GOK_ G) (hf : wX1_power x0 x1 σ post) : Met l yX1_power (ws_ yX1_power cX1_power 2 none) { frames := 1, cells := 0, slots := 0, locals := 20 } (PC_ G [rv_ x0, .int x1] σ) (QV_ G post) 0 0 (FR_ G) := by
  refine Met.ofW (cc := cX1_power) (maxL := 2) (ret := none) (by decide) rfl ?_
  intro p e s m args below meth c s₁ B hml hv
  obtain ⟨rfl, hP, hW⟩ := hv
  have hts := atoms_spec (ws := ws_ yX1_power cX1_power 2 none) B.pre
  have hts : ∀ w ∈ lw_all, w.before _ s = true := fun w h => hts w (List.mem_cons_of_mem _ h)
  rw [lg_entry_eq]
  have hl := en_entry [rv_ x0, .int x1] [1, 1] (n := 2) (ca_r (ca_i ca_n)) (by decide)
  exact sX1_power ⟨⟨⟨B.exec, B.bytes, hml, findClass_of_methodNamed B.named, hts⟩, hW, hG⟩, B.notSynchronized, B.returns, Nat.le_refl _, Nat.le_refl _, ⟨rfl, rfl⟩, (name_of_methodNamed B.named B.method).1⟩ hf _ _ _ _ _ hP (LO_nil G) ⟨rfl, rfl⟩ hl
abbrev cX1_isName : ByteArray := prog_1_method_2_code
def yX1_isName : MethodName := ⟨RX1, "isName", "(I)Z"⟩
theorem dX1_isName_0 : decode cX1_isName 0 = .ok (.iload_n 0, 1) := by decide +kernel
theorem dX1_isName_1 : decode cX1_isName 1 = .ok (.bipush 65, 2) := by decide +kernel
theorem dX1_isName_3 : decode cX1_isName 3 = .ok (.if_icmp .lt 9, 3) := by decide +kernel
theorem dX1_isName_6 : decode cX1_isName 6 = .ok (.iload_n 0, 1) := by decide +kernel
theorem dX1_isName_7 : decode cX1_isName 7 = .ok (.bipush 90, 2) := by decide +kernel
theorem dX1_isName_9 : decode cX1_isName 9 = .ok (.if_icmp .le 21, 3) := by decide +kernel
theorem dX1_isName_12 : decode cX1_isName 12 = .ok (.iload_n 0, 1) := by decide +kernel
theorem dX1_isName_13 : decode cX1_isName 13 = .ok (.bipush 48, 2) := by decide +kernel
theorem dX1_isName_15 : decode cX1_isName 15 = .ok (.if_icmp .lt 9, 3) := by decide +kernel
theorem dX1_isName_18 : decode cX1_isName 18 = .ok (.iload_n 0, 1) := by decide +kernel
theorem dX1_isName_19 : decode cX1_isName 19 = .ok (.bipush 57, 2) := by decide +kernel
theorem dX1_isName_21 : decode cX1_isName 21 = .ok (.if_icmp .le 9, 3) := by decide +kernel
theorem dX1_isName_24 : decode cX1_isName 24 = .ok (.iload_n 0, 1) := by decide +kernel
theorem dX1_isName_25 : decode cX1_isName 25 = .ok (.bipush 95, 2) := by decide +kernel
theorem dX1_isName_27 : decode cX1_isName 27 = .ok (.if_icmp .ne 7, 3) := by decide +kernel
theorem dX1_isName_30 : decode cX1_isName 30 = .ok (.iconst 1, 1) := by decide +kernel
theorem dX1_isName_31 : decode cX1_isName 31 = .ok (.goto 4, 3) := by decide +kernel
theorem dX1_isName_34 : decode cX1_isName 34 = .ok (.iconst 0, 1) := by decide +kernel
theorem dX1_isName_35 : decode cX1_isName 35 = .ok (.ireturn, 1) := by decide +kernel
/-- WriteOnceDisc.isName(I)Z -/
def wX1_isName_L30 (post : Int32 → Prop) (σ : Hp) : Prop :=
post (1 : Int32)
def wX1_isName_L24 (post : Int32 → Prop) (x0 : Int32) (σ : Hp) : Prop :=
((¬ x0 = (95 : Int32) →
  post (0 : Int32)) ∧
 (x0 = (95 : Int32) →
  wX1_isName_L30 post σ))
def wX1_isName_L12 (post : Int32 → Prop) (x0 : Int32) (σ : Hp) : Prop :=
((x0 < (48 : Int32) →
  wX1_isName_L24 post x0 σ) ∧
 (¬ x0 < (48 : Int32) →
  ((x0 ≤ (57 : Int32) →
   wX1_isName_L30 post σ) ∧
  (¬ x0 ≤ (57 : Int32) →
   wX1_isName_L24 post x0 σ))))
def wX1_isName (x0 : Int32) (σ : Hp) (post : Int32 → Prop) : Prop :=
((x0 < (65 : Int32) →
  wX1_isName_L12 post x0 σ) ∧
 (¬ x0 < (65 : Int32) →
  ((x0 ≤ (90 : Int32) →
   wX1_isName_L30 post σ) ∧
  (¬ x0 ≤ (90 : Int32) →
   wX1_isName_L12 post x0 σ))))
set_option maxHeartbeats 4000000 in
theorem sX1_isName_L30 {G : GG_} {p : Program} {l : Launch} {e : Env} {R : Room} {s : State} {m : MethodId} {args : Array Value} {below : List Frame} {meth : Method} {c : Code} (Y : MX_ G p R s m args meth c cX1_isName 1 RX1 (some Jvm.ClassFile.FieldType.boolean) 1 20 0 0 "isName") {post : Int32 → Prop} {σ : Hp} (hf : wX1_isName_L30 post σ) : WG_ G p l e R s m args below meth c (MQ below (QI_ G (fun r τ => τ = σ ∧ post r)) args s 0 0 (FR_ G)) BN_ 1 30 [] [] σ := by
  have ⟨X, hlk, hr, hRf, hRl, hRc, hnm⟩ := Y
  have ⟨⟨hx, hb, _, hown, hts⟩, _, _⟩ := X
  intro H locs cells slots ls hP hL hB hl
  obtain ⟨rfl, rfl⟩ := hB
  unfold wX1_isName_L30 at hf
  refine lv_iconst (v := 1) hx hb dX1_isName_30 (by decide) ?_
  refine lv_goto (tgt := 35) hx hb dX1_isName_31 (by decide) ?_
  exact p_zret X hlk hP hL (Nat.le_refl _) (Nat.le_refl _) hr nr_1 dX1_isName_35 ⟨rfl, hf⟩
set_option maxHeartbeats 4000000 in
theorem sX1_isName_L24 {G : GG_} {p : Program} {l : Launch} {e : Env} {R : Room} {s : State} {m : MethodId} {args : Array Value} {below : List Frame} {meth : Method} {c : Code} (Y : MX_ G p R s m args meth c cX1_isName 1 RX1 (some Jvm.ClassFile.FieldType.boolean) 1 20 0 0 "isName") {post : Int32 → Prop} {x0 : Int32} {σ : Hp} (hf : wX1_isName_L24 post x0 σ) : WG_ G p l e R s m args below meth c (MQ below (QI_ G (fun r τ => τ = σ ∧ post r)) args s 0 0 (FR_ G)) BN_ 1 24 [(0, .int x0)] [] σ := by
  have ⟨X, hlk, hr, hRf, hRl, hRc, hnm⟩ := Y
  have ⟨⟨hx, hb, _, hown, hts⟩, _, _⟩ := X
  intro H locs cells slots ls hP hL hB hl
  obtain ⟨rfl, rfl⟩ := hB
  unfold wX1_isName_L24 at hf
  refine lv_iload_n hx hb dX1_isName_24 rfl (lv_at hl 0 rfl) ?_
  refine lv_bipush (v := 95) hx hb dX1_isName_25 (by decide) ?_
  refine lv_icmp_ne (tgt := 34) hx hb dX1_isName_27 (by decide) (fun c1 => ?_) (fun c1 => ?_)
  · have hf := hf.1 c1
    refine lv_iconst (v := 0) hx hb dX1_isName_34 (by decide) ?_
    exact p_zret X hlk hP hL (Nat.le_refl _) (Nat.le_refl _) hr nr_0 dX1_isName_35 ⟨rfl, hf⟩
  · have hf := hf.2 c1
    exact sX1_isName_L30 Y hf _ _ _ _ _ hP hL ⟨rfl, rfl⟩ (lv_sub hl [] rfl)
set_option maxHeartbeats 4000000 in
theorem sX1_isName_L12 {G : GG_} {p : Program} {l : Launch} {e : Env} {R : Room} {s : State} {m : MethodId} {args : Array Value} {below : List Frame} {meth : Method} {c : Code} (Y : MX_ G p R s m args meth c cX1_isName 1 RX1 (some Jvm.ClassFile.FieldType.boolean) 1 20 0 0 "isName") {post : Int32 → Prop} {x0 : Int32} {σ : Hp} (hf : wX1_isName_L12 post x0 σ) : WG_ G p l e R s m args below meth c (MQ below (QI_ G (fun r τ => τ = σ ∧ post r)) args s 0 0 (FR_ G)) BN_ 1 12 [(0, .int x0)] [] σ := by
  have ⟨X, hlk, hr, hRf, hRl, hRc, hnm⟩ := Y
  have ⟨⟨hx, hb, _, hown, hts⟩, _, _⟩ := X
  intro H locs cells slots ls hP hL hB hl
  obtain ⟨rfl, rfl⟩ := hB
  unfold wX1_isName_L12 at hf
  refine lv_iload_n hx hb dX1_isName_12 rfl (lv_at hl 0 rfl) ?_
  refine lv_bipush (v := 48) hx hb dX1_isName_13 (by decide) ?_
  refine lv_icmp_lt (tgt := 24) hx hb dX1_isName_15 (by decide) (fun c2 => ?_) (fun c2 => ?_)
  · have hf := hf.1 c2
    exact sX1_isName_L24 Y hf _ _ _ _ _ hP hL ⟨rfl, rfl⟩ (lv_sub hl [0] rfl)
  · have hf := hf.2 c2
    refine lv_iload_n hx hb dX1_isName_18 rfl (lv_at hl 0 rfl) ?_
    refine lv_bipush (v := 57) hx hb dX1_isName_19 (by decide) ?_
    refine lv_icmp_le (tgt := 30) hx hb dX1_isName_21 (by decide) (fun c3 => ?_) (fun c3 => ?_)
    · have hf := hf.1 c3
      exact sX1_isName_L30 Y hf _ _ _ _ _ hP hL ⟨rfl, rfl⟩ (lv_sub hl [] rfl)
    · have hf := hf.2 c3
      exact sX1_isName_L24 Y hf _ _ _ _ _ hP hL ⟨rfl, rfl⟩ (lv_sub hl [0] rfl)
set_option maxHeartbeats 4000000 in
theorem sX1_isName {G : GG_} {p : Program} {l : Launch} {e : Env} {R : Room} {s : State} {m : MethodId} {args : Array Value} {below : List Frame} {meth : Method} {c : Code} (Y : MX_ G p R s m args meth c cX1_isName 1 RX1 (some Jvm.ClassFile.FieldType.boolean) 1 20 0 0 "isName") {post : Int32 → Prop} {x0 : Int32} {σ : Hp} (hf : wX1_isName x0 σ post) : WG_ G p l e R s m args below meth c (MQ below (QI_ G (fun r τ => τ = σ ∧ post r)) args s 0 0 (FR_ G)) BN_ 1 0 [(0, .int x0)] [] σ := by
  have ⟨X, hlk, hr, hRf, hRl, hRc, hnm⟩ := Y
  have ⟨⟨hx, hb, _, hown, hts⟩, _, _⟩ := X
  intro H locs cells slots ls hP hL hB hl
  obtain ⟨rfl, rfl⟩ := hB
  unfold wX1_isName at hf
  refine lv_iload_n hx hb dX1_isName_0 rfl (lv_at hl 0 rfl) ?_
  refine lv_bipush (v := 65) hx hb dX1_isName_1 (by decide) ?_
  refine lv_icmp_lt (tgt := 12) hx hb dX1_isName_3 (by decide) (fun c4 => ?_) (fun c4 => ?_)
  · have hf := hf.1 c4
    exact sX1_isName_L12 Y hf _ _ _ _ _ hP hL ⟨rfl, rfl⟩ (lv_sub hl [0] rfl)
  · have hf := hf.2 c4
    refine lv_iload_n hx hb dX1_isName_6 rfl (lv_at hl 0 rfl) ?_
    refine lv_bipush (v := 90) hx hb dX1_isName_7 (by decide) ?_
    refine lv_icmp_le (tgt := 30) hx hb dX1_isName_9 (by decide) (fun c5 => ?_) (fun c5 => ?_)
    · have hf := hf.1 c5
      exact sX1_isName_L30 Y hf _ _ _ _ _ hP hL ⟨rfl, rfl⟩ (lv_sub hl [] rfl)
    · have hf := hf.2 c5
      exact sX1_isName_L12 Y hf _ _ _ _ _ hP hL ⟨rfl, rfl⟩ (lv_sub hl [0] rfl)
set_option maxHeartbeats 4000000 in
theorem metX1_isName (l : Launch) (G : GG_) (x0 : Int32) (σ : Hp) (post : Int32 → Prop) (hG : GOK_ G) (hf : wX1_isName x0 σ post) : Met l yX1_isName (ws_ yX1_isName cX1_isName 1 (some Jvm.ClassFile.FieldType.boolean)) { frames := 1, cells := 0, slots := 0, locals := 20 } (PC_ G [.int x0] σ) (QI_ G (fun r τ => τ = σ ∧ post r)) 0 0 (FR_ G) := by
  refine Met.ofW (cc := cX1_isName) (maxL := 1) (ret := (some Jvm.ClassFile.FieldType.boolean)) (by decide) rfl ?_
  intro p e s m args below meth c s₁ B hml hv
  obtain ⟨rfl, hP, hW⟩ := hv
  have hts := atoms_spec (ws := ws_ yX1_isName cX1_isName 1 (some Jvm.ClassFile.FieldType.boolean)) B.pre
  have hts : ∀ w ∈ lw_all, w.before _ s = true := fun w h => hts w (List.mem_cons_of_mem _ h)
  rw [lg_entry_eq]
  have hl := en_entry [.int x0] [1] (n := 1) (ca_i ca_n) (by decide)
  exact sX1_isName ⟨⟨⟨B.exec, B.bytes, hml, findClass_of_methodNamed B.named, hts⟩, hW, hG⟩, B.notSynchronized, B.returns, Nat.le_refl _, Nat.le_refl _, ⟨rfl, rfl⟩, (name_of_methodNamed B.named B.method).1⟩ hf _ _ _ _ _ hP (LO_nil G) ⟨rfl, rfl⟩ hl
abbrev cX1_nameOf : ByteArray := prog_1_method_1_code
def yX1_nameOf : MethodName := ⟨RX1, "nameOf", "(J)Ljava/lang/String;"⟩
theorem dX1_nameOf_0 : decode cX1_nameOf 0 = .ok (.new 1, 3) := by decide +kernel
theorem dX1_nameOf_3 : decode cX1_nameOf 3 = .ok (.dup, 1) := by decide +kernel
theorem dX1_nameOf_4 : decode cX1_nameOf 4 = .ok (.invokespecial 3, 3) := by decide +kernel
theorem dX1_nameOf_7 : decode cX1_nameOf 7 = .ok (.astore_n 2, 1) := by decide +kernel
theorem dX1_nameOf_8 : decode cX1_nameOf 8 = .ok (.bipush 7, 2) := by decide +kernel
theorem dX1_nameOf_10 : decode cX1_nameOf 10 = .ok (.istore_n 3, 1) := by decide +kernel
theorem dX1_nameOf_11 : decode cX1_nameOf 11 = .ok (.iload_n 3, 1) := by decide +kernel
theorem dX1_nameOf_12 : decode cX1_nameOf 12 = .ok (.ifCond .lt 49, 3) := by decide +kernel
theorem dX1_nameOf_15 : decode cX1_nameOf 15 = .ok (.lload_n 0, 1) := by decide +kernel
theorem dX1_nameOf_16 : decode cX1_nameOf 16 = .ok (.bipush 8, 2) := by decide +kernel
theorem dX1_nameOf_18 : decode cX1_nameOf 18 = .ok (.iload_n 3, 1) := by decide +kernel
theorem dX1_nameOf_19 : decode cX1_nameOf 19 = .ok (.imul, 1) := by decide +kernel
theorem dX1_nameOf_20 : decode cX1_nameOf 20 = .ok (.lshr, 1) := by decide +kernel
theorem dX1_nameOf_21 : decode cX1_nameOf 21 = .ok (.l2i, 1) := by decide +kernel
theorem dX1_nameOf_22 : decode cX1_nameOf 22 = .ok (.sipush 255, 3) := by decide +kernel
theorem dX1_nameOf_25 : decode cX1_nameOf 25 = .ok (.iand, 1) := by decide +kernel
theorem dX1_nameOf_26 : decode cX1_nameOf 26 = .ok (.istore 4, 2) := by decide +kernel
theorem dX1_nameOf_28 : decode cX1_nameOf 28 = .ok (.iload 4, 2) := by decide +kernel
theorem dX1_nameOf_30 : decode cX1_nameOf 30 = .ok (.ifCond .ne 6, 3) := by decide +kernel
theorem dX1_nameOf_33 : decode cX1_nameOf 33 = .ok (.goto 22, 3) := by decide +kernel
theorem dX1_nameOf_36 : decode cX1_nameOf 36 = .ok (.iload 4, 2) := by decide +kernel
theorem dX1_nameOf_38 : decode cX1_nameOf 38 = .ok (.invokestatic 7, 3) := by decide +kernel
theorem dX1_nameOf_41 : decode cX1_nameOf 41 = .ok (.ifCond .ne 6, 3) := by decide +kernel
theorem dX1_nameOf_44 : decode cX1_nameOf 44 = .ok (.ldc 13, 2) := by decide +kernel
theorem dX1_nameOf_46 : decode cX1_nameOf 46 = .ok (.areturn, 1) := by decide +kernel
theorem dX1_nameOf_47 : decode cX1_nameOf 47 = .ok (.aload_n 2, 1) := by decide +kernel
theorem dX1_nameOf_48 : decode cX1_nameOf 48 = .ok (.iload 4, 2) := by decide +kernel
theorem dX1_nameOf_50 : decode cX1_nameOf 50 = .ok (.i2c, 1) := by decide +kernel
theorem dX1_nameOf_51 : decode cX1_nameOf 51 = .ok (.invokevirtual 15, 3) := by decide +kernel
theorem dX1_nameOf_54 : decode cX1_nameOf 54 = .ok (.pop, 1) := by decide +kernel
theorem dX1_nameOf_55 : decode cX1_nameOf 55 = .ok (.iinc 3 (-1), 3) := by decide +kernel
theorem dX1_nameOf_58 : decode cX1_nameOf 58 = .ok (.goto (-47), 3) := by decide +kernel
theorem dX1_nameOf_61 : decode cX1_nameOf 61 = .ok (.aload_n 2, 1) := by decide +kernel
theorem dX1_nameOf_62 : decode cX1_nameOf 62 = .ok (.invokevirtual 19, 3) := by decide +kernel
theorem dX1_nameOf_65 : decode cX1_nameOf 65 = .ok (.areturn, 1) := by decide +kernel
/-- WriteOnceDisc.nameOf(J)Ljava/lang/String; -/
def wX1_nameOf_L55 (post : Nat → Hp → Prop) (rc11 : Int32 → Hp → Prop) (x0 : Int64) (x2 : Nat) (x3 : Int32) (σ : Hp) : Prop :=
(∀ y1 : Int32, y1 = x3 + (-1) → rc11 y1 σ)
def wX1_nameOf_B11 (post : Nat → Hp → Prop) (rc11 : Int32 → Hp → Prop) (x0 : Int64) (x2 : Nat) (x3 : Int32) (σ : Hp) : Prop :=
((x3 < 0 →
  (tg_ σ x2 = 12 ∧ (∃ mc4 ms5 : Nat, (mc4 ≤ bc_ σ ∧ (ms5 ≤ bs_ σ ∧ (wJ4_toString x2  (bu_ σ mc4 ms5) (fun r8 σ9 => (∀ σ10, σ10 = bu_ σ9 (bc_ σ - mc4) (bs_ σ - ms5) → post r8 σ10)))))))) ∧
 (¬ x3 < 0 →
  (∀ y11 : Int32, y11 = (((x0 >>> ((((8 : Int32) * x3)).toInt64 &&& 63))).toInt32 &&& (255 : Int32)) → ((¬ y11 = 0 →
   (wX1_isName y11 σ (fun r13 => ((¬ r13 = 0 →
    (tg_ σ x2 = 12 ∧ (wJ4_append_2 x2 ((y11).toUInt32 % 65536).toInt32 σ (fun r16 σ17 => (∀ σ18, σ18 = bu_ σ17 (bc_ σ) (bs_ σ) → wX1_nameOf_L55 post rc11 x0 x2 x3 σ18))))) ∧
   (r13 = 0 →
    post (fR_ σ 101 0 0) σ))))) ∧
  (y11 = 0 →
   wX1_nameOf_L55 post rc11 x0 x2 x3 σ)))))
def wX1_nameOf_L11 (post : Nat → Hp → Prop) (x0 : Int64) (x2 : Nat) (x3 : Int32) (σ : Hp) : Prop :=
 ∃ (I : Int32 → Hp → Prop) (μ : Int32 → Hp → Nat), I x3 σ ∧ ∀ (x3 : Int32) (σ : Hp), I x3 σ → wX1_nameOf_B11 post (fun x3' σ' => I x3' σ' ∧ μ x3' σ' < μ x3 σ) x0 x2 x3 σ
def wX1_nameOf (x0 : Int64) (σ : Hp) (post : Nat → Hp → Prop) : Prop :=
(1 ≤ bc_ σ ∧ (4 ≤ bs_ σ ∧ (∀ σ21, σ21 = mO_ σ 11 4 → (tg_ σ21 (nx_ σ) = 12 ∧ (∃ mc23 ms24 : Nat, (mc23 ≤ bc_ σ21 ∧ (ms24 ≤ bs_ σ21 ∧ (wJ4_init (nx_ σ)  (bu_ σ21 mc23 ms24) (fun σ27 => (∀ σ28, σ28 = bu_ σ27 (bc_ σ21 - mc23) (bs_ σ21 - ms24) → (∀ y29 : Nat, y29 = (nx_ σ) → wX1_nameOf_L11 post x0 y29 (7 : Int32) σ28)))))))))))
set_option maxHeartbeats 4000000 in
theorem sX1_nameOf_L55 {G : GG_} {p : Program} {l : Launch} {e : Env} {R : Room} {s : State} {m : MethodId} {args : Array Value} {below : List Frame} {meth : Method} {c : Code} {mc ms : Nat} (Y : MX_ G p R s m args meth c cX1_nameOf 5 RX1 (some ((Jvm.ClassFile.FieldType.object "java/lang/String"))) 7 159 mc ms "nameOf") {post : Nat → Hp → Prop} {rc11 : Int32 → Hp → Prop} {x0 : Int64} {x2 : Nat} {x3 : Int32} {σ : Hp} (hrc11 : ∀ (x3 : Int32) (σ : Hp), rc11 x3 σ → WG_ G p l e R s m args below meth c (MQ below (QR_ G post) args s mc ms (FR_ G)) (BU_ R) 5 11 [(0, .long x0), (2, rv_ x2), (3, .int x3)] [] σ) (hf : wX1_nameOf_L55 post rc11 x0 x2 x3 σ) : WG_ G p l e R s m args below meth c (MQ below (QR_ G post) args s mc ms (FR_ G)) (BU_ R) 5 55 [(0, .long x0), (2, rv_ x2), (3, .int x3)] [] σ := by
  have ⟨X, hlk, hr, hRf, hRl, hRc, hnm⟩ := Y
  have ⟨⟨hx, hb, _, hown, hts⟩, _, _⟩ := X
  intro H locs cells slots ls hP hL hB hl
  unfold wX1_nameOf_L55 at hf
  have hl := lv_sub hl [2, 0, 1] rfl
  refine p_iincc (i := 3) (k := (-1)) hx hb (by decide) dX1_nameOf_55 hl (by decide) ⟨⟨ne_ rfl, Or.inl (ne_ rfl)⟩, ⟨⟨ne_ rfl, Or.inr (rv_cat _)⟩, trivial⟩⟩ (fun y1 hy1 ls hl => ?_)
  have hf := hf y1 hy1
  refine lv_goto (tgt := 11) hx hb dX1_nameOf_58 (by decide) ?_
  exact hrc11 _ _ hf _ _ _ _ _ hP hL hB (lv_sub hl [1, 2, 0] rfl)
set_option maxHeartbeats 4000000 in
theorem sX1_nameOf_B11 {G : GG_} {p : Program} {l : Launch} {e : Env} {R : Room} {s : State} {m : MethodId} {args : Array Value} {below : List Frame} {meth : Method} {c : Code} {mc ms : Nat} (Y : MX_ G p R s m args meth c cX1_nameOf 5 RX1 (some ((Jvm.ClassFile.FieldType.object "java/lang/String"))) 7 159 mc ms "nameOf") {post : Nat → Hp → Prop} {rc11 : Int32 → Hp → Prop} {x0 : Int64} {x2 : Nat} {x3 : Int32} {σ : Hp} (hrc11 : ∀ (x3 : Int32) (σ : Hp), rc11 x3 σ → WG_ G p l e R s m args below meth c (MQ below (QR_ G post) args s mc ms (FR_ G)) (BU_ R) 5 11 [(0, .long x0), (2, rv_ x2), (3, .int x3)] [] σ) (hf : wX1_nameOf_B11 post rc11 x0 x2 x3 σ) : WG_ G p l e R s m args below meth c (MQ below (QR_ G post) args s mc ms (FR_ G)) (BU_ R) 5 11 [(0, .long x0), (2, rv_ x2), (3, .int x3)] [] σ := by
  have ⟨X, hlk, hr, hRf, hRl, hRc, hnm⟩ := Y
  have ⟨⟨hx, hb, _, hown, hts⟩, _, _⟩ := X
  intro H locs cells slots ls hP hL hB hl
  unfold wX1_nameOf_B11 at hf
  refine lv_iload_n hx hb dX1_nameOf_11 rfl (lv_at hl 2 rfl) ?_
  refine lv_if_lt (tgt := 61) hx hb dX1_nameOf_12 (by decide) (fun c2 => ?_) (fun c2 => ?_)
  · have hf := hf.1 c2
    refine p_aload_n hx hb dX1_nameOf_61 rfl (lv_at hl 1 rfl) ?_
    obtain ⟨ht3, hf⟩ := hf
    obtain ⟨mc4, ms5, hf⟩ := hf
    obtain ⟨hb6, hf⟩ := hf
    obtain ⟨hb7, hf⟩ := hf
    refine p_callr hL (p_runV X cf11_ (Pic_bu hP mc4 ms5) ht3 (metJ4_toString l G _ _ _ _ _ X.2.2 hf) (cwV 0 hts (lw_V q706 q376 q377 q95 q378) rfl rfl rfl (by decide +kernel) ⟨Nat.le_trans (Nat.le_of_ble_eq_true rfl) hRf, Nat.le_trans (Nat.le_of_ble_eq_true rfl) hRl⟩) rfl hl.1 rfl (by decide) dX1_nameOf_62 (BU_call hB hb6 hb7)) (fun r8 σ9 H locs hf hP hL => ?_)
    have hB := BU_back (τ := σ9) hB hb6 hb7
    have hP := Pic_bu hP (bc_ σ - mc4) (bs_ σ - ms5)
    refine p_nmPB hP hB (fun σ10 hσ10 hP hB => ?_)
    have hf := hf σ10 hσ10
    exact p_aret X hlk hP hL (BU_le hB hRc).1 (BU_le hB hRc).2 hr (Or.inl ⟨_, rfl⟩) dX1_nameOf_65 hf
  · have hf := hf.2 c2
    refine lv_lload_n hx hb dX1_nameOf_15 rfl (lv_at hl 0 rfl) ?_
    refine lv_bipush (v := 8) hx hb dX1_nameOf_16 (by decide) ?_
    refine lv_iload_n hx hb dX1_nameOf_18 rfl (lv_at hl 2 rfl) ?_
    refine lv_imul hx hb dX1_nameOf_19 ?_
    refine lv_lshr hx hb dX1_nameOf_20 rfl ?_
    refine lv_l2i hx hb dX1_nameOf_21 rfl ?_
    refine lv_sipush (v := 255) hx hb dX1_nameOf_22 (by decide) ?_
    refine lv_iand hx hb dX1_nameOf_25 ?_
    refine lv_topi (fun y11 hy11 => ?_)
    have hf := hf y11 hy11
    refine p_istore (i := 4) hx hb dX1_nameOf_26 hl (by decide) ⟨⟨ne_ rfl, Or.inl (ne_ rfl)⟩, ⟨⟨ne_ rfl, Or.inl (ne_ rfl)⟩, ⟨⟨ne_ rfl, Or.inr rfl⟩, trivial⟩⟩⟩ (fun ls hl => ?_)
    refine lv_iload hx hb dX1_nameOf_28 (lv_at hl 0 rfl) ?_
    refine lv_if_ne (tgt := 36) hx hb dX1_nameOf_30 (by decide) (fun c12 => ?_) (fun c12 => ?_)
    · have hf := hf.1 c12
      refine lv_iload hx hb dX1_nameOf_36 (lv_at hl 0 rfl) ?_
      refine p_calli hL (p_runS X hP (metX1_isName l G _ _ _ X.2.2 hf) (va_cwS 1 hts (lw_S q680 q681 q85 q682) rfl rfl rfl (by decide +kernel) ⟨Nat.le_trans (Nat.le_of_ble_eq_true rfl) hRf, Nat.le_trans (Nat.le_of_ble_eq_true rfl) hRl⟩) rfl hl.1 rfl (by decide) dX1_nameOf_38 (BU_call hB (Nat.zero_le _) (Nat.zero_le _))) (fun r13 σ₁ H locs hf hP hL => ?_)
      obtain ⟨e₁, hf⟩ := hf
      rw [e₁] at hP
      refine lv_if_ne (tgt := 47) hx hb dX1_nameOf_41 (by decide) (fun c14 => ?_) (fun c14 => ?_)
      · have hf := hf.1 c14
        refine p_aload_n hx hb dX1_nameOf_47 rfl (lv_at hl 2 rfl) ?_
        refine lv_iload hx hb dX1_nameOf_48 (lv_at hl 0 rfl) ?_
        refine lv_i2c hx hb dX1_nameOf_50 rfl ?_
        obtain ⟨ht15, hf⟩ := hf
        refine p_callr hL (p_runV X cf11_ hP ht15 (metJ4_append_2 l G _ _ _ _ X.2.2 hf) (cwV 1 hts (lw_V q684 q685 q686 q95 q687) rfl rfl rfl (by decide +kernel) ⟨Nat.le_trans (Nat.le_of_ble_eq_true rfl) hRf, Nat.le_trans (Nat.le_of_ble_eq_true rfl) hRl⟩) rfl hl.1 rfl (by decide) dX1_nameOf_51 (BU_call hB (Nat.zero_le _) (Nat.zero_le _))) (fun r16 σ17 H locs hf hP hL => ?_)
        have hB := BU_keep (τ := σ17) hB
        have hP := Pic_bu hP (bc_ σ) (bs_ σ)
        refine p_nmPB hP hB (fun σ18 hσ18 hP hB => ?_)
        have hf := hf σ18 hσ18
        refine lv_pop hx hb dX1_nameOf_54 (rv_cat _) ?_
        exact sX1_nameOf_L55 Y hrc11 hf _ _ _ _ _ hP hL hB (lv_sub hl [1, 2, 3] rfl)
      · have hf := hf.2 c14
        refine p_ldcS X hP (j := 0) rfl dX1_nameOf_44 ?_
        exact p_aret X hlk hP hL (BU_le hB hRc).1 (BU_le hB hRc).2 hr (Or.inl ⟨_, rfl⟩) dX1_nameOf_46 hf
    · have hf := hf.2 c12
      refine lv_goto (tgt := 55) hx hb dX1_nameOf_33 (by decide) ?_
      exact sX1_nameOf_L55 Y hrc11 hf _ _ _ _ _ hP hL hB (lv_sub hl [1, 2, 3] rfl)
set_option maxHeartbeats 4000000 in
theorem sX1_nameOf_L11 {G : GG_} {p : Program} {l : Launch} {e : Env} {R : Room} {s : State} {m : MethodId} {args : Array Value} {below : List Frame} {meth : Method} {c : Code} {mc ms : Nat} (Y : MX_ G p R s m args meth c cX1_nameOf 5 RX1 (some ((Jvm.ClassFile.FieldType.object "java/lang/String"))) 7 159 mc ms "nameOf") {post : Nat → Hp → Prop} {x0 : Int64} {x2 : Nat} {x3 : Int32} {σ : Hp} (hf : wX1_nameOf_L11 post x0 x2 x3 σ) : WG_ G p l e R s m args below meth c (MQ below (QR_ G post) args s mc ms (FR_ G)) (BU_ R) 5 11 [(0, .long x0), (2, rv_ x2), (3, .int x3)] [] σ := by
  unfold wX1_nameOf_L11 at hf
  obtain ⟨I, μ, h0, hI⟩ := hf
  have key : ∀ (n : Nat) (x3 : Int32) (σ : Hp), I x3 σ → μ x3 σ < n → WG_ G p l e R s m args below meth c (MQ below (QR_ G post) args s mc ms (FR_ G)) (BU_ R) 5 11 [(0, .long x0), (2, rv_ x2), (3, .int x3)] [] σ := by
    intro n
    induction n with
    | zero => intro x3 σ _ h; exact absurd h (Nat.not_lt_zero _)
    | succ n ih => intro x3 σ hi hn; exact sX1_nameOf_B11 Y (fun x3' σ' h => ih x3' σ' h.1 (Nat.lt_of_lt_of_le h.2 (Nat.le_of_lt_succ hn))) (hI x3 σ hi)
  exact key _ _ _ h0 (Nat.lt_succ_self _)
set_option maxHeartbeats 4000000 in
theorem sX1_nameOf {G : GG_} {p : Program} {l : Launch} {e : Env} {R : Room} {s : State} {m : MethodId} {args : Array Value} {below : List Frame} {meth : Method} {c : Code} {mc ms : Nat} (Y : MX_ G p R s m args meth c cX1_nameOf 5 RX1 (some ((Jvm.ClassFile.FieldType.object "java/lang/String"))) 7 159 mc ms "nameOf") {post : Nat → Hp → Prop} {x0 : Int64} {σ : Hp} (hf : wX1_nameOf x0 σ post) : WG_ G p l e R s m args below meth c (MQ below (QR_ G post) args s mc ms (FR_ G)) (BU_ R) 5 0 [(0, .long x0)] [] σ := by
  have ⟨X, hlk, hr, hRf, hRl, hRc, hnm⟩ := Y
  have ⟨⟨hx, hb, _, hown, hts⟩, _, _⟩ := X
  intro H locs cells slots ls hP hL hB hl
  unfold wX1_nameOf at hf
  obtain ⟨hb19, hf⟩ := hf
  obtain ⟨hb20, hf⟩ := hf
  refine p_new X cf11_ (by decide +kernel) hP hB q678 q224 q95 hb19 hb20 dX1_nameOf_0 (fun H hP hB => ?_)
  refine p_nmPB hP hB (fun σ21 hσ21 hP hB => ?_)
  have hf := hf σ21 hσ21
  refine lv_dup hx hb dX1_nameOf_3 (rv_cat _) ?_
  obtain ⟨ht22, hf⟩ := hf
  obtain ⟨mc23, ms24, hf⟩ := hf
  obtain ⟨hb25, hf⟩ := hf
  obtain ⟨hb26, hf⟩ := hf
  refine p_callv hL (p_runI X (Pic_bu hP mc23 ms24) ht22 (metJ4_init l G _ _ _ _ _ X.2.2 hf) (cwI 0 hts (lw_meth q227) rfl rfl rfl (hts _ q95) (hts _ q679) (hts _ q226) rfl (by decide +kernel) ⟨Nat.le_trans (Nat.le_of_ble_eq_true rfl) hRf, Nat.le_trans (Nat.le_of_ble_eq_true rfl) hRl⟩) rfl hl.1 rfl (by rw [(ca_r ca_n)]; decide) dX1_nameOf_4 (BU_call hB hb25 hb26)) (fun σ27 H locs hf hP hL => ?_)
  have hB := BU_back (τ := σ27) hB hb25 hb26
  have hP := Pic_bu hP (bc_ σ21 - mc23) (bs_ σ21 - ms24)
  refine p_nmPB hP hB (fun σ28 hσ28 hP hB => ?_)
  have hf := hf σ28 hσ28
  refine p_topr (fun y29 hy29 => ?_)
  have hf := hf y29 hy29
  refine p_astore_n (i := 2) hx hb dX1_nameOf_7 rfl hl (by decide) ⟨⟨ne_ rfl, Or.inl (ne_ rfl)⟩, trivial⟩ (fun ls hl => ?_)
  refine lv_bipush (v := 7) hx hb dX1_nameOf_8 (by decide) ?_
  refine p_istore_n (i := 3) hx hb dX1_nameOf_10 rfl hl (by decide) ⟨⟨ne_ rfl, Or.inr (rv_cat _)⟩, ⟨⟨ne_ rfl, Or.inl (ne_ rfl)⟩, trivial⟩⟩ (fun ls hl => ?_)
  exact sX1_nameOf_L11 Y hf _ _ _ _ _ hP hL hB (lv_sub hl [2, 1, 0] rfl)
set_option maxHeartbeats 4000000 in
theorem metX1_nameOf (l : Launch) (G : GG_) (mc ms : Nat) (x0 : Int64) (σ : Hp) (post : Nat → Hp → Prop) (hG : GOK_ G) (hf : wX1_nameOf x0 (bu_ σ mc ms) post) : Met l yX1_nameOf (ws_ yX1_nameOf cX1_nameOf 5 (some ((Jvm.ClassFile.FieldType.object "java/lang/String")))) { frames := 7, cells := mc, slots := ms, locals := 159 } (PC_ G [.long x0] (bu_ σ mc ms)) (QR_ G post) mc ms (FR_ G) := by
  refine Met.ofW (cc := cX1_nameOf) (maxL := 5) (ret := (some ((Jvm.ClassFile.FieldType.object "java/lang/String")))) (by decide) rfl ?_
  intro p e s m args below meth c s₁ B hml hv
  obtain ⟨rfl, hP, hW⟩ := hv
  have hts := atoms_spec (ws := ws_ yX1_nameOf cX1_nameOf 5 (some ((Jvm.ClassFile.FieldType.object "java/lang/String")))) B.pre
  have hts : ∀ w ∈ lw_all, w.before _ s = true := fun w h => hts w (List.mem_cons_of_mem _ h)
  rw [lg_entry_eq]
  have hl := en_entry [.long x0] [2] (n := 5) (ca_l ca_n) (by decide)
  exact sX1_nameOf ⟨⟨⟨B.exec, B.bytes, hml, findClass_of_methodNamed B.named, hts⟩, hW, hG⟩, B.notSynchronized, B.returns, Nat.le_refl _, Nat.le_refl _, ⟨rfl, rfl⟩, (name_of_methodNamed B.named B.method).1⟩ hf _ _ _ _ _ hP (LO_nil G) (BU_in ⟨rfl, rfl⟩) hl
abbrev cX5_find : ByteArray := prog_9_method_3_code
def yX5_find : MethodName := ⟨RX5, "find", "(I)LWriteOnceDisc$Node;"⟩
theorem dX5_find_0 : decode cX5_find 0 = .ok (.iconst 0, 1) := by decide +kernel
theorem dX5_find_1 : decode cX5_find 1 = .ok (.istore_n 2, 1) := by decide +kernel
theorem dX5_find_2 : decode cX5_find 2 = .ok (.iload_n 2, 1) := by decide +kernel
theorem dX5_find_3 : decode cX5_find 3 = .ok (.aload_n 0, 1) := by decide +kernel
theorem dX5_find_4 : decode cX5_find 4 = .ok (.getfield 12, 3) := by decide +kernel
theorem dX5_find_7 : decode cX5_find 7 = .ok (.invokevirtual 39, 3) := by decide +kernel
theorem dX5_find_10 : decode cX5_find 10 = .ok (.if_icmp .ge 39, 3) := by decide +kernel
theorem dX5_find_13 : decode cX5_find 13 = .ok (.aload_n 0, 1) := by decide +kernel
theorem dX5_find_14 : decode cX5_find 14 = .ok (.getfield 12, 3) := by decide +kernel
theorem dX5_find_17 : decode cX5_find 17 = .ok (.iload_n 2, 1) := by decide +kernel
theorem dX5_find_18 : decode cX5_find 18 = .ok (.invokevirtual 43, 3) := by decide +kernel
theorem dX5_find_21 : decode cX5_find 21 = .ok (.checkcast 18, 3) := by decide +kernel
theorem dX5_find_24 : decode cX5_find 24 = .ok (.getfield 32, 3) := by decide +kernel
theorem dX5_find_27 : decode cX5_find 27 = .ok (.iload_n 1, 1) := by decide +kernel
theorem dX5_find_28 : decode cX5_find 28 = .ok (.if_icmp .ne 15, 3) := by decide +kernel
theorem dX5_find_31 : decode cX5_find 31 = .ok (.aload_n 0, 1) := by decide +kernel
theorem dX5_find_32 : decode cX5_find 32 = .ok (.getfield 12, 3) := by decide +kernel
theorem dX5_find_35 : decode cX5_find 35 = .ok (.iload_n 2, 1) := by decide +kernel
theorem dX5_find_36 : decode cX5_find 36 = .ok (.invokevirtual 43, 3) := by decide +kernel
theorem dX5_find_39 : decode cX5_find 39 = .ok (.checkcast 18, 3) := by decide +kernel
theorem dX5_find_42 : decode cX5_find 42 = .ok (.areturn, 1) := by decide +kernel
theorem dX5_find_43 : decode cX5_find 43 = .ok (.iinc 2 1, 3) := by decide +kernel
theorem dX5_find_46 : decode cX5_find 46 = .ok (.goto (-44), 3) := by decide +kernel
theorem dX5_find_49 : decode cX5_find 49 = .ok (.aconst_null, 1) := by decide +kernel
theorem dX5_find_50 : decode cX5_find 50 = .ok (.areturn, 1) := by decide +kernel
/-- WriteOnceDisc$Tree.find(I)LWriteOnceDisc$Node; -/
def wX5_find_B2 (post : Nat → Prop) (rc2 : Int32 → Prop) (x0 : Nat) (x1 : Int32) (x2 : Int32) (σ : Hp) : Prop :=
(tg_ σ x0 = 5 ∧ (tg_ σ (fR_ σ 4 0 x0) = 11 ∧ (wJ2_size (fR_ σ 4 0 x0)  σ (fun r3 => ((r3 ≤ x2 →
  post 0) ∧
 (¬ r3 ≤ x2 →
  (wJ2_get (fR_ σ 4 0 x0) x2 σ (fun r5 => ((r5 = 0 ∨ tg_ σ r5 = 6) ∧ (tg_ σ r5 = 6 ∧ ((¬ (fI_ σ 5 0 r5) = x1 →
   (∀ y9 : Int32, y9 = x2 + 1 → rc2 y9)) ∧
  ((fI_ σ 5 0 r5) = x1 →
   (wJ2_get (fR_ σ 4 0 x0) x2 σ (fun r10 => ((r10 = 0 ∨ tg_ σ r10 = 6) ∧ post r10)))))))))))))))
def wX5_find_L2 (post : Nat → Prop) (x0 : Nat) (x1 : Int32) (x2 : Int32) (σ : Hp) : Prop :=
 ∃ (I : Int32 → Prop) (μ : Int32 → Nat), I x2 ∧ ∀ (x2 : Int32), I x2 → wX5_find_B2 post (fun x2' => I x2' ∧ μ x2' < μ x2) x0 x1 x2 σ
def wX5_find (x0 : Nat) (x1 : Int32) (σ : Hp) (post : Nat → Prop) : Prop :=
wX5_find_L2 post x0 x1 (0 : Int32) σ
set_option maxHeartbeats 4000000 in
theorem sX5_find_B2 {G : GG_} {p : Program} {l : Launch} {e : Env} {R : Room} {s : State} {m : MethodId} {args : Array Value} {below : List Frame} {meth : Method} {c : Code} (Y : MX_ G p R s m args meth c cX5_find 3 RX5 (some ((Jvm.ClassFile.FieldType.object "WriteOnceDisc$Node"))) 4 84 0 0 "find") {post : Nat → Prop} {rc2 : Int32 → Prop} {x0 : Nat} {x1 : Int32} {x2 : Int32} {σ : Hp} (hrc2 : ∀ (x2 : Int32), rc2 x2 → WG_ G p l e R s m args below meth c (MQ below (QR_ G (fun r τ => τ = σ ∧ post r)) args s 0 0 (FR_ G)) BN_ 3 2 [(0, rv_ x0), (1, .int x1), (2, .int x2)] [] σ) (hf : wX5_find_B2 post rc2 x0 x1 x2 σ) : WG_ G p l e R s m args below meth c (MQ below (QR_ G (fun r τ => τ = σ ∧ post r)) args s 0 0 (FR_ G)) BN_ 3 2 [(0, rv_ x0), (1, .int x1), (2, .int x2)] [] σ := by
  have ⟨X, hlk, hr, hRf, hRl, hRc, hnm⟩ := Y
  have ⟨⟨hx, hb, _, hown, hts⟩, _, _⟩ := X
  intro H locs cells slots ls hP hL hB hl
  obtain ⟨rfl, rfl⟩ := hB
  unfold wX5_find_B2 at hf
  refine lv_iload_n hx hb dX5_find_2 rfl (lv_at hl 2 rfl) ?_
  refine p_aload_n hx hb dX5_find_3 rfl (lv_at hl 0 rfl) ?_
  obtain ⟨ht1, hf⟩ := hf
  refine p_gR X cf4_ (k := 0) (by decide) rfl hP ht1 q541 (fun _ h => h) dX5_find_4 ?_
  obtain ⟨ht2, hf⟩ := hf
  refine p_calli hL (p_runV X cf10_ hP ht2 (metJ2_size l G _ _ _ X.2.2 hf) (cwV 0 hts (lw_V q719 q720 q721 q90 q722) rfl rfl rfl (by decide +kernel) ⟨Nat.le_trans (Nat.le_of_ble_eq_true rfl) hRf, Nat.le_trans (Nat.le_of_ble_eq_true rfl) hRl⟩) rfl hl.1 rfl (by rw [(ca_i ca_n)]; decide) dX5_find_7 ⟨Nat.zero_le _, Nat.zero_le _⟩) (fun r3 σ₁ H locs hf hP hL => ?_)
  obtain ⟨e₁, hf⟩ := hf
  rw [e₁] at hP
  refine lv_icmp_ge (tgt := 49) hx hb dX5_find_10 (by decide) (fun c4 => ?_) (fun c4 => ?_)
  · have hf := hf.1 c4
    refine p_null hx hb dX5_find_49 ?_
    exact p_aret X hlk hP hL (Nat.le_refl _) (Nat.le_refl _) hr (Or.inl ⟨_, rfl⟩) dX5_find_50 ⟨rfl, hf⟩
  · have hf := hf.2 c4
    refine p_aload_n hx hb dX5_find_13 rfl (lv_at hl 0 rfl) ?_
    refine p_gR X cf4_ (k := 0) (by decide) rfl hP ht1 q541 (fun _ h => h) dX5_find_14 ?_
    refine lv_iload_n hx hb dX5_find_17 rfl (lv_at hl 2 rfl) ?_
    refine p_callr hL (p_runV X cf10_ hP ht2 (metJ2_get l G _ _ _ _ X.2.2 hf) (cwV 1 hts (lw_V q723 q724 q725 q90 q726) rfl rfl rfl (by decide +kernel) ⟨Nat.le_trans (Nat.le_of_ble_eq_true rfl) hRf, Nat.le_trans (Nat.le_of_ble_eq_true rfl) hRl⟩) rfl hl.1 rfl (by decide) dX5_find_18 ⟨Nat.zero_le _, Nat.zero_le _⟩) (fun r5 σ₁ H locs hf hP hL => ?_)
    obtain ⟨e₁, hf⟩ := hf
    rw [e₁] at hP
    obtain ⟨hc6, hf⟩ := hf
    refine p_cast X cf5_ hP hc6 q212 dX5_find_21 ?_
    obtain ⟨ht7, hf⟩ := hf
    refine p_gI X cf5_ (k := 0) (by decide) rfl hP ht7 q436 (fun _ h => h) dX5_find_24 ?_
    refine lv_iload_n hx hb dX5_find_27 rfl (lv_at hl 1 rfl) ?_
    refine lv_icmp_ne (tgt := 43) hx hb dX5_find_28 (by decide) (fun c8 => ?_) (fun c8 => ?_)
    · have hf := hf.1 c8
      have hl := lv_sub hl [2, 0, 1] rfl
      refine p_iincc (i := 2) (k := 1) hx hb (by decide) dX5_find_43 hl (by decide) ⟨⟨ne_ rfl, Or.inl (ne_ rfl)⟩, ⟨⟨ne_ rfl, Or.inr rfl⟩, trivial⟩⟩ (fun y9 hy9 ls hl => ?_)
      have hf := hf y9 hy9
      refine lv_goto (tgt := 2) hx hb dX5_find_46 (by decide) ?_
      exact hrc2 _ hf _ _ _ _ _ hP hL ⟨rfl, rfl⟩ (lv_sub hl [1, 2, 0] rfl)
    · have hf := hf.2 c8
      refine p_aload_n hx hb dX5_find_31 rfl (lv_at hl 0 rfl) ?_
      refine p_gR X cf4_ (k := 0) (by decide) rfl hP ht1 q541 (fun _ h => h) dX5_find_32 ?_
      refine lv_iload_n hx hb dX5_find_35 rfl (lv_at hl 2 rfl) ?_
      refine p_callr hL (p_runV X cf10_ hP ht2 (metJ2_get l G _ _ _ _ X.2.2 hf) (cwV 1 hts (lw_V q723 q724 q725 q90 q726) rfl rfl rfl (by decide +kernel) ⟨Nat.le_trans (Nat.le_of_ble_eq_true rfl) hRf, Nat.le_trans (Nat.le_of_ble_eq_true rfl) hRl⟩) rfl hl.1 rfl (by decide) dX5_find_36 ⟨Nat.zero_le _, Nat.zero_le _⟩) (fun r10 σ₁ H locs hf hP hL => ?_)
      obtain ⟨e₁, hf⟩ := hf
      rw [e₁] at hP
      obtain ⟨hc11, hf⟩ := hf
      refine p_cast X cf5_ hP hc11 q212 dX5_find_39 ?_
      exact p_aret X hlk hP hL (Nat.le_refl _) (Nat.le_refl _) hr (Or.inl ⟨_, rfl⟩) dX5_find_42 ⟨rfl, hf⟩
set_option maxHeartbeats 4000000 in
theorem sX5_find_L2 {G : GG_} {p : Program} {l : Launch} {e : Env} {R : Room} {s : State} {m : MethodId} {args : Array Value} {below : List Frame} {meth : Method} {c : Code} (Y : MX_ G p R s m args meth c cX5_find 3 RX5 (some ((Jvm.ClassFile.FieldType.object "WriteOnceDisc$Node"))) 4 84 0 0 "find") {post : Nat → Prop} {x0 : Nat} {x1 : Int32} {x2 : Int32} {σ : Hp} (hf : wX5_find_L2 post x0 x1 x2 σ) : WG_ G p l e R s m args below meth c (MQ below (QR_ G (fun r τ => τ = σ ∧ post r)) args s 0 0 (FR_ G)) BN_ 3 2 [(0, rv_ x0), (1, .int x1), (2, .int x2)] [] σ := by
  unfold wX5_find_L2 at hf
  obtain ⟨I, μ, h0, hI⟩ := hf
  have key : ∀ (n : Nat) (x2 : Int32), I x2 → μ x2 < n → WG_ G p l e R s m args below meth c (MQ below (QR_ G (fun r τ => τ = σ ∧ post r)) args s 0 0 (FR_ G)) BN_ 3 2 [(0, rv_ x0), (1, .int x1), (2, .int x2)] [] σ := by
    intro n
    induction n with
    | zero => intro x2 _ h; exact absurd h (Nat.not_lt_zero _)
    | succ n ih => intro x2 hi hn; exact sX5_find_B2 Y (fun x2' h => ih x2' h.1 (Nat.lt_of_lt_of_le h.2 (Nat.le_of_lt_succ hn))) (hI x2 hi)
  exact key _ _ h0 (Nat.lt_succ_self _)
set_option maxHeartbeats 4000000 in
theorem sX5_find {G : GG_} {p : Program} {l : Launch} {e : Env} {R : Room} {s : State} {m : MethodId} {args : Array Value} {below : List Frame} {meth : Method} {c : Code} (Y : MX_ G p R s m args meth c cX5_find 3 RX5 (some ((Jvm.ClassFile.FieldType.object "WriteOnceDisc$Node"))) 4 84 0 0 "find") {post : Nat → Prop} {x0 : Nat} {x1 : Int32} {σ : Hp} (hf : wX5_find x0 x1 σ post) : WG_ G p l e R s m args below meth c (MQ below (QR_ G (fun r τ => τ = σ ∧ post r)) args s 0 0 (FR_ G)) BN_ 3 0 [(0, rv_ x0), (1, .int x1)] [] σ := by
  have ⟨X, hlk, hr, hRf, hRl, hRc, hnm⟩ := Y
  have ⟨⟨hx, hb, _, hown, hts⟩, _, _⟩ := X
  intro H locs cells slots ls hP hL hB hl
  obtain ⟨rfl, rfl⟩ := hB
  unfold wX5_find at hf
  refine lv_iconst (v := 0) hx hb dX5_find_0 (by decide) ?_
  refine p_istore_n (i := 2) hx hb dX5_find_1 rfl hl (by decide) ⟨⟨ne_ rfl, Or.inl (ne_ rfl)⟩, ⟨⟨ne_ rfl, Or.inr rfl⟩, trivial⟩⟩ (fun ls hl => ?_)
  exact sX5_find_L2 Y hf _ _ _ _ _ hP hL ⟨rfl, rfl⟩ (lv_sub hl [1, 2, 0] rfl)
set_option maxHeartbeats 4000000 in
theorem metX5_find (l : Launch) (G : GG_) (x0 : Nat) (x1 : Int32) (σ : Hp) (post : Nat → Prop) (hG : GOK_ G) (hf : wX5_find x0 x1 σ post) : Met l yX5_find (ws_ yX5_find cX5_find 3 (some ((Jvm.ClassFile.FieldType.object "WriteOnceDisc$Node")))) { frames := 4, cells := 0, slots := 0, locals := 84 } (PC_ G [rv_ x0, .int x1] σ) (QR_ G (fun r τ => τ = σ ∧ post r)) 0 0 (FR_ G) := by
  refine Met.ofW (cc := cX5_find) (maxL := 3) (ret := (some ((Jvm.ClassFile.FieldType.object "WriteOnceDisc$Node")))) (by decide) rfl ?_
  intro p e s m args below meth c s₁ B hml hv
  obtain ⟨rfl, hP, hW⟩ := hv
  have hts := atoms_spec (ws := ws_ yX5_find cX5_find 3 (some ((Jvm.ClassFile.FieldType.object "WriteOnceDisc$Node")))) B.pre
  have hts : ∀ w ∈ lw_all, w.before _ s = true := fun w h => hts w (List.mem_cons_of_mem _ h)
  rw [lg_entry_eq]
  have hl := en_entry [rv_ x0, .int x1] [1, 1] (n := 3) (ca_r (ca_i ca_n)) (by decide)
  exact sX5_find ⟨⟨⟨B.exec, B.bytes, hml, findClass_of_methodNamed B.named, hts⟩, hW, hG⟩, B.notSynchronized, B.returns, Nat.le_refl _, Nat.le_refl _, ⟨rfl, rfl⟩, (name_of_methodNamed B.named B.method).1⟩ hf _ _ _ _ _ hP (LO_nil G) ⟨rfl, rfl⟩ hl
abbrev cX1_isDirectory : ByteArray := prog_1_method_8_code
def yX1_isDirectory : MethodName := ⟨RX1, "isDirectory", "(I)Z"⟩
theorem dX1_isDirectory_0 : decode cX1_isDirectory 0 = .ok (.aload_n 0, 1) := by decide +kernel
theorem dX1_isDirectory_1 : decode cX1_isDirectory 1 = .ok (.getfield 55, 3) := by decide +kernel
theorem dX1_isDirectory_4 : decode cX1_isDirectory 4 = .ok (.iload_n 1, 1) := by decide +kernel
theorem dX1_isDirectory_5 : decode cX1_isDirectory 5 = .ok (.invokevirtual 105, 3) := by decide +kernel
theorem dX1_isDirectory_8 : decode cX1_isDirectory 8 = .ok (.ifnull 21, 3) := by decide +kernel
theorem dX1_isDirectory_11 : decode cX1_isDirectory 11 = .ok (.aload_n 0, 1) := by decide +kernel
theorem dX1_isDirectory_12 : decode cX1_isDirectory 12 = .ok (.getfield 55, 3) := by decide +kernel
theorem dX1_isDirectory_15 : decode cX1_isDirectory 15 = .ok (.iload_n 1, 1) := by decide +kernel
theorem dX1_isDirectory_16 : decode cX1_isDirectory 16 = .ok (.invokevirtual 105, 3) := by decide +kernel
theorem dX1_isDirectory_19 : decode cX1_isDirectory 19 = .ok (.getfield 109, 3) := by decide +kernel
theorem dX1_isDirectory_22 : decode cX1_isDirectory 22 = .ok (.ifCond .eq 7, 3) := by decide +kernel
theorem dX1_isDirectory_25 : decode cX1_isDirectory 25 = .ok (.iconst 1, 1) := by decide +kernel
theorem dX1_isDirectory_26 : decode cX1_isDirectory 26 = .ok (.goto 4, 3) := by decide +kernel
theorem dX1_isDirectory_29 : decode cX1_isDirectory 29 = .ok (.iconst 0, 1) := by decide +kernel
theorem dX1_isDirectory_30 : decode cX1_isDirectory 30 = .ok (.ireturn, 1) := by decide +kernel
/-- WriteOnceDisc.isDirectory(I)Z -/
def wX1_isDirectory (x0 : Nat) (x1 : Int32) (σ : Hp) (post : Int32 → Prop) : Prop :=
(tg_ σ x0 = 1 ∧ (tg_ σ (fR_ σ 0 4 x0) = 5 ∧ (wX5_find (fR_ σ 0 4 x0) x1 σ (fun r3 => ((r3 = 0 →
  post (0 : Int32)) ∧
 (¬ r3 = 0 →
  (wX5_find (fR_ σ 0 4 x0) x1 σ (fun r5 => (tg_ σ r5 = 6 ∧ (((fI_ σ 5 1 r5) = 0 →
   post (0 : Int32)) ∧
  (¬ (fI_ σ 5 1 r5) = 0 →
   post (1 : Int32))))))))))))
set_option maxHeartbeats 4000000 in
theorem sX1_isDirectory {G : GG_} {p : Program} {l : Launch} {e : Env} {R : Room} {s : State} {m : MethodId} {args : Array Value} {below : List Frame} {meth : Method} {c : Code} (Y : MX_ G p R s m args meth c cX1_isDirectory 2 RX1 (some Jvm.ClassFile.FieldType.boolean) 5 106 0 0 "isDirectory") {post : Int32 → Prop} {x0 : Nat} {x1 : Int32} {σ : Hp} (hf : wX1_isDirectory x0 x1 σ post) : WG_ G p l e R s m args below meth c (MQ below (QI_ G (fun r τ => τ = σ ∧ post r)) args s 0 0 (FR_ G)) BN_ 2 0 [(0, rv_ x0), (1, .int x1)] [] σ := by
  have ⟨X, hlk, hr, hRf, hRl, hRc, hnm⟩ := Y
  have ⟨⟨hx, hb, _, hown, hts⟩, _, _⟩ := X
  intro H locs cells slots ls hP hL hB hl
  obtain ⟨rfl, rfl⟩ := hB
  unfold wX1_isDirectory at hf
  refine p_aload_n hx hb dX1_isDirectory_0 rfl (lv_at hl 0 rfl) ?_
  obtain ⟨ht1, hf⟩ := hf
  refine p_gR X cf0_ (k := 4) (by decide) rfl hP ht1 q630 (fun _ h => h) dX1_isDirectory_1 ?_
  refine lv_iload_n hx hb dX1_isDirectory_4 rfl (lv_at hl 1 rfl) ?_
  obtain ⟨ht2, hf⟩ := hf
  refine p_callr hL (p_runV X cf4_ hP ht2 (metX5_find l G _ _ _ _ X.2.2 hf) (cwV 1 hts (lw_V q715 q716 q717 q92 q718) rfl rfl rfl (by decide +kernel) ⟨Nat.le_trans (Nat.le_of_ble_eq_true rfl) hRf, Nat.le_trans (Nat.le_of_ble_eq_true rfl) hRl⟩) rfl hl.1 rfl (by decide) dX1_isDirectory_5 ⟨Nat.zero_le _, Nat.zero_le _⟩) (fun r3 σ₁ H locs hf hP hL => ?_)
  obtain ⟨e₁, hf⟩ := hf
  rw [e₁] at hP
  refine p_ifnull (tgt := 29) hx hb dX1_isDirectory_8 (by decide) (fun c4 => ?_) (fun c4 => ?_)
  · have hf := hf.1 c4
    refine lv_iconst (v := 0) hx hb dX1_isDirectory_29 (by decide) ?_
    exact p_zret X hlk hP hL (Nat.le_refl _) (Nat.le_refl _) hr nr_0 dX1_isDirectory_30 ⟨rfl, hf⟩
  · have hf := hf.2 c4
    refine p_aload_n hx hb dX1_isDirectory_11 rfl (lv_at hl 0 rfl) ?_
    refine p_gR X cf0_ (k := 4) (by decide) rfl hP ht1 q630 (fun _ h => h) dX1_isDirectory_12 ?_
    refine lv_iload_n hx hb dX1_isDirectory_15 rfl (lv_at hl 1 rfl) ?_
    refine p_callr hL (p_runV X cf4_ hP ht2 (metX5_find l G _ _ _ _ X.2.2 hf) (cwV 1 hts (lw_V q715 q716 q717 q92 q718) rfl rfl rfl (by decide +kernel) ⟨Nat.le_trans (Nat.le_of_ble_eq_true rfl) hRf, Nat.le_trans (Nat.le_of_ble_eq_true rfl) hRl⟩) rfl hl.1 rfl (by decide) dX1_isDirectory_16 ⟨Nat.zero_le _, Nat.zero_le _⟩) (fun r5 σ₁ H locs hf hP hL => ?_)
    obtain ⟨e₁, hf⟩ := hf
    rw [e₁] at hP
    obtain ⟨ht6, hf⟩ := hf
    refine p_gI X cf5_ (k := 1) (by decide) rfl hP ht6 q441 (fun _ h => h) dX1_isDirectory_19 ?_
    refine lv_if_eq (tgt := 29) hx hb dX1_isDirectory_22 (by decide) (fun c7 => ?_) (fun c7 => ?_)
    · have hf := hf.1 c7
      refine lv_iconst (v := 0) hx hb dX1_isDirectory_29 (by decide) ?_
      exact p_zret X hlk hP hL (Nat.le_refl _) (Nat.le_refl _) hr nr_0 dX1_isDirectory_30 ⟨rfl, hf⟩
    · have hf := hf.2 c7
      refine lv_iconst (v := 1) hx hb dX1_isDirectory_25 (by decide) ?_
      refine lv_goto (tgt := 30) hx hb dX1_isDirectory_26 (by decide) ?_
      exact p_zret X hlk hP hL (Nat.le_refl _) (Nat.le_refl _) hr nr_1 dX1_isDirectory_30 ⟨rfl, hf⟩
set_option maxHeartbeats 4000000 in
theorem metX1_isDirectory (l : Launch) (G : GG_) (x0 : Nat) (x1 : Int32) (σ : Hp) (post : Int32 → Prop) (hG : GOK_ G) (hf : wX1_isDirectory x0 x1 σ post) : Met l yX1_isDirectory (ws_ yX1_isDirectory cX1_isDirectory 2 (some Jvm.ClassFile.FieldType.boolean)) { frames := 5, cells := 0, slots := 0, locals := 106 } (PC_ G [rv_ x0, .int x1] σ) (QI_ G (fun r τ => τ = σ ∧ post r)) 0 0 (FR_ G) := by
  refine Met.ofW (cc := cX1_isDirectory) (maxL := 2) (ret := (some Jvm.ClassFile.FieldType.boolean)) (by decide) rfl ?_
  intro p e s m args below meth c s₁ B hml hv
  obtain ⟨rfl, hP, hW⟩ := hv
  have hts := atoms_spec (ws := ws_ yX1_isDirectory cX1_isDirectory 2 (some Jvm.ClassFile.FieldType.boolean)) B.pre
  have hts : ∀ w ∈ lw_all, w.before _ s = true := fun w h => hts w (List.mem_cons_of_mem _ h)
  rw [lg_entry_eq]
  have hl := en_entry [rv_ x0, .int x1] [1, 1] (n := 2) (ca_r (ca_i ca_n)) (by decide)
  exact sX1_isDirectory ⟨⟨⟨B.exec, B.bytes, hml, findClass_of_methodNamed B.named, hts⟩, hW, hG⟩, B.notSynchronized, B.returns, Nat.le_refl _, Nat.le_refl _, ⟨rfl, rfl⟩, (name_of_methodNamed B.named B.method).1⟩ hf _ _ _ _ _ hP (LO_nil G) ⟨rfl, rfl⟩ hl
abbrev cX5_depth : ByteArray := prog_9_method_4_code
def yX5_depth : MethodName := ⟨RX5, "depth", "(I)I"⟩
theorem dX5_depth_0 : decode cX5_depth 0 = .ok (.iconst 0, 1) := by decide +kernel
theorem dX5_depth_1 : decode cX5_depth 1 = .ok (.istore_n 2, 1) := by decide +kernel
theorem dX5_depth_2 : decode cX5_depth 2 = .ok (.iload_n 1, 1) := by decide +kernel
theorem dX5_depth_3 : decode cX5_depth 3 = .ok (.istore_n 3, 1) := by decide +kernel
theorem dX5_depth_4 : decode cX5_depth 4 = .ok (.iload_n 3, 1) := by decide +kernel
theorem dX5_depth_5 : decode cX5_depth 5 = .ok (.ifCond .eq 18, 3) := by decide +kernel
theorem dX5_depth_8 : decode cX5_depth 8 = .ok (.iinc 2 1, 3) := by decide +kernel
theorem dX5_depth_11 : decode cX5_depth 11 = .ok (.aload_n 0, 1) := by decide +kernel
theorem dX5_depth_12 : decode cX5_depth 12 = .ok (.iload_n 3, 1) := by decide +kernel
theorem dX5_depth_13 : decode cX5_depth 13 = .ok (.invokevirtual 47, 3) := by decide +kernel
theorem dX5_depth_16 : decode cX5_depth 16 = .ok (.getfield 51, 3) := by decide +kernel
theorem dX5_depth_19 : decode cX5_depth 19 = .ok (.istore_n 3, 1) := by decide +kernel
theorem dX5_depth_20 : decode cX5_depth 20 = .ok (.goto (-16), 3) := by decide +kernel
theorem dX5_depth_23 : decode cX5_depth 23 = .ok (.iload_n 2, 1) := by decide +kernel
theorem dX5_depth_24 : decode cX5_depth 24 = .ok (.ireturn, 1) := by decide +kernel
/-- WriteOnceDisc$Tree.depth(I)I -/
def wX5_depth_B4 (post : Int32 → Prop) (rc4 : Int32 → Int32 → Prop) (x0 : Nat) (x2 : Int32) (x3 : Int32) (σ : Hp) : Prop :=
((x3 = 0 →
  post x2) ∧
 (¬ x3 = 0 →
  (∀ y2 : Int32, y2 = x2 + 1 → (tg_ σ x0 = 5 ∧ (wX5_find x0 x3 σ (fun r4 => (tg_ σ r4 = 6 ∧ (∀ y6 : Int32, y6 = (fI_ σ 5 2 r4) → rc4 y2 y6))))))))
def wX5_depth_L4 (post : Int32 → Prop) (x0 : Nat) (x2 : Int32) (x3 : Int32) (σ : Hp) : Prop :=
 ∃ (I : Int32 → Int32 → Prop) (μ : Int32 → Int32 → Nat), I x2 x3 ∧ ∀ (x2 : Int32) (x3 : Int32), I x2 x3 → wX5_depth_B4 post (fun x2' x3' => I x2' x3' ∧ μ x2' x3' < μ x2 x3) x0 x2 x3 σ
def wX5_depth (x0 : Nat) (x1 : Int32) (σ : Hp) (post : Int32 → Prop) : Prop :=
wX5_depth_L4 post x0 (0 : Int32) x1 σ
set_option maxHeartbeats 4000000 in
theorem sX5_depth_B4 {G : GG_} {p : Program} {l : Launch} {e : Env} {R : Room} {s : State} {m : MethodId} {args : Array Value} {below : List Frame} {meth : Method} {c : Code} (Y : MX_ G p R s m args meth c cX5_depth 4 RX5 (some Jvm.ClassFile.FieldType.int) 5 106 0 0 "depth") {post : Int32 → Prop} {rc4 : Int32 → Int32 → Prop} {x0 : Nat} {x2 : Int32} {x3 : Int32} {σ : Hp} (hrc4 : ∀ (x2 : Int32) (x3 : Int32), rc4 x2 x3 → WG_ G p l e R s m args below meth c (MQ below (QI_ G (fun r τ => τ = σ ∧ post r)) args s 0 0 (FR_ G)) BN_ 4 4 [(0, rv_ x0), (2, .int x2), (3, .int x3)] [] σ) (hf : wX5_depth_B4 post rc4 x0 x2 x3 σ) : WG_ G p l e R s m args below meth c (MQ below (QI_ G (fun r τ => τ = σ ∧ post r)) args s 0 0 (FR_ G)) BN_ 4 4 [(0, rv_ x0), (2, .int x2), (3, .int x3)] [] σ := by
  have ⟨X, hlk, hr, hRf, hRl, hRc, hnm⟩ := Y
  have ⟨⟨hx, hb, _, hown, hts⟩, _, _⟩ := X
  intro H locs cells slots ls hP hL hB hl
  obtain ⟨rfl, rfl⟩ := hB
  unfold wX5_depth_B4 at hf
  refine lv_iload_n hx hb dX5_depth_4 rfl (lv_at hl 2 rfl) ?_
  refine lv_if_eq (tgt := 23) hx hb dX5_depth_5 (by decide) (fun c1 => ?_) (fun c1 => ?_)
  · have hf := hf.1 c1
    refine lv_iload_n hx hb dX5_depth_23 rfl (lv_at hl 1 rfl) ?_
    exact p_iret X hlk hP hL (Nat.le_refl _) (Nat.le_refl _) hr dX5_depth_24 ⟨rfl, hf⟩
  · have hf := hf.2 c1
    have hl := lv_sub hl [1, 0, 2] rfl
    refine p_iincc (i := 2) (k := 1) hx hb (by decide) dX5_depth_8 hl (by decide) ⟨⟨ne_ rfl, Or.inl (ne_ rfl)⟩, ⟨⟨ne_ rfl, Or.inl (ne_ rfl)⟩, trivial⟩⟩ (fun y2 hy2 ls hl => ?_)
    have hf := hf y2 hy2
    refine p_aload_n hx hb dX5_depth_11 rfl (lv_at hl 1 rfl) ?_
    refine lv_iload_n hx hb dX5_depth_12 rfl (lv_at hl 2 rfl) ?_
    obtain ⟨ht3, hf⟩ := hf
    refine p_callr hL (p_runV X cf4_ hP ht3 (metX5_find l G _ _ _ _ X.2.2 hf) (cwV 1 hts (lw_V q740 q716 q717 q92 q718) rfl rfl rfl (by decide +kernel) ⟨Nat.le_trans (Nat.le_of_ble_eq_true rfl) hRf, Nat.le_trans (Nat.le_of_ble_eq_true rfl) hRl⟩) rfl hl.1 rfl (by decide) dX5_depth_13 ⟨Nat.zero_le _, Nat.zero_le _⟩) (fun r4 σ₁ H locs hf hP hL => ?_)
    obtain ⟨e₁, hf⟩ := hf
    rw [e₁] at hP
    obtain ⟨ht5, hf⟩ := hf
    refine p_gI X cf5_ (k := 2) (by decide) rfl hP ht5 q444 (fun _ h => h) dX5_depth_16 ?_
    have hl := lv_sub hl [0, 1] rfl
    refine lv_topi (fun y6 hy6 => ?_)
    have hf := hf y6 hy6
    refine p_istore_n (i := 3) hx hb dX5_depth_19 rfl hl (by decide) ⟨⟨ne_ rfl, Or.inr rfl⟩, ⟨⟨ne_ rfl, Or.inl (ne_ rfl)⟩, trivial⟩⟩ (fun ls hl => ?_)
    refine lv_goto (tgt := 4) hx hb dX5_depth_20 (by decide) ?_
    exact hrc4 _ _ hf _ _ _ _ _ hP hL ⟨rfl, rfl⟩ (lv_sub hl [2, 1, 0] rfl)
set_option maxHeartbeats 4000000 in
theorem sX5_depth_L4 {G : GG_} {p : Program} {l : Launch} {e : Env} {R : Room} {s : State} {m : MethodId} {args : Array Value} {below : List Frame} {meth : Method} {c : Code} (Y : MX_ G p R s m args meth c cX5_depth 4 RX5 (some Jvm.ClassFile.FieldType.int) 5 106 0 0 "depth") {post : Int32 → Prop} {x0 : Nat} {x2 : Int32} {x3 : Int32} {σ : Hp} (hf : wX5_depth_L4 post x0 x2 x3 σ) : WG_ G p l e R s m args below meth c (MQ below (QI_ G (fun r τ => τ = σ ∧ post r)) args s 0 0 (FR_ G)) BN_ 4 4 [(0, rv_ x0), (2, .int x2), (3, .int x3)] [] σ := by
  unfold wX5_depth_L4 at hf
  obtain ⟨I, μ, h0, hI⟩ := hf
  have key : ∀ (n : Nat) (x2 : Int32) (x3 : Int32), I x2 x3 → μ x2 x3 < n → WG_ G p l e R s m args below meth c (MQ below (QI_ G (fun r τ => τ = σ ∧ post r)) args s 0 0 (FR_ G)) BN_ 4 4 [(0, rv_ x0), (2, .int x2), (3, .int x3)] [] σ := by
    intro n
    induction n with
    | zero => intro x2 x3 _ h; exact absurd h (Nat.not_lt_zero _)
    | succ n ih => intro x2 x3 hi hn; exact sX5_depth_B4 Y (fun x2' x3' h => ih x2' x3' h.1 (Nat.lt_of_lt_of_le h.2 (Nat.le_of_lt_succ hn))) (hI x2 x3 hi)
  exact key _ _ _ h0 (Nat.lt_succ_self _)
set_option maxHeartbeats 4000000 in
theorem sX5_depth {G : GG_} {p : Program} {l : Launch} {e : Env} {R : Room} {s : State} {m : MethodId} {args : Array Value} {below : List Frame} {meth : Method} {c : Code} (Y : MX_ G p R s m args meth c cX5_depth 4 RX5 (some Jvm.ClassFile.FieldType.int) 5 106 0 0 "depth") {post : Int32 → Prop} {x0 : Nat} {x1 : Int32} {σ : Hp} (hf : wX5_depth x0 x1 σ post) : WG_ G p l e R s m args below meth c (MQ below (QI_ G (fun r τ => τ = σ ∧ post r)) args s 0 0 (FR_ G)) BN_ 4 0 [(0, rv_ x0), (1, .int x1)] [] σ := by
  have ⟨X, hlk, hr, hRf, hRl, hRc, hnm⟩ := Y
  have ⟨⟨hx, hb, _, hown, hts⟩, _, _⟩ := X
  intro H locs cells slots ls hP hL hB hl
  obtain ⟨rfl, rfl⟩ := hB
  unfold wX5_depth at hf
  refine lv_iconst (v := 0) hx hb dX5_depth_0 (by decide) ?_
  refine p_istore_n (i := 2) hx hb dX5_depth_1 rfl hl (by decide) ⟨⟨ne_ rfl, Or.inl (ne_ rfl)⟩, ⟨⟨ne_ rfl, Or.inr rfl⟩, trivial⟩⟩ (fun ls hl => ?_)
  refine lv_iload_n hx hb dX5_depth_2 rfl (lv_at hl 2 rfl) ?_
  have hl := lv_sub hl [0, 1] rfl
  refine p_istore_n (i := 3) hx hb dX5_depth_3 rfl hl (by decide) ⟨⟨ne_ rfl, Or.inr rfl⟩, ⟨⟨ne_ rfl, Or.inl (ne_ rfl)⟩, trivial⟩⟩ (fun ls hl => ?_)
  exact sX5_depth_L4 Y hf _ _ _ _ _ hP hL ⟨rfl, rfl⟩ (lv_sub hl [2, 1, 0] rfl)
set_option maxHeartbeats 4000000 in
theorem metX5_depth (l : Launch) (G : GG_) (x0 : Nat) (x1 : Int32) (σ : Hp) (post : Int32 → Prop) (hG : GOK_ G) (hf : wX5_depth x0 x1 σ post) : Met l yX5_depth (ws_ yX5_depth cX5_depth 4 (some Jvm.ClassFile.FieldType.int)) { frames := 5, cells := 0, slots := 0, locals := 106 } (PC_ G [rv_ x0, .int x1] σ) (QI_ G (fun r τ => τ = σ ∧ post r)) 0 0 (FR_ G) := by
  refine Met.ofW (cc := cX5_depth) (maxL := 4) (ret := (some Jvm.ClassFile.FieldType.int)) (by decide) rfl ?_
  intro p e s m args below meth c s₁ B hml hv
  obtain ⟨rfl, hP, hW⟩ := hv
  have hts := atoms_spec (ws := ws_ yX5_depth cX5_depth 4 (some Jvm.ClassFile.FieldType.int)) B.pre
  have hts : ∀ w ∈ lw_all, w.before _ s = true := fun w h => hts w (List.mem_cons_of_mem _ h)
  rw [lg_entry_eq]
  have hl := en_entry [rv_ x0, .int x1] [1, 1] (n := 4) (ca_r (ca_i ca_n)) (by decide)
  exact sX5_depth ⟨⟨⟨B.exec, B.bytes, hml, findClass_of_methodNamed B.named, hts⟩, hW, hG⟩, B.notSynchronized, B.returns, Nat.le_refl _, Nat.le_refl _, ⟨rfl, rfl⟩, (name_of_methodNamed B.named B.method).1⟩ hf _ _ _ _ _ hP (LO_nil G) ⟨rfl, rfl⟩ hl
abbrev cX5_isNamed : ByteArray := prog_9_method_5_code
def yX5_isNamed : MethodName := ⟨RX5, "isNamed", "(ILjava/lang/String;I)Z"⟩
theorem dX5_isNamed_0 : decode cX5_isNamed 0 = .ok (.iconst 0, 1) := by decide +kernel
theorem dX5_isNamed_1 : decode cX5_isNamed 1 = .ok (.istore 4, 2) := by decide +kernel
theorem dX5_isNamed_3 : decode cX5_isNamed 3 = .ok (.iconst 0, 1) := by decide +kernel
theorem dX5_isNamed_4 : decode cX5_isNamed 4 = .ok (.istore 5, 2) := by decide +kernel
theorem dX5_isNamed_6 : decode cX5_isNamed 6 = .ok (.iload 5, 2) := by decide +kernel
theorem dX5_isNamed_8 : decode cX5_isNamed 8 = .ok (.aload_n 0, 1) := by decide +kernel
theorem dX5_isNamed_9 : decode cX5_isNamed 9 = .ok (.getfield 12, 3) := by decide +kernel
theorem dX5_isNamed_12 : decode cX5_isNamed 12 = .ok (.invokevirtual 39, 3) := by decide +kernel
theorem dX5_isNamed_15 : decode cX5_isNamed 15 = .ok (.if_icmp .ge 81, 3) := by decide +kernel
theorem dX5_isNamed_18 : decode cX5_isNamed 18 = .ok (.iload 4, 2) := by decide +kernel
theorem dX5_isNamed_20 : decode cX5_isNamed 20 = .ok (.ifCond .ne 63, 3) := by decide +kernel
theorem dX5_isNamed_23 : decode cX5_isNamed 23 = .ok (.aload_n 0, 1) := by decide +kernel
theorem dX5_isNamed_24 : decode cX5_isNamed 24 = .ok (.getfield 12, 3) := by decide +kernel
theorem dX5_isNamed_27 : decode cX5_isNamed 27 = .ok (.iload 5, 2) := by decide +kernel
theorem dX5_isNamed_29 : decode cX5_isNamed 29 = .ok (.invokevirtual 43, 3) := by decide +kernel
theorem dX5_isNamed_32 : decode cX5_isNamed 32 = .ok (.checkcast 18, 3) := by decide +kernel
theorem dX5_isNamed_35 : decode cX5_isNamed 35 = .ok (.getfield 51, 3) := by decide +kernel
theorem dX5_isNamed_38 : decode cX5_isNamed 38 = .ok (.iload_n 1, 1) := by decide +kernel
theorem dX5_isNamed_39 : decode cX5_isNamed 39 = .ok (.if_icmp .ne 48, 3) := by decide +kernel
theorem dX5_isNamed_42 : decode cX5_isNamed 42 = .ok (.aload_n 0, 1) := by decide +kernel
theorem dX5_isNamed_43 : decode cX5_isNamed 43 = .ok (.getfield 12, 3) := by decide +kernel
theorem dX5_isNamed_46 : decode cX5_isNamed 46 = .ok (.iload 5, 2) := by decide +kernel
theorem dX5_isNamed_48 : decode cX5_isNamed 48 = .ok (.invokevirtual 43, 3) := by decide +kernel
theorem dX5_isNamed_51 : decode cX5_isNamed 51 = .ok (.checkcast 18, 3) := by decide +kernel
theorem dX5_isNamed_54 : decode cX5_isNamed 54 = .ok (.getfield 32, 3) := by decide +kernel
theorem dX5_isNamed_57 : decode cX5_isNamed 57 = .ok (.iload_n 3, 1) := by decide +kernel
theorem dX5_isNamed_58 : decode cX5_isNamed 58 = .ok (.if_icmp .eq 29, 3) := by decide +kernel
theorem dX5_isNamed_61 : decode cX5_isNamed 61 = .ok (.aload_n 0, 1) := by decide +kernel
theorem dX5_isNamed_62 : decode cX5_isNamed 62 = .ok (.getfield 12, 3) := by decide +kernel
theorem dX5_isNamed_65 : decode cX5_isNamed 65 = .ok (.iload 5, 2) := by decide +kernel
theorem dX5_isNamed_67 : decode cX5_isNamed 67 = .ok (.invokevirtual 43, 3) := by decide +kernel
theorem dX5_isNamed_70 : decode cX5_isNamed 70 = .ok (.checkcast 18, 3) := by decide +kernel
theorem dX5_isNamed_73 : decode cX5_isNamed 73 = .ok (.getfield 54, 3) := by decide +kernel
theorem dX5_isNamed_76 : decode cX5_isNamed 76 = .ok (.aload_n 2, 1) := by decide +kernel
theorem dX5_isNamed_77 : decode cX5_isNamed 77 = .ok (.invokevirtual 58, 3) := by decide +kernel
theorem dX5_isNamed_80 : decode cX5_isNamed 80 = .ok (.ifCond .eq 7, 3) := by decide +kernel
theorem dX5_isNamed_83 : decode cX5_isNamed 83 = .ok (.iconst 1, 1) := by decide +kernel
theorem dX5_isNamed_84 : decode cX5_isNamed 84 = .ok (.goto 4, 3) := by decide +kernel
theorem dX5_isNamed_87 : decode cX5_isNamed 87 = .ok (.iconst 0, 1) := by decide +kernel
theorem dX5_isNamed_88 : decode cX5_isNamed 88 = .ok (.istore 4, 2) := by decide +kernel
theorem dX5_isNamed_90 : decode cX5_isNamed 90 = .ok (.iinc 5 1, 3) := by decide +kernel
theorem dX5_isNamed_93 : decode cX5_isNamed 93 = .ok (.goto (-87), 3) := by decide +kernel
theorem dX5_isNamed_96 : decode cX5_isNamed 96 = .ok (.iload 4, 2) := by decide +kernel
theorem dX5_isNamed_98 : decode cX5_isNamed 98 = .ok (.ireturn, 1) := by decide +kernel
/-- WriteOnceDisc$Tree.isNamed(ILjava/lang/String;I)Z -/
def wX5_isNamed_L88 (post : Int32 → Prop) (rc6 : Int32 → Int32 → Prop) (x0 : Nat) (x1 : Int32) (x2 : Nat) (x3 : Int32) (x5 : Int32) (s0 : Int32) (σ : Hp) : Prop :=
(∀ y1 : Int32, y1 = x5 + 1 → rc6 s0 y1)
def wX5_isNamed_L87 (post : Int32 → Prop) (rc6 : Int32 → Int32 → Prop) (x0 : Nat) (x1 : Int32) (x2 : Nat) (x3 : Int32) (x5 : Int32) (σ : Hp) : Prop :=
wX5_isNamed_L88 post rc6 x0 x1 x2 x3 x5 (0 : Int32) σ
def wX5_isNamed_L83 (post : Int32 → Prop) (rc6 : Int32 → Int32 → Prop) (x0 : Nat) (x1 : Int32) (x2 : Nat) (x3 : Int32) (x5 : Int32) (σ : Hp) : Prop :=
wX5_isNamed_L88 post rc6 x0 x1 x2 x3 x5 (1 : Int32) σ
def wX5_isNamed_B6 (post : Int32 → Prop) (rc6 : Int32 → Int32 → Prop) (x0 : Nat) (x1 : Int32) (x2 : Nat) (x3 : Int32) (x4 : Int32) (x5 : Int32) (σ : Hp) : Prop :=
(tg_ σ x0 = 5 ∧ (tg_ σ (fR_ σ 4 0 x0) = 11 ∧ (wJ2_size (fR_ σ 4 0 x0)  σ (fun r4 => ((r4 ≤ x5 →
  (nr_ .boolean x4 ∧ post x4)) ∧
 (¬ r4 ≤ x5 →
  ((¬ x4 = 0 →
   wX5_isNamed_L83 post rc6 x0 x1 x2 x3 x5 σ) ∧
  (x4 = 0 →
   (wJ2_get (fR_ σ 4 0 x0) x5 σ (fun r8 => ((r8 = 0 ∨ tg_ σ r8 = 6) ∧ (tg_ σ r8 = 6 ∧ ((¬ (fI_ σ 5 2 r8) = x1 →
    wX5_isNamed_L87 post rc6 x0 x1 x2 x3 x5 σ) ∧
   ((fI_ σ 5 2 r8) = x1 →
    (wJ2_get (fR_ σ 4 0 x0) x5 σ (fun r12 => ((r12 = 0 ∨ tg_ σ r12 = 6) ∧ (tg_ σ r12 = 6 ∧ (((fI_ σ 5 0 r12) = x3 →
     wX5_isNamed_L87 post rc6 x0 x1 x2 x3 x5 σ) ∧
    (¬ (fI_ σ 5 0 r12) = x3 →
     (wJ2_get (fR_ σ 4 0 x0) x5 σ (fun r16 => ((r16 = 0 ∨ tg_ σ r16 = 6) ∧ (tg_ σ r16 = 6 ∧ (tg_ σ (fR_ σ 5 6 r16) = 13 ∧ (wJ5_equals (fR_ σ 5 6 r16) x2 σ (fun r20 => ((r20 = 0 →
      wX5_isNamed_L87 post rc6 x0 x1 x2 x3 x5 σ) ∧
     (¬ r20 = 0 →
      wX5_isNamed_L83 post rc6 x0 x1 x2 x3 x5 σ)))))))))))))))))))))))))))))
def wX5_isNamed_L6 (post : Int32 → Prop) (x0 : Nat) (x1 : Int32) (x2 : Nat) (x3 : Int32) (x4 : Int32) (x5 : Int32) (σ : Hp) : Prop :=
 ∃ (I : Int32 → Int32 → Prop) (μ : Int32 → Int32 → Nat), I x4 x5 ∧ ∀ (x4 : Int32) (x5 : Int32), I x4 x5 → wX5_isNamed_B6 post (fun x4' x5' => I x4' x5' ∧ μ x4' x5' < μ x4 x5) x0 x1 x2 x3 x4 x5 σ
def wX5_isNamed (x0 : Nat) (x1 : Int32) (x2 : Nat) (x3 : Int32) (σ : Hp) (post : Int32 → Prop) : Prop :=
wX5_isNamed_L6 post x0 x1 x2 x3 (0 : Int32) (0 : Int32) σ
set_option maxHeartbeats 4000000 in
theorem sX5_isNamed_L88 {G : GG_} {p : Program} {l : Launch} {e : Env} {R : Room} {s : State} {m : MethodId} {args : Array Value} {below : List Frame} {meth : Method} {c : Code} (Y : MX_ G p R s m args meth c cX5_isNamed 6 RX5 (some Jvm.ClassFile.FieldType.boolean) 4 84 0 0 "isNamed") {post : Int32 → Prop} {rc6 : Int32 → Int32 → Prop} {x0 : Nat} {x1 : Int32} {x2 : Nat} {x3 : Int32} {x5 : Int32} {s0 : Int32} {σ : Hp} (hrc6 : ∀ (x4 : Int32) (x5 : Int32), rc6 x4 x5 → WG_ G p l e R s m args below meth c (MQ below (QI_ G (fun r τ => τ = σ ∧ post r)) args s 0 0 (FR_ G)) BN_ 6 6 [(0, rv_ x0), (1, .int x1), (2, rv_ x2), (3, .int x3), (4, .int x4), (5, .int x5)] [] σ) (hf : wX5_isNamed_L88 post rc6 x0 x1 x2 x3 x5 s0 σ) : WG_ G p l e R s m args below meth c (MQ below (QI_ G (fun r τ => τ = σ ∧ post r)) args s 0 0 (FR_ G)) BN_ 6 88 [(0, rv_ x0), (1, .int x1), (2, rv_ x2), (3, .int x3), (5, .int x5)] [.int s0] σ := by
  have ⟨X, hlk, hr, hRf, hRl, hRc, hnm⟩ := Y
  have ⟨⟨hx, hb, _, hown, hts⟩, _, _⟩ := X
  intro H locs cells slots ls hP hL hB hl
  obtain ⟨rfl, rfl⟩ := hB
  unfold wX5_isNamed_L88 at hf
  refine p_istore (i := 4) hx hb dX5_isNamed_88 hl (by decide) ⟨⟨ne_ rfl, Or.inl (ne_ rfl)⟩, ⟨⟨ne_ rfl, Or.inl (ne_ rfl)⟩, ⟨⟨ne_ rfl, Or.inl (ne_ rfl)⟩, ⟨⟨ne_ rfl, Or.inr rfl⟩, ⟨⟨ne_ rfl, Or.inl (ne_ rfl)⟩, trivial⟩⟩⟩⟩⟩ (fun ls hl => ?_)
  have hl := lv_sub hl [5, 0, 1, 2, 3, 4] rfl
  refine p_iincc (i := 5) (k := 1) hx hb (by decide) dX5_isNamed_90 hl (by decide) ⟨⟨ne_ rfl, Or.inr rfl⟩, ⟨⟨ne_ rfl, Or.inl (ne_ rfl)⟩, ⟨⟨ne_ rfl, Or.inl (ne_ rfl)⟩, ⟨⟨ne_ rfl, Or.inl (ne_ rfl)⟩, ⟨⟨ne_ rfl, Or.inl (ne_ rfl)⟩, trivial⟩⟩⟩⟩⟩ (fun y1 hy1 ls hl => ?_)
  have hf := hf y1 hy1
  refine lv_goto (tgt := 6) hx hb dX5_isNamed_93 (by decide) ?_
  exact hrc6 _ _ hf _ _ _ _ _ hP hL ⟨rfl, rfl⟩ (lv_sub hl [2, 3, 4, 5, 1, 0] rfl)
set_option maxHeartbeats 4000000 in
theorem sX5_isNamed_L87 {G : GG_} {p : Program} {l : Launch} {e : Env} {R : Room} {s : State} {m : MethodId} {args : Array Value} {below : List Frame} {meth : Method} {c : Code} (Y : MX_ G p R s m args meth c cX5_isNamed 6 RX5 (some Jvm.ClassFile.FieldType.boolean) 4 84 0 0 "isNamed") {post : Int32 → Prop} {rc6 : Int32 → Int32 → Prop} {x0 : Nat} {x1 : Int32} {x2 : Nat} {x3 : Int32} {x5 : Int32} {σ : Hp} (hrc6 : ∀ (x4 : Int32) (x5 : Int32), rc6 x4 x5 → WG_ G p l e R s m args below meth c (MQ below (QI_ G (fun r τ => τ = σ ∧ post r)) args s 0 0 (FR_ G)) BN_ 6 6 [(0, rv_ x0), (1, .int x1), (2, rv_ x2), (3, .int x3), (4, .int x4), (5, .int x5)] [] σ) (hf : wX5_isNamed_L87 post rc6 x0 x1 x2 x3 x5 σ) : WG_ G p l e R s m args below meth c (MQ below (QI_ G (fun r τ => τ = σ ∧ post r)) args s 0 0 (FR_ G)) BN_ 6 87 [(0, rv_ x0), (1, .int x1), (2, rv_ x2), (3, .int x3), (5, .int x5)] [] σ := by
  have ⟨X, hlk, hr, hRf, hRl, hRc, hnm⟩ := Y
  have ⟨⟨hx, hb, _, hown, hts⟩, _, _⟩ := X
  intro H locs cells slots ls hP hL hB hl
  obtain ⟨rfl, rfl⟩ := hB
  unfold wX5_isNamed_L87 at hf
  refine lv_iconst (v := 0) hx hb dX5_isNamed_87 (by decide) ?_
  exact sX5_isNamed_L88 Y hrc6 hf _ _ _ _ _ hP hL ⟨rfl, rfl⟩ (lv_sub hl [0, 1, 2, 3, 4] rfl)
set_option maxHeartbeats 4000000 in
theorem sX5_isNamed_L83 {G : GG_} {p : Program} {l : Launch} {e : Env} {R : Room} {s : State} {m : MethodId} {args : Array Value} {below : List Frame} {meth : Method} {c : Code} (Y : MX_ G p R s m args meth c cX5_isNamed 6 RX5 (some Jvm.ClassFile.FieldType.boolean) 4 84 0 0 "isNamed") {post : Int32 → Prop} {rc6 : Int32 → Int32 → Prop} {x0 : Nat} {x1 : Int32} {x2 : Nat} {x3 : Int32} {x5 : Int32} {σ : Hp} (hrc6 : ∀ (x4 : Int32) (x5 : Int32), rc6 x4 x5 → WG_ G p l e R s m args below meth c (MQ below (QI_ G (fun r τ => τ = σ ∧ post r)) args s 0 0 (FR_ G)) BN_ 6 6 [(0, rv_ x0), (1, .int x1), (2, rv_ x2), (3, .int x3), (4, .int x4), (5, .int x5)] [] σ) (hf : wX5_isNamed_L83 post rc6 x0 x1 x2 x3 x5 σ) : WG_ G p l e R s m args below meth c (MQ below (QI_ G (fun r τ => τ = σ ∧ post r)) args s 0 0 (FR_ G)) BN_ 6 83 [(0, rv_ x0), (1, .int x1), (2, rv_ x2), (3, .int x3), (5, .int x5)] [] σ := by
  have ⟨X, hlk, hr, hRf, hRl, hRc, hnm⟩ := Y
  have ⟨⟨hx, hb, _, hown, hts⟩, _, _⟩ := X
  intro H locs cells slots ls hP hL hB hl
  obtain ⟨rfl, rfl⟩ := hB
  unfold wX5_isNamed_L83 at hf
  refine lv_iconst (v := 1) hx hb dX5_isNamed_83 (by decide) ?_
  refine lv_goto (tgt := 88) hx hb dX5_isNamed_84 (by decide) ?_
  exact sX5_isNamed_L88 Y hrc6 hf _ _ _ _ _ hP hL ⟨rfl, rfl⟩ (lv_sub hl [0, 1, 2, 3, 4] rfl)
set_option maxHeartbeats 4000000 in
theorem sX5_isNamed_B6 {G : GG_} {p : Program} {l : Launch} {e : Env} {R : Room} {s : State} {m : MethodId} {args : Array Value} {below : List Frame} {meth : Method} {c : Code} (Y : MX_ G p R s m args meth c cX5_isNamed 6 RX5 (some Jvm.ClassFile.FieldType.boolean) 4 84 0 0 "isNamed") {post : Int32 → Prop} {rc6 : Int32 → Int32 → Prop} {x0 : Nat} {x1 : Int32} {x2 : Nat} {x3 : Int32} {x4 : Int32} {x5 : Int32} {σ : Hp} (hrc6 : ∀ (x4 : Int32) (x5 : Int32), rc6 x4 x5 → WG_ G p l e R s m args below meth c (MQ below (QI_ G (fun r τ => τ = σ ∧ post r)) args s 0 0 (FR_ G)) BN_ 6 6 [(0, rv_ x0), (1, .int x1), (2, rv_ x2), (3, .int x3), (4, .int x4), (5, .int x5)] [] σ) (hf : wX5_isNamed_B6 post rc6 x0 x1 x2 x3 x4 x5 σ) : WG_ G p l e R s m args below meth c (MQ below (QI_ G (fun r τ => τ = σ ∧ post r)) args s 0 0 (FR_ G)) BN_ 6 6 [(0, rv_ x0), (1, .int x1), (2, rv_ x2), (3, .int x3), (4, .int x4), (5, .int x5)] [] σ := by
  have ⟨X, hlk, hr, hRf, hRl, hRc, hnm⟩ := Y
  have ⟨⟨hx, hb, _, hown, hts⟩, _, _⟩ := X
  intro H locs cells slots ls hP hL hB hl
  obtain ⟨rfl, rfl⟩ := hB
  unfold wX5_isNamed_B6 at hf
  refine lv_iload hx hb dX5_isNamed_6 (lv_at hl 5 rfl) ?_
  refine p_aload_n hx hb dX5_isNamed_8 rfl (lv_at hl 0 rfl) ?_
  obtain ⟨ht2, hf⟩ := hf
  refine p_gR X cf4_ (k := 0) (by decide) rfl hP ht2 q541 (fun _ h => h) dX5_isNamed_9 ?_
  obtain ⟨ht3, hf⟩ := hf
  refine p_calli hL (p_runV X cf10_ hP ht3 (metJ2_size l G _ _ _ X.2.2 hf) (cwV 0 hts (lw_V q719 q720 q721 q90 q722) rfl rfl rfl (by decide +kernel) ⟨Nat.le_trans (Nat.le_of_ble_eq_true rfl) hRf, Nat.le_trans (Nat.le_of_ble_eq_true rfl) hRl⟩) rfl hl.1 rfl (by rw [(ca_i ca_n)]; decide) dX5_isNamed_12 ⟨Nat.zero_le _, Nat.zero_le _⟩) (fun r4 σ₁ H locs hf hP hL => ?_)
  obtain ⟨e₁, hf⟩ := hf
  rw [e₁] at hP
  refine lv_icmp_ge (tgt := 96) hx hb dX5_isNamed_15 (by decide) (fun c5 => ?_) (fun c5 => ?_)
  · have hf := hf.1 c5
    refine lv_iload hx hb dX5_isNamed_96 (lv_at hl 4 rfl) ?_
    obtain ⟨hn6, hf⟩ := hf
    exact p_zret X hlk hP hL (Nat.le_refl _) (Nat.le_refl _) hr hn6 dX5_isNamed_98 ⟨rfl, hf⟩
  · have hf := hf.2 c5
    refine lv_iload hx hb dX5_isNamed_18 (lv_at hl 4 rfl) ?_
    refine lv_if_ne (tgt := 83) hx hb dX5_isNamed_20 (by decide) (fun c7 => ?_) (fun c7 => ?_)
    · have hf := hf.1 c7
      exact sX5_isNamed_L83 Y hrc6 hf _ _ _ _ _ hP hL ⟨rfl, rfl⟩ (lv_sub hl [0, 1, 2, 3, 5] rfl)
    · have hf := hf.2 c7
      refine p_aload_n hx hb dX5_isNamed_23 rfl (lv_at hl 0 rfl) ?_
      refine p_gR X cf4_ (k := 0) (by decide) rfl hP ht2 q541 (fun _ h => h) dX5_isNamed_24 ?_
      refine lv_iload hx hb dX5_isNamed_27 (lv_at hl 5 rfl) ?_
      refine p_callr hL (p_runV X cf10_ hP ht3 (metJ2_get l G _ _ _ _ X.2.2 hf) (cwV 1 hts (lw_V q723 q724 q725 q90 q726) rfl rfl rfl (by decide +kernel) ⟨Nat.le_trans (Nat.le_of_ble_eq_true rfl) hRf, Nat.le_trans (Nat.le_of_ble_eq_true rfl) hRl⟩) rfl hl.1 rfl (by decide) dX5_isNamed_29 ⟨Nat.zero_le _, Nat.zero_le _⟩) (fun r8 σ₁ H locs hf hP hL => ?_)
      obtain ⟨e₁, hf⟩ := hf
      rw [e₁] at hP
      obtain ⟨hc9, hf⟩ := hf
      refine p_cast X cf5_ hP hc9 q212 dX5_isNamed_32 ?_
      obtain ⟨ht10, hf⟩ := hf
      refine p_gI X cf5_ (k := 2) (by decide) rfl hP ht10 q444 (fun _ h => h) dX5_isNamed_35 ?_
      refine lv_iload_n hx hb dX5_isNamed_38 rfl (lv_at hl 1 rfl) ?_
      refine lv_icmp_ne (tgt := 87) hx hb dX5_isNamed_39 (by decide) (fun c11 => ?_) (fun c11 => ?_)
      · have hf := hf.1 c11
        exact sX5_isNamed_L87 Y hrc6 hf _ _ _ _ _ hP hL ⟨rfl, rfl⟩ (lv_sub hl [0, 1, 2, 3, 5] rfl)
      · have hf := hf.2 c11
        refine p_aload_n hx hb dX5_isNamed_42 rfl (lv_at hl 0 rfl) ?_
        refine p_gR X cf4_ (k := 0) (by decide) rfl hP ht2 q541 (fun _ h => h) dX5_isNamed_43 ?_
        refine lv_iload hx hb dX5_isNamed_46 (lv_at hl 5 rfl) ?_
        refine p_callr hL (p_runV X cf10_ hP ht3 (metJ2_get l G _ _ _ _ X.2.2 hf) (cwV 1 hts (lw_V q723 q724 q725 q90 q726) rfl rfl rfl (by decide +kernel) ⟨Nat.le_trans (Nat.le_of_ble_eq_true rfl) hRf, Nat.le_trans (Nat.le_of_ble_eq_true rfl) hRl⟩) rfl hl.1 rfl (by decide) dX5_isNamed_48 ⟨Nat.zero_le _, Nat.zero_le _⟩) (fun r12 σ₁ H locs hf hP hL => ?_)
        obtain ⟨e₁, hf⟩ := hf
        rw [e₁] at hP
        obtain ⟨hc13, hf⟩ := hf
        refine p_cast X cf5_ hP hc13 q212 dX5_isNamed_51 ?_
        obtain ⟨ht14, hf⟩ := hf
        refine p_gI X cf5_ (k := 0) (by decide) rfl hP ht14 q436 (fun _ h => h) dX5_isNamed_54 ?_
        refine lv_iload_n hx hb dX5_isNamed_57 rfl (lv_at hl 3 rfl) ?_
        refine lv_icmp_eq (tgt := 87) hx hb dX5_isNamed_58 (by decide) (fun c15 => ?_) (fun c15 => ?_)
        · have hf := hf.1 c15
          exact sX5_isNamed_L87 Y hrc6 hf _ _ _ _ _ hP hL ⟨rfl, rfl⟩ (lv_sub hl [0, 1, 2, 3, 5] rfl)
        · have hf := hf.2 c15
          refine p_aload_n hx hb dX5_isNamed_61 rfl (lv_at hl 0 rfl) ?_
          refine p_gR X cf4_ (k := 0) (by decide) rfl hP ht2 q541 (fun _ h => h) dX5_isNamed_62 ?_
          refine lv_iload hx hb dX5_isNamed_65 (lv_at hl 5 rfl) ?_
          refine p_callr hL (p_runV X cf10_ hP ht3 (metJ2_get l G _ _ _ _ X.2.2 hf) (cwV 1 hts (lw_V q723 q724 q725 q90 q726) rfl rfl rfl (by decide +kernel) ⟨Nat.le_trans (Nat.le_of_ble_eq_true rfl) hRf, Nat.le_trans (Nat.le_of_ble_eq_true rfl) hRl⟩) rfl hl.1 rfl (by decide) dX5_isNamed_67 ⟨Nat.zero_le _, Nat.zero_le _⟩) (fun r16 σ₁ H locs hf hP hL => ?_)
          obtain ⟨e₁, hf⟩ := hf
          rw [e₁] at hP
          obtain ⟨hc17, hf⟩ := hf
          refine p_cast X cf5_ hP hc17 q212 dX5_isNamed_70 ?_
          obtain ⟨ht18, hf⟩ := hf
          refine p_gR X cf5_ (k := 6) (by decide) rfl hP ht18 q455 (fun _ h => h) dX5_isNamed_73 ?_
          refine p_aload_n hx hb dX5_isNamed_76 rfl (lv_at hl 2 rfl) ?_
          obtain ⟨ht19, hf⟩ := hf
          refine p_calli hL (p_runV X cf12_ hP ht19 (metJ5_equals l G _ _ _ _ X.2.2 hf) (cwV 1 hts (lw_V q745 q746 q747 q96 q748) rfl rfl rfl (by decide +kernel) ⟨Nat.le_trans (Nat.le_of_ble_eq_true rfl) hRf, Nat.le_trans (Nat.le_of_ble_eq_true rfl) hRl⟩) rfl hl.1 rfl (by decide) dX5_isNamed_77 ⟨Nat.zero_le _, Nat.zero_le _⟩) (fun r20 σ₁ H locs hf hP hL => ?_)
          obtain ⟨e₁, hf⟩ := hf
          rw [e₁] at hP
          refine lv_if_eq (tgt := 87) hx hb dX5_isNamed_80 (by decide) (fun c21 => ?_) (fun c21 => ?_)
          · have hf := hf.1 c21
            exact sX5_isNamed_L87 Y hrc6 hf _ _ _ _ _ hP hL ⟨rfl, rfl⟩ (lv_sub hl [0, 1, 2, 3, 5] rfl)
          · have hf := hf.2 c21
            exact sX5_isNamed_L83 Y hrc6 hf _ _ _ _ _ hP hL ⟨rfl, rfl⟩ (lv_sub hl [0, 1, 2, 3, 5] rfl)
set_option maxHeartbeats 4000000 in
theorem sX5_isNamed_L6 {G : GG_} {p : Program} {l : Launch} {e : Env} {R : Room} {s : State} {m : MethodId} {args : Array Value} {below : List Frame} {meth : Method} {c : Code} (Y : MX_ G p R s m args meth c cX5_isNamed 6 RX5 (some Jvm.ClassFile.FieldType.boolean) 4 84 0 0 "isNamed") {post : Int32 → Prop} {x0 : Nat} {x1 : Int32} {x2 : Nat} {x3 : Int32} {x4 : Int32} {x5 : Int32} {σ : Hp} (hf : wX5_isNamed_L6 post x0 x1 x2 x3 x4 x5 σ) : WG_ G p l e R s m args below meth c (MQ below (QI_ G (fun r τ => τ = σ ∧ post r)) args s 0 0 (FR_ G)) BN_ 6 6 [(0, rv_ x0), (1, .int x1), (2, rv_ x2), (3, .int x3), (4, .int x4), (5, .int x5)] [] σ := by
  unfold wX5_isNamed_L6 at hf
  obtain ⟨I, μ, h0, hI⟩ := hf
  have key : ∀ (n : Nat) (x4 : Int32) (x5 : Int32), I x4 x5 → μ x4 x5 < n → WG_ G p l e R s m args below meth c (MQ below (QI_ G (fun r τ => τ = σ ∧ post r)) args s 0 0 (FR_ G)) BN_ 6 6 [(0, rv_ x0), (1, .int x1), (2, rv_ x2), (3, .int x3), (4, .int x4), (5, .int x5)] [] σ := by
    intro n
    induction n with
    | zero => intro x4 x5 _ h; exact absurd h (Nat.not_lt_zero _)
    | succ n ih => intro x4 x5 hi hn; exact sX5_isNamed_B6 Y (fun x4' x5' h => ih x4' x5' h.1 (Nat.lt_of_lt_of_le h.2 (Nat.le_of_lt_succ hn))) (hI x4 x5 hi)
  exact key _ _ _ h0 (Nat.lt_succ_self _)
set_option maxHeartbeats 4000000 in
theorem sX5_isNamed {G : GG_} {p : Program} {l : Launch} {e : Env} {R : Room} {s : State} {m : MethodId} {args : Array Value} {below : List Frame} {meth : Method} {c : Code} (Y : MX_ G p R s m args meth c cX5_isNamed 6 RX5 (some Jvm.ClassFile.FieldType.boolean) 4 84 0 0 "isNamed") {post : Int32 → Prop} {x0 : Nat} {x1 : Int32} {x2 : Nat} {x3 : Int32} {σ : Hp} (hf : wX5_isNamed x0 x1 x2 x3 σ post) : WG_ G p l e R s m args below meth c (MQ below (QI_ G (fun r τ => τ = σ ∧ post r)) args s 0 0 (FR_ G)) BN_ 6 0 [(0, rv_ x0), (1, .int x1), (2, rv_ x2), (3, .int x3)] [] σ := by
  have ⟨X, hlk, hr, hRf, hRl, hRc, hnm⟩ := Y
  have ⟨⟨hx, hb, _, hown, hts⟩, _, _⟩ := X
  intro H locs cells slots ls hP hL hB hl
  obtain ⟨rfl, rfl⟩ := hB
  unfold wX5_isNamed at hf
  refine lv_iconst (v := 0) hx hb dX5_isNamed_0 (by decide) ?_
  refine p_istore (i := 4) hx hb dX5_isNamed_1 hl (by decide) ⟨⟨ne_ rfl, Or.inl (ne_ rfl)⟩, ⟨⟨ne_ rfl, Or.inl (ne_ rfl)⟩, ⟨⟨ne_ rfl, Or.inl (ne_ rfl)⟩, ⟨⟨ne_ rfl, Or.inr rfl⟩, trivial⟩⟩⟩⟩ (fun ls hl => ?_)
  refine lv_iconst (v := 0) hx hb dX5_isNamed_3 (by decide) ?_
  refine p_istore (i := 5) hx hb dX5_isNamed_4 hl (by decide) ⟨⟨ne_ rfl, Or.inr rfl⟩, ⟨⟨ne_ rfl, Or.inl (ne_ rfl)⟩, ⟨⟨ne_ rfl, Or.inl (ne_ rfl)⟩, ⟨⟨ne_ rfl, Or.inl (ne_ rfl)⟩, ⟨⟨ne_ rfl, Or.inl (ne_ rfl)⟩, trivial⟩⟩⟩⟩⟩ (fun ls hl => ?_)
  exact sX5_isNamed_L6 Y hf _ _ _ _ _ hP hL ⟨rfl, rfl⟩ (lv_sub hl [2, 3, 4, 5, 1, 0] rfl)
set_option maxHeartbeats 4000000 in
theorem metX5_isNamed (l : Launch) (G : GG_) (x0 : Nat) (x1 : Int32) (x2 : Nat) (x3 : Int32) (σ : Hp) (post : Int32 → Prop) (hG : GOK_ G) (hf : wX5_isNamed x0 x1 x2 x3 σ post) : Met l yX5_isNamed (ws_ yX5_isNamed cX5_isNamed 6 (some Jvm.ClassFile.FieldType.boolean)) { frames := 4, cells := 0, slots := 0, locals := 84 } (PC_ G [rv_ x0, .int x1, rv_ x2, .int x3] σ) (QI_ G (fun r τ => τ = σ ∧ post r)) 0 0 (FR_ G) := by
  refine Met.ofW (cc := cX5_isNamed) (maxL := 6) (ret := (some Jvm.ClassFile.FieldType.boolean)) (by decide) rfl ?_
  intro p e s m args below meth c s₁ B hml hv
  obtain ⟨rfl, hP, hW⟩ := hv
  have hts := atoms_spec (ws := ws_ yX5_isNamed cX5_isNamed 6 (some Jvm.ClassFile.FieldType.boolean)) B.pre
  have hts : ∀ w ∈ lw_all, w.before _ s = true := fun w h => hts w (List.mem_cons_of_mem _ h)
  rw [lg_entry_eq]
  have hl := en_entry [rv_ x0, .int x1, rv_ x2, .int x3] [1, 1, 1, 1] (n := 6) (ca_r (ca_i (ca_r (ca_i ca_n)))) (by decide)
  exact sX5_isNamed ⟨⟨⟨B.exec, B.bytes, hml, findClass_of_methodNamed B.named, hts⟩, hW, hG⟩, B.notSynchronized, B.returns, Nat.le_refl _, Nat.le_refl _, ⟨rfl, rfl⟩, (name_of_methodNamed B.named B.method).1⟩ hf _ _ _ _ _ hP (LO_nil G) ⟨rfl, rfl⟩ hl
abbrev cX1_hindrance : ByteArray := prog_1_method_9_code
def yX1_hindrance : MethodName := ⟨RX1, "hindrance", "(ILjava/lang/String;ZZ)I"⟩
theorem dX1_hindrance_0 : decode cX1_hindrance 0 = .ok (.aload_n 0, 1) := by decide +kernel
theorem dX1_hindrance_1 : decode cX1_hindrance 1 = .ok (.getfield 39, 3) := by decide +kernel
theorem dX1_hindrance_4 : decode cX1_hindrance 4 = .ok (.getfield 115, 3) := by decide +kernel
theorem dX1_hindrance_7 : decode cX1_hindrance 7 = .ok (.ifCond .eq 6, 3) := by decide +kernel
theorem dX1_hindrance_10 : decode cX1_hindrance 10 = .ok (.bipush (-4), 2) := by decide +kernel
theorem dX1_hindrance_12 : decode cX1_hindrance 12 = .ok (.ireturn, 1) := by decide +kernel
theorem dX1_hindrance_13 : decode cX1_hindrance 13 = .ok (.aload_n 0, 1) := by decide +kernel
theorem dX1_hindrance_14 : decode cX1_hindrance 14 = .ok (.iload_n 1, 1) := by decide +kernel
theorem dX1_hindrance_15 : decode cX1_hindrance 15 = .ok (.invokevirtual 118, 3) := by decide +kernel
theorem dX1_hindrance_18 : decode cX1_hindrance 18 = .ok (.ifCond .eq 32, 3) := by decide +kernel
theorem dX1_hindrance_21 : decode cX1_hindrance 21 = .ok (.aload_n 2, 1) := by decide +kernel
theorem dX1_hindrance_22 : decode cX1_hindrance 22 = .ok (.invokevirtual 23, 3) := by decide +kernel
theorem dX1_hindrance_25 : decode cX1_hindrance 25 = .ok (.ifCond .eq 25, 3) := by decide +kernel
theorem dX1_hindrance_28 : decode cX1_hindrance 28 = .ok (.iload 4, 2) := by decide +kernel
theorem dX1_hindrance_30 : decode cX1_hindrance 30 = .ok (.ifCond .eq 20, 3) := by decide +kernel
theorem dX1_hindrance_33 : decode cX1_hindrance 33 = .ok (.iload_n 3, 1) := by decide +kernel
theorem dX1_hindrance_34 : decode cX1_hindrance 34 = .ok (.ifCond .eq 19, 3) := by decide +kernel
theorem dX1_hindrance_37 : decode cX1_hindrance 37 = .ok (.aload_n 0, 1) := by decide +kernel
theorem dX1_hindrance_38 : decode cX1_hindrance 38 = .ok (.getfield 55, 3) := by decide +kernel
theorem dX1_hindrance_41 : decode cX1_hindrance 41 = .ok (.iload_n 1, 1) := by decide +kernel
theorem dX1_hindrance_42 : decode cX1_hindrance 42 = .ok (.invokevirtual 121, 3) := by decide +kernel
theorem dX1_hindrance_45 : decode cX1_hindrance 45 = .ok (.bipush 6, 2) := by decide +kernel
theorem dX1_hindrance_47 : decode cX1_hindrance 47 = .ok (.if_icmp .ne 6, 3) := by decide +kernel
theorem dX1_hindrance_50 : decode cX1_hindrance 50 = .ok (.bipush (-2), 2) := by decide +kernel
theorem dX1_hindrance_52 : decode cX1_hindrance 52 = .ok (.ireturn, 1) := by decide +kernel
theorem dX1_hindrance_53 : decode cX1_hindrance 53 = .ok (.aload_n 0, 1) := by decide +kernel
theorem dX1_hindrance_54 : decode cX1_hindrance 54 = .ok (.getfield 55, 3) := by decide +kernel
theorem dX1_hindrance_57 : decode cX1_hindrance 57 = .ok (.iload_n 1, 1) := by decide +kernel
theorem dX1_hindrance_58 : decode cX1_hindrance 58 = .ok (.aload_n 2, 1) := by decide +kernel
theorem dX1_hindrance_59 : decode cX1_hindrance 59 = .ok (.iconst (-1), 1) := by decide +kernel
theorem dX1_hindrance_60 : decode cX1_hindrance 60 = .ok (.invokevirtual 125, 3) := by decide +kernel
theorem dX1_hindrance_63 : decode cX1_hindrance 63 = .ok (.ifCond .eq 6, 3) := by decide +kernel
theorem dX1_hindrance_66 : decode cX1_hindrance 66 = .ok (.bipush (-5), 2) := by decide +kernel
theorem dX1_hindrance_68 : decode cX1_hindrance 68 = .ok (.ireturn, 1) := by decide +kernel
theorem dX1_hindrance_69 : decode cX1_hindrance 69 = .ok (.aload_n 0, 1) := by decide +kernel
theorem dX1_hindrance_70 : decode cX1_hindrance 70 = .ok (.getfield 55, 3) := by decide +kernel
theorem dX1_hindrance_73 : decode cX1_hindrance 73 = .ok (.getfield 129, 3) := by decide +kernel
theorem dX1_hindrance_76 : decode cX1_hindrance 76 = .ok (.invokevirtual 133, 3) := by decide +kernel
theorem dX1_hindrance_79 : decode cX1_hindrance 79 = .ok (.bipush 30, 2) := by decide +kernel
theorem dX1_hindrance_81 : decode cX1_hindrance 81 = .ok (.if_icmp .ne 8, 3) := by decide +kernel
theorem dX1_hindrance_84 : decode cX1_hindrance 84 = .ok (.bipush (-3), 2) := by decide +kernel
theorem dX1_hindrance_86 : decode cX1_hindrance 86 = .ok (.goto 4, 3) := by decide +kernel
theorem dX1_hindrance_89 : decode cX1_hindrance 89 = .ok (.iconst 0, 1) := by decide +kernel
theorem dX1_hindrance_90 : decode cX1_hindrance 90 = .ok (.ireturn, 1) := by decide +kernel
/-- WriteOnceDisc.hindrance(ILjava/lang/String;ZZ)I -/
def wX1_hindrance_L53 (post : Int32 → Prop) (x0 : Nat) (x1 : Int32) (x2 : Nat) (σ : Hp) : Prop :=
(tg_ σ x0 = 1 ∧ (tg_ σ (fR_ σ 0 4 x0) = 5 ∧ (wX5_isNamed (fR_ σ 0 4 x0) x1 x2 (-1 : Int32) σ (fun r3 => ((r3 = 0 →
  (tg_ σ (fR_ σ 4 0 (fR_ σ 0 4 x0)) = 11 ∧ (wJ2_size (fR_ σ 4 0 (fR_ σ 0 4 x0))  σ (fun r6 => ((¬ r6 = (30 : Int32) →
   post (0 : Int32)) ∧
  (r6 = (30 : Int32) →
   post (-3 : Int32))))))) ∧
 (¬ r3 = 0 →
  post (-5 : Int32)))))))
def wX1_hindrance (x0 : Nat) (x1 : Int32) (x2 : Nat) (x3 : Int32) (x4 : Int32) (σ : Hp) (post : Int32 → Prop) : Prop :=
(tg_ σ x0 = 1 ∧ (tg_ σ (fR_ σ 0 0 x0) = 2 ∧ (((fI_ σ 1 2 (fR_ σ 0 0 x0)) = 0 →
  (wX1_isDirectory x0 x1 σ (fun r11 => ((r11 = 0 →
   post (-2 : Int32)) ∧
  (¬ r11 = 0 →
   (tg_ σ x2 = 13 ∧ (wJ5_length x2  σ (fun r14 => ((r14 = 0 →
    post (-2 : Int32)) ∧
   (¬ r14 = 0 →
    ((x4 = 0 →
     post (-2 : Int32)) ∧
    (¬ x4 = 0 →
     ((x3 = 0 →
      wX1_hindrance_L53 post x0 x1 x2 σ) ∧
     (¬ x3 = 0 →
      (tg_ σ (fR_ σ 0 4 x0) = 5 ∧ (wX5_depth (fR_ σ 0 4 x0) x1 σ (fun r19 => ((¬ r19 = (6 : Int32) →
       wX1_hindrance_L53 post x0 x1 x2 σ) ∧
      (r19 = (6 : Int32) →
       post (-2 : Int32)))))))))))))))))))) ∧
 (¬ (fI_ σ 1 2 (fR_ σ 0 0 x0)) = 0 →
  post (-4 : Int32)))))
set_option maxHeartbeats 4000000 in
theorem sX1_hindrance_L53 {G : GG_} {p : Program} {l : Launch} {e : Env} {R : Room} {s : State} {m : MethodId} {args : Array Value} {below : List Frame} {meth : Method} {c : Code} (Y : MX_ G p R s m args meth c cX1_hindrance 5 RX1 (some Jvm.ClassFile.FieldType.int) 6 129 0 0 "hindrance") {post : Int32 → Prop} {x0 : Nat} {x1 : Int32} {x2 : Nat} {σ : Hp} (hf : wX1_hindrance_L53 post x0 x1 x2 σ) : WG_ G p l e R s m args below meth c (MQ below (QI_ G (fun r τ => τ = σ ∧ post r)) args s 0 0 (FR_ G)) BN_ 5 53 [(0, rv_ x0), (1, .int x1), (2, rv_ x2)] [] σ := by
  have ⟨X, hlk, hr, hRf, hRl, hRc, hnm⟩ := Y
  have ⟨⟨hx, hb, _, hown, hts⟩, _, _⟩ := X
  intro H locs cells slots ls hP hL hB hl
  obtain ⟨rfl, rfl⟩ := hB
  unfold wX1_hindrance_L53 at hf
  refine p_aload_n hx hb dX1_hindrance_53 rfl (lv_at hl 0 rfl) ?_
  obtain ⟨ht1, hf⟩ := hf
  refine p_gR X cf0_ (k := 4) (by decide) rfl hP ht1 q630 (fun _ h => h) dX1_hindrance_54 ?_
  refine lv_iload_n hx hb dX1_hindrance_57 rfl (lv_at hl 1 rfl) ?_
  refine p_aload_n hx hb dX1_hindrance_58 rfl (lv_at hl 2 rfl) ?_
  refine lv_iconst (v := (-1)) hx hb dX1_hindrance_59 (by decide) ?_
  obtain ⟨ht2, hf⟩ := hf
  refine p_calli hL (p_runV X cf4_ hP ht2 (metX5_isNamed l G _ _ _ _ _ _ X.2.2 hf) (cwV 3 hts (lw_V q741 q742 q743 q92 q744) rfl rfl rfl (by decide +kernel) ⟨Nat.le_trans (Nat.le_of_ble_eq_true rfl) hRf, Nat.le_trans (Nat.le_of_ble_eq_true rfl) hRl⟩) rfl hl.1 rfl (by decide) dX1_hindrance_60 ⟨Nat.zero_le _, Nat.zero_le _⟩) (fun r3 σ₁ H locs hf hP hL => ?_)
  obtain ⟨e₁, hf⟩ := hf
  rw [e₁] at hP
  refine lv_if_eq (tgt := 69) hx hb dX1_hindrance_63 (by decide) (fun c4 => ?_) (fun c4 => ?_)
  · have hf := hf.1 c4
    refine p_aload_n hx hb dX1_hindrance_69 rfl (lv_at hl 0 rfl) ?_
    refine p_gR X cf0_ (k := 4) (by decide) rfl hP ht1 q630 (fun _ h => h) dX1_hindrance_70 ?_
    refine p_gR X cf4_ (k := 0) (by decide) rfl hP ht2 q542 (fun _ h => h) dX1_hindrance_73 ?_
    obtain ⟨ht5, hf⟩ := hf
    refine p_calli hL (p_runV X cf10_ hP ht5 (metJ2_size l G _ _ _ X.2.2 hf) (cwV 0 hts (lw_V q753 q720 q721 q90 q722) rfl rfl rfl (by decide +kernel) ⟨Nat.le_trans (Nat.le_of_ble_eq_true rfl) hRf, Nat.le_trans (Nat.le_of_ble_eq_true rfl) hRl⟩) rfl hl.1 rfl (by decide) dX1_hindrance_76 ⟨Nat.zero_le _, Nat.zero_le _⟩) (fun r6 σ₁ H locs hf hP hL => ?_)
    obtain ⟨e₁, hf⟩ := hf
    rw [e₁] at hP
    refine lv_bipush (v := 30) hx hb dX1_hindrance_79 (by decide) ?_
    refine lv_icmp_ne (tgt := 89) hx hb dX1_hindrance_81 (by decide) (fun c7 => ?_) (fun c7 => ?_)
    · have hf := hf.1 c7
      refine lv_iconst (v := 0) hx hb dX1_hindrance_89 (by decide) ?_
      exact p_iret X hlk hP hL (Nat.le_refl _) (Nat.le_refl _) hr dX1_hindrance_90 ⟨rfl, hf⟩
    · have hf := hf.2 c7
      refine lv_bipush (v := (-3)) hx hb dX1_hindrance_84 (by decide) ?_
      refine lv_goto (tgt := 90) hx hb dX1_hindrance_86 (by decide) ?_
      exact p_iret X hlk hP hL (Nat.le_refl _) (Nat.le_refl _) hr dX1_hindrance_90 ⟨rfl, hf⟩
  · have hf := hf.2 c4
    refine lv_bipush (v := (-5)) hx hb dX1_hindrance_66 (by decide) ?_
    exact p_iret X hlk hP hL (Nat.le_refl _) (Nat.le_refl _) hr dX1_hindrance_68 ⟨rfl, hf⟩
set_option maxHeartbeats 4000000 in
theorem sX1_hindrance {G : GG_} {p : Program} {l : Launch} {e : Env} {R : Room} {s : State} {m : MethodId} {args : Array Value} {below : List Frame} {meth : Method} {c : Code} (Y : MX_ G p R s m args meth c cX1_hindrance 5 RX1 (some Jvm.ClassFile.FieldType.int) 6 129 0 0 "hindrance") {post : Int32 → Prop} {x0 : Nat} {x1 : Int32} {x2 : Nat} {x3 : Int32} {x4 : Int32} {σ : Hp} (hf : wX1_hindrance x0 x1 x2 x3 x4 σ post) : WG_ G p l e R s m args below meth c (MQ below (QI_ G (fun r τ => τ = σ ∧ post r)) args s 0 0 (FR_ G)) BN_ 5 0 [(0, rv_ x0), (1, .int x1), (2, rv_ x2), (3, .int x3), (4, .int x4)] [] σ := by
  have ⟨X, hlk, hr, hRf, hRl, hRc, hnm⟩ := Y
  have ⟨⟨hx, hb, _, hown, hts⟩, _, _⟩ := X
  intro H locs cells slots ls hP hL hB hl
  obtain ⟨rfl, rfl⟩ := hB
  unfold wX1_hindrance at hf
  refine p_aload_n hx hb dX1_hindrance_0 rfl (lv_at hl 0 rfl) ?_
  obtain ⟨ht8, hf⟩ := hf
  refine p_gR X cf0_ (k := 0) (by decide) rfl hP ht8 q626 (fun _ h => h) dX1_hindrance_1 ?_
  obtain ⟨ht9, hf⟩ := hf
  refine p_gI X cf1_ (k := 2) (by decide) rfl hP ht9 q133 (fun _ h => h) dX1_hindrance_4 ?_
  refine lv_if_eq (tgt := 13) hx hb dX1_hindrance_7 (by decide) (fun c10 => ?_) (fun c10 => ?_)
  · have hf := hf.1 c10
    refine p_aload_n hx hb dX1_hindrance_13 rfl (lv_at hl 0 rfl) ?_
    refine lv_iload_n hx hb dX1_hindrance_14 rfl (lv_at hl 1 rfl) ?_
    refine p_calli hL (p_runV X cf0_ hP ht8 (metX1_isDirectory l G _ _ _ _ X.2.2 hf) (cwV 1 hts (lw_V q711 q713 qs4 q85 q714) rfl rfl rfl (by decide +kernel) ⟨Nat.le_trans (Nat.le_of_ble_eq_true rfl) hRf, Nat.le_trans (Nat.le_of_ble_eq_true rfl) hRl⟩) rfl hl.1 rfl (by decide) dX1_hindrance_15 ⟨Nat.zero_le _, Nat.zero_le _⟩) (fun r11 σ₁ H locs hf hP hL => ?_)
    obtain ⟨e₁, hf⟩ := hf
    rw [e₁] at hP
    refine lv_if_eq (tgt := 50) hx hb dX1_hindrance_18 (by decide) (fun c12 => ?_) (fun c12 => ?_)
    · have hf := hf.1 c12
      refine lv_bipush (v := (-2)) hx hb dX1_hindrance_50 (by decide) ?_
      exact p_iret X hlk hP hL (Nat.le_refl _) (Nat.le_refl _) hr dX1_hindrance_52 ⟨rfl, hf⟩
    · have hf := hf.2 c12
      refine p_aload_n hx hb dX1_hindrance_21 rfl (lv_at hl 2 rfl) ?_
      obtain ⟨ht13, hf⟩ := hf
      refine p_calli hL (p_runV X cf12_ hP ht13 (metJ5_length l G _ _ _ X.2.2 hf) (cwV 0 hts (lw_V q735 q332 q333 q96 q334) rfl rfl rfl (by decide +kernel) ⟨Nat.le_trans (Nat.le_of_ble_eq_true rfl) hRf, Nat.le_trans (Nat.le_of_ble_eq_true rfl) hRl⟩) rfl hl.1 rfl (by decide) dX1_hindrance_22 ⟨Nat.zero_le _, Nat.zero_le _⟩) (fun r14 σ₁ H locs hf hP hL => ?_)
      obtain ⟨e₁, hf⟩ := hf
      rw [e₁] at hP
      refine lv_if_eq (tgt := 50) hx hb dX1_hindrance_25 (by decide) (fun c15 => ?_) (fun c15 => ?_)
      · have hf := hf.1 c15
        refine lv_bipush (v := (-2)) hx hb dX1_hindrance_50 (by decide) ?_
        exact p_iret X hlk hP hL (Nat.le_refl _) (Nat.le_refl _) hr dX1_hindrance_52 ⟨rfl, hf⟩
      · have hf := hf.2 c15
        refine lv_iload hx hb dX1_hindrance_28 (lv_at hl 4 rfl) ?_
        refine lv_if_eq (tgt := 50) hx hb dX1_hindrance_30 (by decide) (fun c16 => ?_) (fun c16 => ?_)
        · have hf := hf.1 c16
          refine lv_bipush (v := (-2)) hx hb dX1_hindrance_50 (by decide) ?_
          exact p_iret X hlk hP hL (Nat.le_refl _) (Nat.le_refl _) hr dX1_hindrance_52 ⟨rfl, hf⟩
        · have hf := hf.2 c16
          refine lv_iload_n hx hb dX1_hindrance_33 rfl (lv_at hl 3 rfl) ?_
          refine lv_if_eq (tgt := 53) hx hb dX1_hindrance_34 (by decide) (fun c17 => ?_) (fun c17 => ?_)
          · have hf := hf.1 c17
            exact sX1_hindrance_L53 Y hf _ _ _ _ _ hP hL ⟨rfl, rfl⟩ (lv_sub hl [0, 1, 2] rfl)
          · have hf := hf.2 c17
            refine p_aload_n hx hb dX1_hindrance_37 rfl (lv_at hl 0 rfl) ?_
            refine p_gR X cf0_ (k := 4) (by decide) rfl hP ht8 q630 (fun _ h => h) dX1_hindrance_38 ?_
            refine lv_iload_n hx hb dX1_hindrance_41 rfl (lv_at hl 1 rfl) ?_
            obtain ⟨ht18, hf⟩ := hf
            refine p_calli hL (p_runV X cf4_ hP ht18 (metX5_depth l G _ _ _ _ X.2.2 hf) (cwV 1 hts (lw_V q736 q737 q738 q92 q739) rfl rfl rfl (by decide +kernel) ⟨Nat.le_trans (Nat.le_of_ble_eq_true rfl) hRf, Nat.le_trans (Nat.le_of_ble_eq_true rfl) hRl⟩) rfl hl.1 rfl (by decide) dX1_hindrance_42 ⟨Nat.zero_le _, Nat.zero_le _⟩) (fun r19 σ₁ H locs hf hP hL => ?_)
            obtain ⟨e₁, hf⟩ := hf
            rw [e₁] at hP
            refine lv_bipush (v := 6) hx hb dX1_hindrance_45 (by decide) ?_
            refine lv_icmp_ne (tgt := 53) hx hb dX1_hindrance_47 (by decide) (fun c20 => ?_) (fun c20 => ?_)
            · have hf := hf.1 c20
              exact sX1_hindrance_L53 Y hf _ _ _ _ _ hP hL ⟨rfl, rfl⟩ (lv_sub hl [0, 1, 2] rfl)
            · have hf := hf.2 c20
              refine lv_bipush (v := (-2)) hx hb dX1_hindrance_50 (by decide) ?_
              exact p_iret X hlk hP hL (Nat.le_refl _) (Nat.le_refl _) hr dX1_hindrance_52 ⟨rfl, hf⟩
  · have hf := hf.2 c10
    refine lv_bipush (v := (-4)) hx hb dX1_hindrance_10 (by decide) ?_
    exact p_iret X hlk hP hL (Nat.le_refl _) (Nat.le_refl _) hr dX1_hindrance_12 ⟨rfl, hf⟩
set_option maxHeartbeats 4000000 in
theorem metX1_hindrance (l : Launch) (G : GG_) (x0 : Nat) (x1 : Int32) (x2 : Nat) (x3 : Int32) (x4 : Int32) (σ : Hp) (post : Int32 → Prop) (hG : GOK_ G) (hf : wX1_hindrance x0 x1 x2 x3 x4 σ post) : Met l yX1_hindrance (ws_ yX1_hindrance cX1_hindrance 5 (some Jvm.ClassFile.FieldType.int)) { frames := 6, cells := 0, slots := 0, locals := 129 } (PC_ G [rv_ x0, .int x1, rv_ x2, .int x3, .int x4] σ) (QI_ G (fun r τ => τ = σ ∧ post r)) 0 0 (FR_ G) := by
  refine Met.ofW (cc := cX1_hindrance) (maxL := 5) (ret := (some Jvm.ClassFile.FieldType.int)) (by decide) rfl ?_
  intro p e s m args below meth c s₁ B hml hv
  obtain ⟨rfl, hP, hW⟩ := hv
  have hts := atoms_spec (ws := ws_ yX1_hindrance cX1_hindrance 5 (some Jvm.ClassFile.FieldType.int)) B.pre
  have hts : ∀ w ∈ lw_all, w.before _ s = true := fun w h => hts w (List.mem_cons_of_mem _ h)
  rw [lg_entry_eq]
  have hl := en_entry [rv_ x0, .int x1, rv_ x2, .int x3, .int x4] [1, 1, 1, 1, 1] (n := 5) (ca_r (ca_i (ca_r (ca_i (ca_i ca_n))))) (by decide)
  exact sX1_hindrance ⟨⟨⟨B.exec, B.bytes, hml, findClass_of_methodNamed B.named, hts⟩, hW, hG⟩, B.notSynchronized, B.returns, Nat.le_refl _, Nat.le_refl _, ⟨rfl, rfl⟩, (name_of_methodNamed B.named B.method).1⟩ hf _ _ _ _ _ hP (LO_nil G) ⟨rfl, rfl⟩ hl
