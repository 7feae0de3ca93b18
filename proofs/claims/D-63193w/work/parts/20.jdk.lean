set_option maxRecDepth 100000
def RJ0 : String := "java/util/AbstractCollection"
abbrev cJ0_init : ByteArray := prog_25_method_1_code
def yJ0_init : MethodName := ⟨RJ0, "<init>", "()V"⟩
theorem dJ0_init_0 : decode cJ0_init 0 = .ok (.aload_n 0, 1) := by decide +kernel
theorem dJ0_init_1 : decode cJ0_init 1 = .ok (.invokespecial 1, 3) := by decide +kernel
theorem dJ0_init_4 : decode cJ0_init 4 = .ok (.return_, 1) := by decide +kernel
/-- java/util/AbstractCollection.<init>()V -/
def wJ0_init (x0 : Nat) (σ : Hp) (post : Prop) : Prop :=
(tg_ σ x0 = 11 ∧ post)
set_option maxHeartbeats 4000000 in
theorem sJ0_init {G : GG_} {p : Program} {l : Launch} {e : Env} {R : Room} {s : State} {m : MethodId} {args : Array Value} {below : List Frame} {meth : Method} {c : Code} (Y : MX_ G p R s m args meth c cJ0_init 1 RJ0 none 1 28 0 0 "<init>") {post : Prop} {x0 : Nat} {σ : Hp} (hf : wJ0_init x0 σ post) : WG_ G p l e R s m args below meth c (MQ below (QV_ G (fun τ => τ = σ ∧ post)) args s 0 0 (FR_ G)) BN_ 1 0 [(0, rv_ x0)] [] σ := by
  have ⟨X, hlk, hr, hRf, hRl, hRc, hnm⟩ := Y
  have ⟨⟨hx, hb, _, hown, hts⟩, _, _⟩ := X
  intro H locs cells slots ls hP hL hB hl
  obtain ⟨rfl, rfl⟩ := hB
  unfold wJ0_init at hf
  refine p_aload_n hx hb dJ0_init_0 rfl (lv_at hl 0 rfl) ?_
  obtain ⟨ht1, hf⟩ := hf
  refine p_objInit X hP ht1 q158 q119 q120 hl.1 dJ0_init_1 (Nat.le_trans (by decide) hRf) (by decide) (Nat.le_trans (by decide) hRl) ?_
  exact p_vret X hlk hP hL (Nat.le_refl _) (Nat.le_refl _) hr dJ0_init_4 ⟨rfl, hf⟩
set_option maxHeartbeats 4000000 in
theorem metJ0_init (l : Launch) (G : GG_) (x0 : Nat) (σ : Hp) (post : Prop) (hG : GOK_ G) (hf : wJ0_init x0 σ post) : Met l yJ0_init (ws_ yJ0_init cJ0_init 1 none) { frames := 1, cells := 0, slots := 0, locals := 28 } (PC_ G [rv_ x0] σ) (QV_ G (fun τ => τ = σ ∧ post)) 0 0 (FR_ G) := by
  refine Met.ofW (cc := cJ0_init) (maxL := 1) (ret := none) (by decide) rfl ?_
  intro p e s m args below meth c s₁ B hml hv
  obtain ⟨rfl, hP, hW⟩ := hv
  have hts := atoms_spec (ws := ws_ yJ0_init cJ0_init 1 none) B.pre
  have hts : ∀ w ∈ lw_all, w.before _ s = true := fun w h => hts w (List.mem_cons_of_mem _ h)
  rw [lg_entry_eq]
  have hl := en_entry [rv_ x0] [1] (n := 1) (ca_r ca_n) (by decide)
  exact sJ0_init ⟨⟨⟨B.exec, B.bytes, hml, findClass_of_methodNamed B.named, hts⟩, hW, hG⟩, B.notSynchronized, B.returns, Nat.le_refl _, Nat.le_refl _, ⟨rfl, rfl⟩, (name_of_methodNamed B.named B.method).1⟩ hf _ _ _ _ _ hP (LO_nil G) ⟨rfl, rfl⟩ hl
def RJ1 : String := "java/util/AbstractList"
abbrev cJ1_init : ByteArray := prog_26_method_1_code
def yJ1_init : MethodName := ⟨RJ1, "<init>", "()V"⟩
theorem dJ1_init_0 : decode cJ1_init 0 = .ok (.aload_n 0, 1) := by decide +kernel
theorem dJ1_init_1 : decode cJ1_init 1 = .ok (.invokespecial 1, 3) := by decide +kernel
theorem dJ1_init_4 : decode cJ1_init 4 = .ok (.aload_n 0, 1) := by decide +kernel
theorem dJ1_init_5 : decode cJ1_init 5 = .ok (.iconst 0, 1) := by decide +kernel
theorem dJ1_init_6 : decode cJ1_init 6 = .ok (.putfield 7, 3) := by decide +kernel
theorem dJ1_init_9 : decode cJ1_init 9 = .ok (.return_, 1) := by decide +kernel
/-- java/util/AbstractList.<init>()V -/
def wJ1_init (x0 : Nat) (σ : Hp) (post : Hp → Prop) : Prop :=
(tg_ σ x0 = 11 ∧ (wJ0_init x0  σ ((∀ σ2, σ2 = sI_ σ 10 0 x0 (0 : Int32) → post σ2))))
set_option maxHeartbeats 4000000 in
theorem sJ1_init {G : GG_} {p : Program} {l : Launch} {e : Env} {R : Room} {s : State} {m : MethodId} {args : Array Value} {below : List Frame} {meth : Method} {c : Code} (Y : MX_ G p R s m args meth c cJ1_init 1 RJ1 none 2 48 0 0 "<init>") {post : Hp → Prop} {x0 : Nat} {σ : Hp} (hf : wJ1_init x0 σ post) : WG_ G p l e R s m args below meth c (MQ below (QV_ G post) args s 0 0 (FR_ G)) BN_ 1 0 [(0, rv_ x0)] [] σ := by
  have ⟨X, hlk, hr, hRf, hRl, hRc, hnm⟩ := Y
  have ⟨⟨hx, hb, _, hown, hts⟩, _, _⟩ := X
  intro H locs cells slots ls hP hL hB hl
  obtain ⟨rfl, rfl⟩ := hB
  unfold wJ1_init at hf
  refine p_aload_n hx hb dJ1_init_0 rfl (lv_at hl 0 rfl) ?_
  obtain ⟨ht1, hf⟩ := hf
  refine p_callv hL (p_runI X hP ht1 (metJ0_init l G _ _ _ X.2.2 hf) (cwI 0 hts (lw_meth q157) rfl rfl rfl (hts _ q88) (hts _ q155) (hts _ q156) rfl (by decide +kernel) ⟨Nat.le_trans (Nat.le_of_ble_eq_true rfl) hRf, Nat.le_trans (Nat.le_of_ble_eq_true rfl) hRl⟩) rfl hl.1 rfl (by decide) dJ1_init_1 ⟨Nat.zero_le _, Nat.zero_le _⟩) (fun σ₁ H locs hf hP hL => ?_)
  obtain ⟨e₁, hf⟩ := hf
  rw [e₁] at hP
  refine p_aload_n hx hb dJ1_init_4 rfl (lv_at hl 0 rfl) ?_
  refine lv_iconst (v := 0) hx hb dJ1_init_5 (by decide) ?_
  refine p_pI X cf10_ (k := 0) (by decide) rfl hP hL ht1 (p_ow hP ht1 rfl) q163 (fun _ h => h) (Or.inl rfl) rfl rfl dJ1_init_6 (fun H locs hP hL => ?_)
  refine p_nmP hP (fun σ2 hσ2 hP => ?_)
  have hf := hf σ2 hσ2
  have ht1 : tg_ σ2 x0 = 11 := by rw [hσ2]; exact ht1
  exact p_vret X hlk hP hL (Nat.le_refl _) (Nat.le_refl _) hr dJ1_init_9 hf
set_option maxHeartbeats 4000000 in
theorem metJ1_init (l : Launch) (G : GG_) (x0 : Nat) (σ : Hp) (post : Hp → Prop) (hG : GOK_ G) (hf : wJ1_init x0 σ post) : Met l yJ1_init (ws_ yJ1_init cJ1_init 1 none) { frames := 2, cells := 0, slots := 0, locals := 48 } (PC_ G [rv_ x0] σ) (QV_ G post) 0 0 (FR_ G) := by
  refine Met.ofW (cc := cJ1_init) (maxL := 1) (ret := none) (by decide) rfl ?_
  intro p e s m args below meth c s₁ B hml hv
  obtain ⟨rfl, hP, hW⟩ := hv
  have hts := atoms_spec (ws := ws_ yJ1_init cJ1_init 1 none) B.pre
  have hts : ∀ w ∈ lw_all, w.before _ s = true := fun w h => hts w (List.mem_cons_of_mem _ h)
  rw [lg_entry_eq]
  have hl := en_entry [rv_ x0] [1] (n := 1) (ca_r ca_n) (by decide)
  exact sJ1_init ⟨⟨⟨B.exec, B.bytes, hml, findClass_of_methodNamed B.named, hts⟩, hW, hG⟩, B.notSynchronized, B.returns, Nat.le_refl _, Nat.le_refl _, ⟨rfl, rfl⟩, (name_of_methodNamed B.named B.method).1⟩ hf _ _ _ _ _ hP (LO_nil G) ⟨rfl, rfl⟩ hl
abbrev cJ2_init : ByteArray := prog_27_method_2_code
def yJ2_init : MethodName := ⟨RJ2, "<init>", "()V"⟩
theorem dJ2_init_0 : decode cJ2_init 0 = .ok (.aload_n 0, 1) := by decide +kernel
theorem dJ2_init_1 : decode cJ2_init 1 = .ok (.invokespecial 1, 3) := by decide +kernel
theorem dJ2_init_4 : decode cJ2_init 4 = .ok (.aload_n 0, 1) := by decide +kernel
theorem dJ2_init_5 : decode cJ2_init 5 = .ok (.getstatic 39, 3) := by decide +kernel
theorem dJ2_init_8 : decode cJ2_init 8 = .ok (.putfield 9, 3) := by decide +kernel
theorem dJ2_init_11 : decode cJ2_init 11 = .ok (.return_, 1) := by decide +kernel
/-- java/util/ArrayList.<init>()V -/
def wJ2_init (x0 : Nat) (σ : Hp) (post : Hp → Prop) : Prop :=
(tg_ σ x0 = 11 ∧ (wJ1_init x0  σ (fun σ2 => (tg_ σ2 x0 = 11 ∧ (∀ σ4, σ4 = sR_ σ2 10 1 x0 (fR_ σ2 100 1 0) → post σ4)))))
set_option maxHeartbeats 4000000 in
theorem sJ2_init {G : GG_} {p : Program} {l : Launch} {e : Env} {R : Room} {s : State} {m : MethodId} {args : Array Value} {below : List Frame} {meth : Method} {c : Code} (Y : MX_ G p R s m args meth c cJ2_init 1 RJ2 none 3 68 0 0 "<init>") {post : Hp → Prop} {x0 : Nat} {σ : Hp} (hf : wJ2_init x0 σ post) : WG_ G p l e R s m args below meth c (MQ below (QV_ G post) args s 0 0 (FR_ G)) BN_ 1 0 [(0, rv_ x0)] [] σ := by
  have ⟨X, hlk, hr, hRf, hRl, hRc, hnm⟩ := Y
  have ⟨⟨hx, hb, _, hown, hts⟩, _, _⟩ := X
  intro H locs cells slots ls hP hL hB hl
  obtain ⟨rfl, rfl⟩ := hB
  unfold wJ2_init at hf
  refine p_aload_n hx hb dJ2_init_0 rfl (lv_at hl 0 rfl) ?_
  obtain ⟨ht1, hf⟩ := hf
  refine p_callv hL (p_runI X hP ht1 (metJ1_init l G _ _ _ X.2.2 hf) (cwI 0 hts (lw_meth q154) rfl rfl rfl (hts _ q89) (hts _ q152) (hts _ q153) rfl (by decide +kernel) ⟨Nat.le_trans (Nat.le_of_ble_eq_true rfl) hRf, Nat.le_trans (Nat.le_of_ble_eq_true rfl) hRl⟩) rfl hl.1 rfl (by decide) dJ2_init_1 ⟨Nat.zero_le _, Nat.zero_le _⟩) (fun σ2 H locs hf hP hL => ?_)
  refine p_aload_n hx hb dJ2_init_4 rfl (lv_at hl 0 rfl) ?_
  refine p_gsE X hP q159 dJ2_init_5 ?_
  obtain ⟨ht3, hf⟩ := hf
  refine p_pR X cf10_ (k := 1) (by decide) rfl hP hL ht3 (p_ow hP ht3 rfl) q161 (fun _ h => h) (Or.inl rfl) dJ2_init_8 (fun H locs hP hL => ?_)
  refine p_nmP hP (fun σ4 hσ4 hP => ?_)
  have hf := hf σ4 hσ4
  have ht3 : tg_ σ4 x0 = 11 := by rw [hσ4]; exact ht3
  exact p_vret X hlk hP hL (Nat.le_refl _) (Nat.le_refl _) hr dJ2_init_11 hf
set_option maxHeartbeats 4000000 in
theorem metJ2_init (l : Launch) (G : GG_) (x0 : Nat) (σ : Hp) (post : Hp → Prop) (hG : GOK_ G) (hf : wJ2_init x0 σ post) : Met l yJ2_init (ws_ yJ2_init cJ2_init 1 none) { frames := 3, cells := 0, slots := 0, locals := 68 } (PC_ G [rv_ x0] σ) (QV_ G post) 0 0 (FR_ G) := by
  refine Met.ofW (cc := cJ2_init) (maxL := 1) (ret := none) (by decide) rfl ?_
  intro p e s m args below meth c s₁ B hml hv
  obtain ⟨rfl, hP, hW⟩ := hv
  have hts := atoms_spec (ws := ws_ yJ2_init cJ2_init 1 none) B.pre
  have hts : ∀ w ∈ lw_all, w.before _ s = true := fun w h => hts w (List.mem_cons_of_mem _ h)
  rw [lg_entry_eq]
  have hl := en_entry [rv_ x0] [1] (n := 1) (ca_r ca_n) (by decide)
  exact sJ2_init ⟨⟨⟨B.exec, B.bytes, hml, findClass_of_methodNamed B.named, hts⟩, hW, hG⟩, B.notSynchronized, B.returns, Nat.le_refl _, Nat.le_refl _, ⟨rfl, rfl⟩, (name_of_methodNamed B.named B.method).1⟩ hf _ _ _ _ _ hP (LO_nil G) ⟨rfl, rfl⟩ hl
def RJ7 : String := "jdk/internal/util/ArraysSupport"
abbrev cJ7_newLength : ByteArray := prog_35_method_27_code
def yJ7_newLength : MethodName := ⟨RJ7, "newLength", "(III)I"⟩
theorem dJ7_newLength_0 : decode cJ7_newLength 0 = .ok (.iload_n 0, 1) := by decide +kernel
theorem dJ7_newLength_1 : decode cJ7_newLength 1 = .ok (.iload_n 1, 1) := by decide +kernel
theorem dJ7_newLength_2 : decode cJ7_newLength 2 = .ok (.iload_n 2, 1) := by decide +kernel
theorem dJ7_newLength_3 : decode cJ7_newLength 3 = .ok (.invokestatic 194, 3) := by decide +kernel
theorem dJ7_newLength_6 : decode cJ7_newLength 6 = .ok (.iadd, 1) := by decide +kernel
theorem dJ7_newLength_7 : decode cJ7_newLength 7 = .ok (.istore_n 3, 1) := by decide +kernel
theorem dJ7_newLength_8 : decode cJ7_newLength 8 = .ok (.iconst 0, 1) := by decide +kernel
theorem dJ7_newLength_9 : decode cJ7_newLength 9 = .ok (.iload_n 3, 1) := by decide +kernel
theorem dJ7_newLength_10 : decode cJ7_newLength 10 = .ok (.if_icmp .ge 11, 3) := by decide +kernel
theorem dJ7_newLength_13 : decode cJ7_newLength 13 = .ok (.iload_n 3, 1) := by decide +kernel
theorem dJ7_newLength_14 : decode cJ7_newLength 14 = .ok (.ldc 200, 2) := by decide +kernel
theorem dJ7_newLength_16 : decode cJ7_newLength 16 = .ok (.if_icmp .gt 5, 3) := by decide +kernel
theorem dJ7_newLength_19 : decode cJ7_newLength 19 = .ok (.iload_n 3, 1) := by decide +kernel
theorem dJ7_newLength_20 : decode cJ7_newLength 20 = .ok (.ireturn, 1) := by decide +kernel
theorem dJ7_newLength_21 : decode cJ7_newLength 21 = .ok (.iload_n 0, 1) := by decide +kernel
theorem dJ7_newLength_22 : decode cJ7_newLength 22 = .ok (.iload_n 1, 1) := by decide +kernel
theorem dJ7_newLength_23 : decode cJ7_newLength 23 = .ok (.invokestatic 201, 3) := by decide +kernel
theorem dJ7_newLength_26 : decode cJ7_newLength 26 = .ok (.ireturn, 1) := by decide +kernel
/-- jdk/internal/util/ArraysSupport.newLength(III)I -/
def wJ7_newLength_L21 (post : Int32 → Prop) (x0 : Int32) (x1 : Int32) (σ : Hp) : Prop :=
False
def wJ7_newLength (x0 : Int32) (x1 : Int32) (x2 : Int32) (σ : Hp) (post : Int32 → Prop) : Prop :=
(∀ y1 : Int32, y1 = (x0 + (if x1 < x2 then x2 else x1)) → ((y1 ≤ (0 : Int32) →
  wJ7_newLength_L21 post x0 x1 σ) ∧
 (¬ y1 ≤ (0 : Int32) →
  (((2147483639 : Int32) < y1 →
   wJ7_newLength_L21 post x0 x1 σ) ∧
  (¬ (2147483639 : Int32) < y1 →
   post y1)))))
set_option maxHeartbeats 4000000 in
theorem sJ7_newLength_L21 {G : GG_} {p : Program} {l : Launch} {e : Env} {R : Room} {s : State} {m : MethodId} {args : Array Value} {below : List Frame} {meth : Method} {c : Code} (Y : MX_ G p R s m args meth c cJ7_newLength 4 RJ7 (some Jvm.ClassFile.FieldType.int) 1 28 0 0 "newLength") {post : Int32 → Prop} {x0 : Int32} {x1 : Int32} {σ : Hp} (hf : wJ7_newLength_L21 post x0 x1 σ) : WG_ G p l e R s m args below meth c (MQ below (QI_ G (fun r τ => τ = σ ∧ post r)) args s 0 0 (FR_ G)) BN_ 4 21 [(0, .int x0), (1, .int x1)] [] σ := by
  have ⟨X, hlk, hr, hRf, hRl, hRc, hnm⟩ := Y
  have ⟨⟨hx, hb, _, hown, hts⟩, _, _⟩ := X
  intro H locs cells slots ls hP hL hB hl
  obtain ⟨rfl, rfl⟩ := hB
  unfold wJ7_newLength_L21 at hf
  refine lv_iload_n hx hb dJ7_newLength_21 rfl (lv_at hl 0 rfl) ?_
  refine lv_iload_n hx hb dJ7_newLength_22 rfl (lv_at hl 1 rfl) ?_
  exact hf.elim
set_option maxHeartbeats 4000000 in
theorem sJ7_newLength {G : GG_} {p : Program} {l : Launch} {e : Env} {R : Room} {s : State} {m : MethodId} {args : Array Value} {below : List Frame} {meth : Method} {c : Code} (Y : MX_ G p R s m args meth c cJ7_newLength 4 RJ7 (some Jvm.ClassFile.FieldType.int) 1 28 0 0 "newLength") {post : Int32 → Prop} {x0 : Int32} {x1 : Int32} {x2 : Int32} {σ : Hp} (hf : wJ7_newLength x0 x1 x2 σ post) : WG_ G p l e R s m args below meth c (MQ below (QI_ G (fun r τ => τ = σ ∧ post r)) args s 0 0 (FR_ G)) BN_ 4 0 [(0, .int x0), (1, .int x1), (2, .int x2)] [] σ := by
  have ⟨X, hlk, hr, hRf, hRl, hRc, hnm⟩ := Y
  have ⟨⟨hx, hb, _, hown, hts⟩, _, _⟩ := X
  intro H locs cells slots ls hP hL hB hl
  obtain ⟨rfl, rfl⟩ := hB
  unfold wJ7_newLength at hf
  refine lv_iload_n hx hb dJ7_newLength_0 rfl (lv_at hl 0 rfl) ?_
  refine lv_iload_n hx hb dJ7_newLength_1 rfl (lv_at hl 1 rfl) ?_
  refine lv_iload_n hx hb dJ7_newLength_2 rfl (lv_at hl 2 rfl) ?_
  refine p_max X q276 hl.1 (Nat.le_trans (by decide) hRf) (by rw [(ca_i ca_n)]; decide) (Nat.le_trans (by decide) hRl) ⟨Nat.zero_le _, Nat.zero_le _⟩ dJ7_newLength_3 ?_
  refine lv_iadd hx hb dJ7_newLength_6 ?_
  have hl := lv_sub hl [0, 1] rfl
  refine lv_topi (fun y1 hy1 => ?_)
  have hf := hf y1 hy1
  refine p_istore_n (i := 3) hx hb dJ7_newLength_7 rfl hl (by decide) ⟨⟨ne_ rfl, Or.inl (ne_ rfl)⟩, ⟨⟨ne_ rfl, Or.inl (ne_ rfl)⟩, trivial⟩⟩ (fun ls hl => ?_)
  refine lv_iconst (v := 0) hx hb dJ7_newLength_8 (by decide) ?_
  refine lv_iload_n hx hb dJ7_newLength_9 rfl (lv_at hl 0 rfl) ?_
  refine lv_icmp_ge (tgt := 21) hx hb dJ7_newLength_10 (by decide) (fun c2 => ?_) (fun c2 => ?_)
  · have hf := hf.1 c2
    exact sJ7_newLength_L21 Y hf _ _ _ _ _ hP hL ⟨rfl, rfl⟩ (lv_sub hl [1, 2] rfl)
  · have hf := hf.2 c2
    refine lv_iload_n hx hb dJ7_newLength_13 rfl (lv_at hl 0 rfl) ?_
    refine lv_ldc hx hb hown (hts _ q279) dJ7_newLength_14 ?_
    refine lv_icmp_gt (tgt := 21) hx hb dJ7_newLength_16 (by decide) (fun c3 => ?_) (fun c3 => ?_)
    · have hf := hf.1 c3
      exact sJ7_newLength_L21 Y hf _ _ _ _ _ hP hL ⟨rfl, rfl⟩ (lv_sub hl [1, 2] rfl)
    · have hf := hf.2 c3
      refine lv_iload_n hx hb dJ7_newLength_19 rfl (lv_at hl 0 rfl) ?_
      exact p_iret X hlk hP hL (Nat.le_refl _) (Nat.le_refl _) hr dJ7_newLength_20 ⟨rfl, hf⟩
set_option maxHeartbeats 4000000 in
theorem metJ7_newLength (l : Launch) (G : GG_) (x0 : Int32) (x1 : Int32) (x2 : Int32) (σ : Hp) (post : Int32 → Prop) (hG : GOK_ G) (hf : wJ7_newLength x0 x1 x2 σ post) : Met l yJ7_newLength (ws_ yJ7_newLength cJ7_newLength 4 (some Jvm.ClassFile.FieldType.int)) { frames := 1, cells := 0, slots := 0, locals := 28 } (PC_ G [.int x0, .int x1, .int x2] σ) (QI_ G (fun r τ => τ = σ ∧ post r)) 0 0 (FR_ G) := by
  refine Met.ofW (cc := cJ7_newLength) (maxL := 4) (ret := (some Jvm.ClassFile.FieldType.int)) (by decide) rfl ?_
  intro p e s m args below meth c s₁ B hml hv
  obtain ⟨rfl, hP, hW⟩ := hv
  have hts := atoms_spec (ws := ws_ yJ7_newLength cJ7_newLength 4 (some Jvm.ClassFile.FieldType.int)) B.pre
  have hts : ∀ w ∈ lw_all, w.before _ s = true := fun w h => hts w (List.mem_cons_of_mem _ h)
  rw [lg_entry_eq]
  have hl := en_entry [.int x0, .int x1, .int x2] [1, 1, 1] (n := 4) (ca_i (ca_i (ca_i ca_n))) (by decide)
  exact sJ7_newLength ⟨⟨⟨B.exec, B.bytes, hml, findClass_of_methodNamed B.named, hts⟩, hW, hG⟩, B.notSynchronized, B.returns, Nat.le_refl _, Nat.le_refl _, ⟨rfl, rfl⟩, (name_of_methodNamed B.named B.method).1⟩ hf _ _ _ _ _ hP (LO_nil G) ⟨rfl, rfl⟩ hl
def RJ9 : String := "java/util/Arrays"
abbrev cJ9_copyOf_3 : ByteArray := prog_28_method_120_code
def yJ9_copyOf_3 : MethodName := ⟨RJ9, "copyOf", "([Ljava/lang/Object;ILjava/lang/Class;)[Ljava/lang/Object;"⟩
theorem dJ9_copyOf_3_0 : decode cJ9_copyOf_3 0 = .ok (.aload_n 2, 1) := by decide +kernel
theorem dJ9_copyOf_3_1 : decode cJ9_copyOf_3 1 = .ok (.ldc 110, 2) := by decide +kernel
theorem dJ9_copyOf_3_3 : decode cJ9_copyOf_3 3 = .ok (.if_acmp .ne 10, 3) := by decide +kernel
theorem dJ9_copyOf_3_6 : decode cJ9_copyOf_3 6 = .ok (.iload_n 1, 1) := by decide +kernel
theorem dJ9_copyOf_3_7 : decode cJ9_copyOf_3 7 = .ok (.anewarray 2, 3) := by decide +kernel
theorem dJ9_copyOf_3_10 : decode cJ9_copyOf_3 10 = .ok (.goto 14, 3) := by decide +kernel
theorem dJ9_copyOf_3_13 : decode cJ9_copyOf_3 13 = .ok (.aload_n 2, 1) := by decide +kernel
theorem dJ9_copyOf_3_14 : decode cJ9_copyOf_3 14 = .ok (.invokevirtual 90, 3) := by decide +kernel
theorem dJ9_copyOf_3_17 : decode cJ9_copyOf_3 17 = .ok (.iload_n 1, 1) := by decide +kernel
theorem dJ9_copyOf_3_18 : decode cJ9_copyOf_3 18 = .ok (.invokestatic 95, 3) := by decide +kernel
theorem dJ9_copyOf_3_21 : decode cJ9_copyOf_3 21 = .ok (.checkcast 110, 3) := by decide +kernel
theorem dJ9_copyOf_3_24 : decode cJ9_copyOf_3 24 = .ok (.astore_n 3, 1) := by decide +kernel
theorem dJ9_copyOf_3_25 : decode cJ9_copyOf_3 25 = .ok (.aload_n 0, 1) := by decide +kernel
theorem dJ9_copyOf_3_26 : decode cJ9_copyOf_3 26 = .ok (.iconst 0, 1) := by decide +kernel
theorem dJ9_copyOf_3_27 : decode cJ9_copyOf_3 27 = .ok (.aload_n 3, 1) := by decide +kernel
theorem dJ9_copyOf_3_28 : decode cJ9_copyOf_3 28 = .ok (.iconst 0, 1) := by decide +kernel
theorem dJ9_copyOf_3_29 : decode cJ9_copyOf_3 29 = .ok (.aload_n 0, 1) := by decide +kernel
theorem dJ9_copyOf_3_30 : decode cJ9_copyOf_3 30 = .ok (.arraylength, 1) := by decide +kernel
theorem dJ9_copyOf_3_31 : decode cJ9_copyOf_3 31 = .ok (.iload_n 1, 1) := by decide +kernel
theorem dJ9_copyOf_3_32 : decode cJ9_copyOf_3 32 = .ok (.invokestatic 304, 3) := by decide +kernel
theorem dJ9_copyOf_3_35 : decode cJ9_copyOf_3 35 = .ok (.invokestatic 150, 3) := by decide +kernel
theorem dJ9_copyOf_3_38 : decode cJ9_copyOf_3 38 = .ok (.aload_n 3, 1) := by decide +kernel
theorem dJ9_copyOf_3_39 : decode cJ9_copyOf_3 39 = .ok (.areturn, 1) := by decide +kernel
/-- java/util/Arrays.copyOf([Ljava/lang/Object;ILjava/lang/Class;)[Ljava/lang/Object; -/
def wJ9_copyOf_3_L24 (post : Nat → Hp → Prop) (x0 : Nat) (x1 : Int32) (s0 : Nat) (σ : Hp) : Prop :=
(tg_ σ x0 = 104 ∧ (tg_ σ s0 = 104 ∧ (lo_ σ < s0 ∧ (¬ (0 : Int32) < 0 ∧ (¬ (0 : Int32) < 0 ∧ (¬ (if x1 < (nI (ln_ σ x0)) then x1 else (nI (ln_ σ x0))) < 0 ∧ (((0 : Int32)).toNatClampNeg + ((if x1 < (nI (ln_ σ x0)) then x1 else (nI (ln_ σ x0)))).toNatClampNeg ≤ ln_ σ x0 ∧ (((0 : Int32)).toNatClampNeg + ((if x1 < (nI (ln_ σ x0)) then x1 else (nI (ln_ σ x0)))).toNatClampNeg ≤ ln_ σ s0 ∧ ((∀ i, i < ((if x1 < (nI (ln_ σ x0)) then x1 else (nI (ln_ σ x0)))).toNatClampNeg → st_ σ 104 (aR_ σ x0 (((0 : Int32)).toNatClampNeg + i))) ∧ (∀ σ10, σ10 = cR_ σ x0 ((0 : Int32)).toNatClampNeg s0 ((0 : Int32)).toNatClampNeg ((if x1 < (nI (ln_ σ x0)) then x1 else (nI (ln_ σ x0)))).toNatClampNeg → post s0 σ10))))))))))
def wJ9_copyOf_3 (x0 : Nat) (x1 : Int32) (x2 : Nat) (σ : Hp) (post : Nat → Hp → Prop) : Prop :=
((¬ x2 = (fR_ σ 100 0 0) →
  False) ∧
 (x2 = (fR_ σ 100 0 0) →
  (¬ x1 < 0 ∧ ((x1).toNatClampNeg ≤ 1000000 ∧ (1 ≤ bc_ σ ∧ ((x1).toNatClampNeg ≤ bs_ σ ∧ (∀ σ16, σ16 = mA_ σ 104 (x1).toNatClampNeg → wJ9_copyOf_3_L24 post x0 x1 (nx_ σ) σ16)))))))
set_option maxHeartbeats 4000000 in
theorem sJ9_copyOf_3_L24 {G : GG_} {p : Program} {l : Launch} {e : Env} {R : Room} {s : State} {m : MethodId} {args : Array Value} {below : List Frame} {meth : Method} {c : Code} {mc ms : Nat} (Y : MX_ G p R s m args meth c cJ9_copyOf_3 4 RJ9 (some ((Jvm.ClassFile.FieldType.array (Jvm.ClassFile.FieldType.object "java/lang/Object")))) 1 48 mc ms "copyOf") {post : Nat → Hp → Prop} {x0 : Nat} {x1 : Int32} {s0 : Nat} {σ : Hp} (hf : wJ9_copyOf_3_L24 post x0 x1 s0 σ) : WG_ G p l e R s m args below meth c (MQ below (QR_ G post) args s mc ms (FR_ G)) (BU_ R) 4 24 [(0, rv_ x0), (1, .int x1)] [rv_ s0] σ := by
  have ⟨X, hlk, hr, hRf, hRl, hRc, hnm⟩ := Y
  have ⟨⟨hx, hb, _, hown, hts⟩, _, _⟩ := X
  intro H locs cells slots ls hP hL hB hl
  unfold wJ9_copyOf_3_L24 at hf
  refine p_astore_n (i := 3) hx hb dJ9_copyOf_3_24 rfl hl (by decide) ⟨⟨ne_ rfl, Or.inl (ne_ rfl)⟩, ⟨⟨ne_ rfl, Or.inl (ne_ rfl)⟩, trivial⟩⟩ (fun ls hl => ?_)
  refine p_aload_n hx hb dJ9_copyOf_3_25 rfl (lv_at hl 1 rfl) ?_
  refine lv_iconst (v := 0) hx hb dJ9_copyOf_3_26 (by decide) ?_
  refine p_aload_n hx hb dJ9_copyOf_3_27 rfl (lv_at hl 0 rfl) ?_
  refine lv_iconst (v := 0) hx hb dJ9_copyOf_3_28 (by decide) ?_
  refine p_aload_n hx hb dJ9_copyOf_3_29 rfl (lv_at hl 1 rfl) ?_
  obtain ⟨ht1, hf⟩ := hf
  refine p_alen X hP ht1 (by decide) (by decide) dJ9_copyOf_3_30 ?_
  refine lv_iload_n hx hb dJ9_copyOf_3_31 rfl (lv_at hl 2 rfl) ?_
  refine p_min X q294 hl.1 (Nat.le_trans (by decide) hRf) (by rw [(ca_i (ca_r (ca_i (ca_r ca_n))))]; decide) (Nat.le_trans (by decide) hRl) (BU_call hB (Nat.zero_le _) (Nat.zero_le _)) dJ9_copyOf_3_32 ?_
  obtain ⟨ht2, hf⟩ := hf
  obtain ⟨ha3, hf⟩ := hf
  obtain ⟨ha4, hf⟩ := hf
  obtain ⟨ha5, hf⟩ := hf
  obtain ⟨ha6, hf⟩ := hf
  obtain ⟨ha7, hf⟩ := hf
  obtain ⟨ha8, hf⟩ := hf
  obtain ⟨ha9, hf⟩ := hf
  refine p_acpR X hP hL ht1 ht2 ha3 ha4 ha5 ha6 ha7 ha8 ha9 q297 q299 q298 q101 hl.1 (Nat.le_trans (by decide) hRf) (by decide) (Nat.le_trans (by decide) hRl) dJ9_copyOf_3_35 (fun H locs hP hL => ?_)
  refine p_nmPB hP hB (fun σ10 hσ10 hP hB => ?_)
  have hf := hf σ10 hσ10
  have ht1 : tg_ σ10 x0 = 104 := by rw [hσ10]; exact ht1
  have ht2 : tg_ σ10 s0 = 104 := by rw [hσ10]; exact ht2
  refine p_aload_n hx hb dJ9_copyOf_3_38 rfl (lv_at hl 0 rfl) ?_
  exact p_aret X hlk hP hL (BU_le hB hRc).1 (BU_le hB hRc).2 hr (Or.inr ⟨_, rfl⟩) dJ9_copyOf_3_39 hf
set_option maxHeartbeats 4000000 in
theorem sJ9_copyOf_3 {G : GG_} {p : Program} {l : Launch} {e : Env} {R : Room} {s : State} {m : MethodId} {args : Array Value} {below : List Frame} {meth : Method} {c : Code} {mc ms : Nat} (Y : MX_ G p R s m args meth c cJ9_copyOf_3 4 RJ9 (some ((Jvm.ClassFile.FieldType.array (Jvm.ClassFile.FieldType.object "java/lang/Object")))) 1 48 mc ms "copyOf") {post : Nat → Hp → Prop} {x0 : Nat} {x1 : Int32} {x2 : Nat} {σ : Hp} (hf : wJ9_copyOf_3 x0 x1 x2 σ post) : WG_ G p l e R s m args below meth c (MQ below (QR_ G post) args s mc ms (FR_ G)) (BU_ R) 4 0 [(0, rv_ x0), (1, .int x1), (2, rv_ x2)] [] σ := by
  have ⟨X, hlk, hr, hRf, hRl, hRc, hnm⟩ := Y
  have ⟨⟨hx, hb, _, hown, hts⟩, _, _⟩ := X
  intro H locs cells slots ls hP hL hB hl
  unfold wJ9_copyOf_3 at hf
  refine p_aload_n hx hb dJ9_copyOf_3_0 rfl (lv_at hl 2 rfl) ?_
  refine p_ldcM X hP q536 dJ9_copyOf_3_1 ?_
  refine p_acmp_ne (tgt := 13) hx hb dJ9_copyOf_3_3 (by decide) (fun c11 => ?_) (fun c11 => ?_)
  · have hf := hf.1 c11
    refine p_aload_n hx hb dJ9_copyOf_3_13 rfl (lv_at hl 2 rfl) ?_
    exact hf.elim
  · have hf := hf.2 c11
    refine lv_iload_n hx hb dJ9_copyOf_3_6 rfl (lv_at hl 1 rfl) ?_
    obtain ⟨hb12, hf⟩ := hf
    obtain ⟨hb13, hf⟩ := hf
    obtain ⟨hb14, hf⟩ := hf
    obtain ⟨hb15, hf⟩ := hf
    refine p_anew X (t := 104) (by decide) (by decide) rfl q538 q537 hP hB hb12 hb13 hb14 hb15 dJ9_copyOf_3_7 (fun H hP hB => ?_)
    refine p_nmPB hP hB (fun σ16 hσ16 hP hB => ?_)
    have hf := hf σ16 hσ16
    refine lv_goto (tgt := 24) hx hb dJ9_copyOf_3_10 (by decide) ?_
    exact sJ9_copyOf_3_L24 Y hf _ _ _ _ _ hP hL hB (lv_sub hl [0, 1] rfl)
set_option maxHeartbeats 4000000 in
theorem metJ9_copyOf_3 (l : Launch) (G : GG_) (mc ms : Nat) (x0 : Nat) (x1 : Int32) (x2 : Nat) (σ : Hp) (post : Nat → Hp → Prop) (hG : GOK_ G) (hf : wJ9_copyOf_3 x0 x1 x2 (bu_ σ mc ms) post) : Met l yJ9_copyOf_3 (ws_ yJ9_copyOf_3 cJ9_copyOf_3 4 (some ((Jvm.ClassFile.FieldType.array (Jvm.ClassFile.FieldType.object "java/lang/Object"))))) { frames := 1, cells := mc, slots := ms, locals := 48 } (PC_ G [rv_ x0, .int x1, rv_ x2] (bu_ σ mc ms)) (QR_ G post) mc ms (FR_ G) := by
  refine Met.ofW (cc := cJ9_copyOf_3) (maxL := 4) (ret := (some ((Jvm.ClassFile.FieldType.array (Jvm.ClassFile.FieldType.object "java/lang/Object"))))) (by decide) rfl ?_
  intro p e s m args below meth c s₁ B hml hv
  obtain ⟨rfl, hP, hW⟩ := hv
  have hts := atoms_spec (ws := ws_ yJ9_copyOf_3 cJ9_copyOf_3 4 (some ((Jvm.ClassFile.FieldType.array (Jvm.ClassFile.FieldType.object "java/lang/Object"))))) B.pre
  have hts : ∀ w ∈ lw_all, w.before _ s = true := fun w h => hts w (List.mem_cons_of_mem _ h)
  rw [lg_entry_eq]
  have hl := en_entry [rv_ x0, .int x1, rv_ x2] [1, 1, 1] (n := 4) (ca_r (ca_i (ca_r ca_n))) (by decide)
  exact sJ9_copyOf_3 ⟨⟨⟨B.exec, B.bytes, hml, findClass_of_methodNamed B.named, hts⟩, hW, hG⟩, B.notSynchronized, B.returns, Nat.le_refl _, Nat.le_refl _, ⟨rfl, rfl⟩, (name_of_methodNamed B.named B.method).1⟩ hf _ _ _ _ _ hP (LO_nil G) (BU_in ⟨rfl, rfl⟩) hl
abbrev cJ9_copyOf_2 : ByteArray := prog_28_method_119_code
def yJ9_copyOf_2 : MethodName := ⟨RJ9, "copyOf", "([Ljava/lang/Object;I)[Ljava/lang/Object;"⟩
theorem dJ9_copyOf_2_0 : decode cJ9_copyOf_2 0 = .ok (.aload_n 0, 1) := by decide +kernel
theorem dJ9_copyOf_2_1 : decode cJ9_copyOf_2 1 = .ok (.iload_n 1, 1) := by decide +kernel
theorem dJ9_copyOf_2_2 : decode cJ9_copyOf_2 2 = .ok (.aload_n 0, 1) := by decide +kernel
theorem dJ9_copyOf_2_3 : decode cJ9_copyOf_2 3 = .ok (.invokevirtual 86, 3) := by decide +kernel
theorem dJ9_copyOf_2_6 : decode cJ9_copyOf_2 6 = .ok (.invokestatic 300, 3) := by decide +kernel
theorem dJ9_copyOf_2_9 : decode cJ9_copyOf_2 9 = .ok (.areturn, 1) := by decide +kernel
/-- java/util/Arrays.copyOf([Ljava/lang/Object;I)[Ljava/lang/Object; -/
def wJ9_copyOf_2 (x0 : Nat) (x1 : Int32) (σ : Hp) (post : Nat → Hp → Prop) : Prop :=
(tg_ σ x0 = 104 ∧ (∃ mc2 ms3 : Nat, (mc2 ≤ bc_ σ ∧ (ms3 ≤ bs_ σ ∧ (wJ9_copyOf_3 x0 x1 (fR_ σ 100 0 0) (bu_ σ mc2 ms3) (fun r6 σ7 => (∀ σ8, σ8 = bu_ σ7 (bc_ σ - mc2) (bs_ σ - ms3) → post r6 σ8)))))))
set_option maxHeartbeats 4000000 in
theorem sJ9_copyOf_2 {G : GG_} {p : Program} {l : Launch} {e : Env} {R : Room} {s : State} {m : MethodId} {args : Array Value} {below : List Frame} {meth : Method} {c : Code} {mc ms : Nat} (Y : MX_ G p R s m args meth c cJ9_copyOf_2 2 RJ9 (some ((Jvm.ClassFile.FieldType.array (Jvm.ClassFile.FieldType.object "java/lang/Object")))) 2 71 mc ms "copyOf") {post : Nat → Hp → Prop} {x0 : Nat} {x1 : Int32} {σ : Hp} (hf : wJ9_copyOf_2 x0 x1 σ post) : WG_ G p l e R s m args below meth c (MQ below (QR_ G post) args s mc ms (FR_ G)) (BU_ R) 2 0 [(0, rv_ x0), (1, .int x1)] [] σ := by
  have ⟨X, hlk, hr, hRf, hRl, hRc, hnm⟩ := Y
  have ⟨⟨hx, hb, _, hown, hts⟩, _, _⟩ := X
  intro H locs cells slots ls hP hL hB hl
  unfold wJ9_copyOf_2 at hf
  refine p_aload_n hx hb dJ9_copyOf_2_0 rfl (lv_at hl 0 rfl) ?_
  refine lv_iload_n hx hb dJ9_copyOf_2_1 rfl (lv_at hl 1 rfl) ?_
  refine p_aload_n hx hb dJ9_copyOf_2_2 rfl (lv_at hl 0 rfl) ?_
  obtain ⟨ht1, hf⟩ := hf
  refine p_getC X hP ht1 q515 q1715 q1714 q516 q532 hl.1 (Nat.le_trans (by decide) hRf) (by rw [(ca_i (ca_r ca_n))]; decide) (Nat.le_trans (by decide) hRl) dJ9_copyOf_2_3 ?_
  obtain ⟨mc2, ms3, hf⟩ := hf
  obtain ⟨hb4, hf⟩ := hf
  obtain ⟨hb5, hf⟩ := hf
  refine p_callr hL (p_runS X (Pic_bu hP mc2 ms3) (metJ9_copyOf_3 l G _ _ _ _ _ _ _ X.2.2 hf) (va_cwS 3 hts (lw_S q533 q534 q100 q535) rfl rfl rfl (by decide +kernel) ⟨Nat.le_trans (Nat.le_of_ble_eq_true rfl) hRf, Nat.le_trans (Nat.le_of_ble_eq_true rfl) hRl⟩) rfl hl.1 rfl (by decide) dJ9_copyOf_2_6 (BU_call hB hb4 hb5)) (fun r6 σ7 H locs hf hP hL => ?_)
  have hB := BU_back (τ := σ7) hB hb4 hb5
  have hP := Pic_bu hP (bc_ σ - mc2) (bs_ σ - ms3)
  refine p_nmPB hP hB (fun σ8 hσ8 hP hB => ?_)
  have hf := hf σ8 hσ8
  exact p_aret X hlk hP hL (BU_le hB hRc).1 (BU_le hB hRc).2 hr (Or.inr ⟨_, rfl⟩) dJ9_copyOf_2_9 hf
set_option maxHeartbeats 4000000 in
theorem metJ9_copyOf_2 (l : Launch) (G : GG_) (mc ms : Nat) (x0 : Nat) (x1 : Int32) (σ : Hp) (post : Nat → Hp → Prop) (hG : GOK_ G) (hf : wJ9_copyOf_2 x0 x1 (bu_ σ mc ms) post) : Met l yJ9_copyOf_2 (ws_ yJ9_copyOf_2 cJ9_copyOf_2 2 (some ((Jvm.ClassFile.FieldType.array (Jvm.ClassFile.FieldType.object "java/lang/Object"))))) { frames := 2, cells := mc, slots := ms, locals := 71 } (PC_ G [rv_ x0, .int x1] (bu_ σ mc ms)) (QR_ G post) mc ms (FR_ G) := by
  refine Met.ofW (cc := cJ9_copyOf_2) (maxL := 2) (ret := (some ((Jvm.ClassFile.FieldType.array (Jvm.ClassFile.FieldType.object "java/lang/Object"))))) (by decide) rfl ?_
  intro p e s m args below meth c s₁ B hml hv
  obtain ⟨rfl, hP, hW⟩ := hv
  have hts := atoms_spec (ws := ws_ yJ9_copyOf_2 cJ9_copyOf_2 2 (some ((Jvm.ClassFile.FieldType.array (Jvm.ClassFile.FieldType.object "java/lang/Object"))))) B.pre
  have hts : ∀ w ∈ lw_all, w.before _ s = true := fun w h => hts w (List.mem_cons_of_mem _ h)
  rw [lg_entry_eq]
  have hl := en_entry [rv_ x0, .int x1] [1, 1] (n := 2) (ca_r (ca_i ca_n)) (by decide)
  exact sJ9_copyOf_2 ⟨⟨⟨B.exec, B.bytes, hml, findClass_of_methodNamed B.named, hts⟩, hW, hG⟩, B.notSynchronized, B.returns, Nat.le_refl _, Nat.le_refl _, ⟨rfl, rfl⟩, (name_of_methodNamed B.named B.method).1⟩ hf _ _ _ _ _ hP (LO_nil G) (BU_in ⟨rfl, rfl⟩) hl
abbrev cJ2_grow_2 : ByteArray := prog_27_method_6_code
def yJ2_grow_2 : MethodName := ⟨RJ2, "grow", "(I)[Ljava/lang/Object;"⟩
theorem dJ2_grow_2_0 : decode cJ2_grow_2 0 = .ok (.aload_n 0, 1) := by decide +kernel
theorem dJ2_grow_2_1 : decode cJ2_grow_2 1 = .ok (.getfield 9, 3) := by decide +kernel
theorem dJ2_grow_2_4 : decode cJ2_grow_2 4 = .ok (.arraylength, 1) := by decide +kernel
theorem dJ2_grow_2_5 : decode cJ2_grow_2 5 = .ok (.istore_n 2, 1) := by decide +kernel
theorem dJ2_grow_2_6 : decode cJ2_grow_2 6 = .ok (.iload_n 2, 1) := by decide +kernel
theorem dJ2_grow_2_7 : decode cJ2_grow_2 7 = .ok (.ifCond .gt 13, 3) := by decide +kernel
theorem dJ2_grow_2_10 : decode cJ2_grow_2 10 = .ok (.aload_n 0, 1) := by decide +kernel
theorem dJ2_grow_2_11 : decode cJ2_grow_2 11 = .ok (.getfield 9, 3) := by decide +kernel
theorem dJ2_grow_2_14 : decode cJ2_grow_2 14 = .ok (.getstatic 39, 3) := by decide +kernel
theorem dJ2_grow_2_17 : decode cJ2_grow_2 17 = .ok (.if_acmp .eq 28, 3) := by decide +kernel
theorem dJ2_grow_2_20 : decode cJ2_grow_2 20 = .ok (.iload_n 2, 1) := by decide +kernel
theorem dJ2_grow_2_21 : decode cJ2_grow_2 21 = .ok (.iload_n 1, 1) := by decide +kernel
theorem dJ2_grow_2_22 : decode cJ2_grow_2 22 = .ok (.iload_n 2, 1) := by decide +kernel
theorem dJ2_grow_2_23 : decode cJ2_grow_2 23 = .ok (.isub, 1) := by decide +kernel
theorem dJ2_grow_2_24 : decode cJ2_grow_2 24 = .ok (.iload_n 2, 1) := by decide +kernel
theorem dJ2_grow_2_25 : decode cJ2_grow_2 25 = .ok (.iconst 1, 1) := by decide +kernel
theorem dJ2_grow_2_26 : decode cJ2_grow_2 26 = .ok (.ishr, 1) := by decide +kernel
theorem dJ2_grow_2_27 : decode cJ2_grow_2 27 = .ok (.invokestatic 73, 3) := by decide +kernel
theorem dJ2_grow_2_30 : decode cJ2_grow_2 30 = .ok (.istore_n 3, 1) := by decide +kernel
theorem dJ2_grow_2_31 : decode cJ2_grow_2 31 = .ok (.aload_n 0, 1) := by decide +kernel
theorem dJ2_grow_2_32 : decode cJ2_grow_2 32 = .ok (.aload_n 0, 1) := by decide +kernel
theorem dJ2_grow_2_33 : decode cJ2_grow_2 33 = .ok (.getfield 9, 3) := by decide +kernel
theorem dJ2_grow_2_36 : decode cJ2_grow_2 36 = .ok (.iload_n 3, 1) := by decide +kernel
theorem dJ2_grow_2_37 : decode cJ2_grow_2 37 = .ok (.invokestatic 66, 3) := by decide +kernel
theorem dJ2_grow_2_40 : decode cJ2_grow_2 40 = .ok (.dup_x1, 1) := by decide +kernel
theorem dJ2_grow_2_41 : decode cJ2_grow_2 41 = .ok (.putfield 9, 3) := by decide +kernel
theorem dJ2_grow_2_44 : decode cJ2_grow_2 44 = .ok (.areturn, 1) := by decide +kernel
theorem dJ2_grow_2_45 : decode cJ2_grow_2 45 = .ok (.aload_n 0, 1) := by decide +kernel
theorem dJ2_grow_2_46 : decode cJ2_grow_2 46 = .ok (.bipush 10, 2) := by decide +kernel
theorem dJ2_grow_2_48 : decode cJ2_grow_2 48 = .ok (.iload_n 1, 1) := by decide +kernel
theorem dJ2_grow_2_49 : decode cJ2_grow_2 49 = .ok (.invokestatic 79, 3) := by decide +kernel
theorem dJ2_grow_2_52 : decode cJ2_grow_2 52 = .ok (.anewarray 7, 3) := by decide +kernel
theorem dJ2_grow_2_55 : decode cJ2_grow_2 55 = .ok (.dup_x1, 1) := by decide +kernel
theorem dJ2_grow_2_56 : decode cJ2_grow_2 56 = .ok (.putfield 9, 3) := by decide +kernel
theorem dJ2_grow_2_59 : decode cJ2_grow_2 59 = .ok (.areturn, 1) := by decide +kernel
/-- java/util/ArrayList.grow(I)[Ljava/lang/Object; -/
def wJ2_grow_2_L20 (post : Nat → Hp → Prop) (x0 : Nat) (x1 : Int32) (x2 : Int32) (σ : Hp) : Prop :=
(wJ7_newLength x2 (x1 - x2) (x2 >>> ((1 : Int32) &&& 31)) σ (fun r1 => (tg_ σ x0 = 11 ∧ (∃ mc3 ms4 : Nat, (mc3 ≤ bc_ σ ∧ (ms4 ≤ bs_ σ ∧ (wJ9_copyOf_2 (fR_ σ 10 1 x0) r1 (bu_ σ mc3 ms4) (fun r7 σ8 => (∀ σ9, σ9 = bu_ σ8 (bc_ σ - mc3) (bs_ σ - ms4) → (tg_ σ9 x0 = 11 ∧ (∀ σ11, σ11 = sR_ σ9 10 1 x0 r7 → post r7 σ11)))))))))))
def wJ2_grow_2 (x0 : Nat) (x1 : Int32) (σ : Hp) (post : Nat → Hp → Prop) : Prop :=
(tg_ σ x0 = 11 ∧ (tg_ σ (fR_ σ 10 1 x0) = 104 ∧ (∀ y14 : Int32, y14 = (nI (ln_ σ (fR_ σ 10 1 x0))) → ((0 < y14 →
  wJ2_grow_2_L20 post x0 x1 y14 σ) ∧
 (¬ 0 < y14 →
  (((fR_ σ 10 1 x0) = (fR_ σ 100 1 0) →
   (¬ (if (10 : Int32) < x1 then x1 else (10 : Int32)) < 0 ∧ (((if (10 : Int32) < x1 then x1 else (10 : Int32))).toNatClampNeg ≤ 1000000 ∧ (1 ≤ bc_ σ ∧ (((if (10 : Int32) < x1 then x1 else (10 : Int32))).toNatClampNeg ≤ bs_ σ ∧ (∀ σ21, σ21 = mA_ σ 104 ((if (10 : Int32) < x1 then x1 else (10 : Int32))).toNatClampNeg → (tg_ σ21 x0 = 11 ∧ (∀ σ23, σ23 = sR_ σ21 10 1 x0 (nx_ σ) → post (nx_ σ) σ23)))))))) ∧
  (¬ (fR_ σ 10 1 x0) = (fR_ σ 100 1 0) →
   wJ2_grow_2_L20 post x0 x1 y14 σ)))))))
set_option maxHeartbeats 4000000 in
theorem sJ2_grow_2_L20 {G : GG_} {p : Program} {l : Launch} {e : Env} {R : Room} {s : State} {m : MethodId} {args : Array Value} {below : List Frame} {meth : Method} {c : Code} {mc ms : Nat} (Y : MX_ G p R s m args meth c cJ2_grow_2 4 RJ2 (some ((Jvm.ClassFile.FieldType.array (Jvm.ClassFile.FieldType.object "java/lang/Object")))) 3 92 mc ms "grow") {post : Nat → Hp → Prop} {x0 : Nat} {x1 : Int32} {x2 : Int32} {σ : Hp} (hf : wJ2_grow_2_L20 post x0 x1 x2 σ) : WG_ G p l e R s m args below meth c (MQ below (QR_ G post) args s mc ms (FR_ G)) (BU_ R) 4 20 [(0, rv_ x0), (1, .int x1), (2, .int x2)] [] σ := by
  have ⟨X, hlk, hr, hRf, hRl, hRc, hnm⟩ := Y
  have ⟨⟨hx, hb, _, hown, hts⟩, _, _⟩ := X
  intro H locs cells slots ls hP hL hB hl
  unfold wJ2_grow_2_L20 at hf
  refine lv_iload_n hx hb dJ2_grow_2_20 rfl (lv_at hl 2 rfl) ?_
  refine lv_iload_n hx hb dJ2_grow_2_21 rfl (lv_at hl 1 rfl) ?_
  refine lv_iload_n hx hb dJ2_grow_2_22 rfl (lv_at hl 2 rfl) ?_
  refine lv_isub hx hb dJ2_grow_2_23 ?_
  refine lv_iload_n hx hb dJ2_grow_2_24 rfl (lv_at hl 2 rfl) ?_
  refine lv_iconst (v := 1) hx hb dJ2_grow_2_25 (by decide) ?_
  refine lv_ishr hx hb dJ2_grow_2_26 ?_
  refine p_calli hL (p_runS X hP (metJ7_newLength l G _ _ _ _ _ X.2.2 hf) (va_cwS 3 hts (lw_S q511 q274 q98 q275) rfl rfl rfl (by decide +kernel) ⟨Nat.le_trans (Nat.le_of_ble_eq_true rfl) hRf, Nat.le_trans (Nat.le_of_ble_eq_true rfl) hRl⟩) rfl hl.1 rfl (by decide) dJ2_grow_2_27 (BU_call hB (Nat.zero_le _) (Nat.zero_le _))) (fun r1 σ₁ H locs hf hP hL => ?_)
  obtain ⟨e₁, hf⟩ := hf
  rw [e₁] at hP
  have hl := lv_sub hl [0] rfl
  refine p_istore_n (i := 3) hx hb dJ2_grow_2_30 rfl hl (by decide) ⟨⟨ne_ rfl, Or.inl (ne_ rfl)⟩, trivial⟩ (fun ls hl => ?_)
  refine p_aload_n hx hb dJ2_grow_2_31 rfl (lv_at hl 1 rfl) ?_
  refine p_aload_n hx hb dJ2_grow_2_32 rfl (lv_at hl 1 rfl) ?_
  obtain ⟨ht2, hf⟩ := hf
  refine p_gR X cf10_ (k := 1) (by decide) rfl hP ht2 q161 (fun _ h => h) dJ2_grow_2_33 ?_
  refine lv_iload_n hx hb dJ2_grow_2_36 rfl (lv_at hl 0 rfl) ?_
  obtain ⟨mc3, ms4, hf⟩ := hf
  obtain ⟨hb5, hf⟩ := hf
  obtain ⟨hb6, hf⟩ := hf
  refine p_callr hL (p_runS X (Pic_bu hP mc3 ms4) (metJ9_copyOf_2 l G _ _ _ _ _ _ X.2.2 hf) (va_cwS 2 hts (lw_S q512 q513 q100 q514) rfl rfl rfl (by decide +kernel) ⟨Nat.le_trans (Nat.le_of_ble_eq_true rfl) hRf, Nat.le_trans (Nat.le_of_ble_eq_true rfl) hRl⟩) rfl hl.1 rfl (by rw [(ca_r ca_n)]; decide) dJ2_grow_2_37 (BU_call hB hb5 hb6)) (fun r7 σ8 H locs hf hP hL => ?_)
  have hB := BU_back (τ := σ8) hB hb5 hb6
  have hP := Pic_bu hP (bc_ σ - mc3) (bs_ σ - ms4)
  refine p_nmPB hP hB (fun σ9 hσ9 hP hB => ?_)
  have hf := hf σ9 hσ9
  refine lv_dup_x1 hx hb dJ2_grow_2_40 (rv_cat _) (rv_cat _) ?_
  obtain ⟨ht10, hf⟩ := hf
  refine p_pR X cf10_ (k := 1) (by decide) rfl hP hL ht10 (p_ow hP ht10 rfl) q161 (fun _ h => h) (Or.inl rfl) dJ2_grow_2_41 (fun H locs hP hL => ?_)
  refine p_nmPB hP hB (fun σ11 hσ11 hP hB => ?_)
  have hf := hf σ11 hσ11
  have ht10 : tg_ σ11 x0 = 11 := by rw [hσ11]; exact ht10
  exact p_aret X hlk hP hL (BU_le hB hRc).1 (BU_le hB hRc).2 hr (Or.inr ⟨_, rfl⟩) dJ2_grow_2_44 hf
set_option maxHeartbeats 4000000 in
theorem sJ2_grow_2 {G : GG_} {p : Program} {l : Launch} {e : Env} {R : Room} {s : State} {m : MethodId} {args : Array Value} {below : List Frame} {meth : Method} {c : Code} {mc ms : Nat} (Y : MX_ G p R s m args meth c cJ2_grow_2 4 RJ2 (some ((Jvm.ClassFile.FieldType.array (Jvm.ClassFile.FieldType.object "java/lang/Object")))) 3 92 mc ms "grow") {post : Nat → Hp → Prop} {x0 : Nat} {x1 : Int32} {σ : Hp} (hf : wJ2_grow_2 x0 x1 σ post) : WG_ G p l e R s m args below meth c (MQ below (QR_ G post) args s mc ms (FR_ G)) (BU_ R) 4 0 [(0, rv_ x0), (1, .int x1)] [] σ := by
  have ⟨X, hlk, hr, hRf, hRl, hRc, hnm⟩ := Y
  have ⟨⟨hx, hb, _, hown, hts⟩, _, _⟩ := X
  intro H locs cells slots ls hP hL hB hl
  unfold wJ2_grow_2 at hf
  refine p_aload_n hx hb dJ2_grow_2_0 rfl (lv_at hl 0 rfl) ?_
  obtain ⟨ht12, hf⟩ := hf
  refine p_gR X cf10_ (k := 1) (by decide) rfl hP ht12 q161 (fun _ h => h) dJ2_grow_2_1 ?_
  obtain ⟨ht13, hf⟩ := hf
  refine p_alen X hP ht13 (by decide) (by decide) dJ2_grow_2_4 ?_
  refine lv_topi (fun y14 hy14 => ?_)
  have hf := hf y14 hy14
  refine p_istore_n (i := 2) hx hb dJ2_grow_2_5 rfl hl (by decide) ⟨⟨ne_ rfl, Or.inl (ne_ rfl)⟩, ⟨⟨ne_ rfl, Or.inr rfl⟩, trivial⟩⟩ (fun ls hl => ?_)
  refine lv_iload_n hx hb dJ2_grow_2_6 rfl (lv_at hl 0 rfl) ?_
  refine lv_if_gt (tgt := 20) hx hb dJ2_grow_2_7 (by decide) (fun c15 => ?_) (fun c15 => ?_)
  · have hf := hf.1 c15
    exact sJ2_grow_2_L20 Y hf _ _ _ _ _ hP hL hB (lv_sub hl [1, 2, 0] rfl)
  · have hf := hf.2 c15
    refine p_aload_n hx hb dJ2_grow_2_10 rfl (lv_at hl 1 rfl) ?_
    refine p_gR X cf10_ (k := 1) (by decide) rfl hP ht12 q161 (fun _ h => h) dJ2_grow_2_11 ?_
    refine p_gsE X hP q159 dJ2_grow_2_14 ?_
    refine p_acmp_eq (tgt := 45) hx hb dJ2_grow_2_17 (by decide) (fun c16 => ?_) (fun c16 => ?_)
    · have hf := hf.1 c16
      refine p_aload_n hx hb dJ2_grow_2_45 rfl (lv_at hl 1 rfl) ?_
      refine lv_bipush (v := 10) hx hb dJ2_grow_2_46 (by decide) ?_
      refine lv_iload_n hx hb dJ2_grow_2_48 rfl (lv_at hl 2 rfl) ?_
      refine p_max X q539 hl.1 (Nat.le_trans (by decide) hRf) (by rw [(ca_r ca_n)]; decide) (Nat.le_trans (by decide) hRl) (BU_call hB (Nat.zero_le _) (Nat.zero_le _)) dJ2_grow_2_49 ?_
      obtain ⟨hb17, hf⟩ := hf
      obtain ⟨hb18, hf⟩ := hf
      obtain ⟨hb19, hf⟩ := hf
      obtain ⟨hb20, hf⟩ := hf
      refine p_anew X (t := 104) (by decide) (by decide) rfl q540 q537 hP hB hb17 hb18 hb19 hb20 dJ2_grow_2_52 (fun H hP hB => ?_)
      refine p_nmPB hP hB (fun σ21 hσ21 hP hB => ?_)
      have hf := hf σ21 hσ21
      refine lv_dup_x1 hx hb dJ2_grow_2_55 (rv_cat _) (rv_cat _) ?_
      obtain ⟨ht22, hf⟩ := hf
      refine p_pR X cf10_ (k := 1) (by decide) rfl hP hL ht22 (p_ow hP ht22 rfl) q161 (fun _ h => h) (Or.inl rfl) dJ2_grow_2_56 (fun H locs hP hL => ?_)
      refine p_nmPB hP hB (fun σ23 hσ23 hP hB => ?_)
      have hf := hf σ23 hσ23
      have ht22 : tg_ σ23 x0 = 11 := by rw [hσ23]; exact ht22
      exact p_aret X hlk hP hL (BU_le hB hRc).1 (BU_le hB hRc).2 hr (Or.inr ⟨_, rfl⟩) dJ2_grow_2_59 hf
    · have hf := hf.2 c16
      exact sJ2_grow_2_L20 Y hf _ _ _ _ _ hP hL hB (lv_sub hl [1, 2, 0] rfl)
set_option maxHeartbeats 4000000 in
theorem metJ2_grow_2 (l : Launch) (G : GG_) (mc ms : Nat) (x0 : Nat) (x1 : Int32) (σ : Hp) (post : Nat → Hp → Prop) (hG : GOK_ G) (hf : wJ2_grow_2 x0 x1 (bu_ σ mc ms) post) : Met l yJ2_grow_2 (ws_ yJ2_grow_2 cJ2_grow_2 4 (some ((Jvm.ClassFile.FieldType.array (Jvm.ClassFile.FieldType.object "java/lang/Object"))))) { frames := 3, cells := mc, slots := ms, locals := 92 } (PC_ G [rv_ x0, .int x1] (bu_ σ mc ms)) (QR_ G post) mc ms (FR_ G) := by
  refine Met.ofW (cc := cJ2_grow_2) (maxL := 4) (ret := (some ((Jvm.ClassFile.FieldType.array (Jvm.ClassFile.FieldType.object "java/lang/Object"))))) (by decide) rfl ?_
  intro p e s m args below meth c s₁ B hml hv
  obtain ⟨rfl, hP, hW⟩ := hv
  have hts := atoms_spec (ws := ws_ yJ2_grow_2 cJ2_grow_2 4 (some ((Jvm.ClassFile.FieldType.array (Jvm.ClassFile.FieldType.object "java/lang/Object"))))) B.pre
  have hts : ∀ w ∈ lw_all, w.before _ s = true := fun w h => hts w (List.mem_cons_of_mem _ h)
  rw [lg_entry_eq]
  have hl := en_entry [rv_ x0, .int x1] [1, 1] (n := 4) (ca_r (ca_i ca_n)) (by decide)
  exact sJ2_grow_2 ⟨⟨⟨B.exec, B.bytes, hml, findClass_of_methodNamed B.named, hts⟩, hW, hG⟩, B.notSynchronized, B.returns, Nat.le_refl _, Nat.le_refl _, ⟨rfl, rfl⟩, (name_of_methodNamed B.named B.method).1⟩ hf _ _ _ _ _ hP (LO_nil G) (BU_in ⟨rfl, rfl⟩) hl
abbrev cJ2_grow : ByteArray := prog_27_method_7_code
def yJ2_grow : MethodName := ⟨RJ2, "grow", "()[Ljava/lang/Object;"⟩
theorem dJ2_grow_0 : decode cJ2_grow 0 = .ok (.aload_n 0, 1) := by decide +kernel
theorem dJ2_grow_1 : decode cJ2_grow 1 = .ok (.aload_n 0, 1) := by decide +kernel
theorem dJ2_grow_2 : decode cJ2_grow 2 = .ok (.getfield 48, 3) := by decide +kernel
theorem dJ2_grow_5 : decode cJ2_grow 5 = .ok (.iconst 1, 1) := by decide +kernel
theorem dJ2_grow_6 : decode cJ2_grow 6 = .ok (.iadd, 1) := by decide +kernel
theorem dJ2_grow_7 : decode cJ2_grow 7 = .ok (.invokevirtual 69, 3) := by decide +kernel
theorem dJ2_grow_10 : decode cJ2_grow 10 = .ok (.areturn, 1) := by decide +kernel
/-- java/util/ArrayList.grow()[Ljava/lang/Object; -/
def wJ2_grow (x0 : Nat) (σ : Hp) (post : Nat → Hp → Prop) : Prop :=
(tg_ σ x0 = 11 ∧ (∃ mc2 ms3 : Nat, (mc2 ≤ bc_ σ ∧ (ms3 ≤ bs_ σ ∧ (wJ2_grow_2 x0 ((fI_ σ 10 2 x0) + (1 : Int32)) (bu_ σ mc2 ms3) (fun r6 σ7 => (∀ σ8, σ8 = bu_ σ7 (bc_ σ - mc2) (bs_ σ - ms3) → post r6 σ8)))))))
set_option maxHeartbeats 4000000 in
theorem sJ2_grow {G : GG_} {p : Program} {l : Launch} {e : Env} {R : Room} {s : State} {m : MethodId} {args : Array Value} {below : List Frame} {meth : Method} {c : Code} {mc ms : Nat} (Y : MX_ G p R s m args meth c cJ2_grow 1 RJ2 (some ((Jvm.ClassFile.FieldType.array (Jvm.ClassFile.FieldType.object "java/lang/Object")))) 4 115 mc ms "grow") {post : Nat → Hp → Prop} {x0 : Nat} {σ : Hp} (hf : wJ2_grow x0 σ post) : WG_ G p l e R s m args below meth c (MQ below (QR_ G post) args s mc ms (FR_ G)) (BU_ R) 1 0 [(0, rv_ x0)] [] σ := by
  have ⟨X, hlk, hr, hRf, hRl, hRc, hnm⟩ := Y
  have ⟨⟨hx, hb, _, hown, hts⟩, _, _⟩ := X
  intro H locs cells slots ls hP hL hB hl
  unfold wJ2_grow at hf
  refine p_aload_n hx hb dJ2_grow_0 rfl (lv_at hl 0 rfl) ?_
  refine p_aload_n hx hb dJ2_grow_1 rfl (lv_at hl 0 rfl) ?_
  obtain ⟨ht1, hf⟩ := hf
  refine p_gI X cf10_ (k := 2) (by decide) rfl hP ht1 q162 (fun _ h => h) dJ2_grow_2 ?_
  refine lv_iconst (v := 1) hx hb dJ2_grow_5 (by decide) ?_
  refine lv_iadd hx hb dJ2_grow_6 ?_
  obtain ⟨mc2, ms3, hf⟩ := hf
  obtain ⟨hb4, hf⟩ := hf
  obtain ⟨hb5, hf⟩ := hf
  refine p_callr hL (p_runV X cf10_ (Pic_bu hP mc2 ms3) ht1 (metJ2_grow_2 l G _ _ _ _ _ _ X.2.2 hf) (cwV 1 hts (lw_V q507 q509 qs2 q90 q510) rfl rfl rfl (by decide +kernel) ⟨Nat.le_trans (Nat.le_of_ble_eq_true rfl) hRf, Nat.le_trans (Nat.le_of_ble_eq_true rfl) hRl⟩) rfl hl.1 rfl (by decide) dJ2_grow_7 (BU_call hB hb4 hb5)) (fun r6 σ7 H locs hf hP hL => ?_)
  have hB := BU_back (τ := σ7) hB hb4 hb5
  have hP := Pic_bu hP (bc_ σ - mc2) (bs_ σ - ms3)
  refine p_nmPB hP hB (fun σ8 hσ8 hP hB => ?_)
  have hf := hf σ8 hσ8
  exact p_aret X hlk hP hL (BU_le hB hRc).1 (BU_le hB hRc).2 hr (Or.inr ⟨_, rfl⟩) dJ2_grow_10 hf
set_option maxHeartbeats 4000000 in
theorem metJ2_grow (l : Launch) (G : GG_) (mc ms : Nat) (x0 : Nat) (σ : Hp) (post : Nat → Hp → Prop) (hG : GOK_ G) (hf : wJ2_grow x0 (bu_ σ mc ms) post) : Met l yJ2_grow (ws_ yJ2_grow cJ2_grow 1 (some ((Jvm.ClassFile.FieldType.array (Jvm.ClassFile.FieldType.object "java/lang/Object"))))) { frames := 4, cells := mc, slots := ms, locals := 115 } (PC_ G [rv_ x0] (bu_ σ mc ms)) (QR_ G post) mc ms (FR_ G) := by
  refine Met.ofW (cc := cJ2_grow) (maxL := 1) (ret := (some ((Jvm.ClassFile.FieldType.array (Jvm.ClassFile.FieldType.object "java/lang/Object"))))) (by decide) rfl ?_
  intro p e s m args below meth c s₁ B hml hv
  obtain ⟨rfl, hP, hW⟩ := hv
  have hts := atoms_spec (ws := ws_ yJ2_grow cJ2_grow 1 (some ((Jvm.ClassFile.FieldType.array (Jvm.ClassFile.FieldType.object "java/lang/Object"))))) B.pre
  have hts : ∀ w ∈ lw_all, w.before _ s = true := fun w h => hts w (List.mem_cons_of_mem _ h)
  rw [lg_entry_eq]
  have hl := en_entry [rv_ x0] [1] (n := 1) (ca_r ca_n) (by decide)
  exact sJ2_grow ⟨⟨⟨B.exec, B.bytes, hml, findClass_of_methodNamed B.named, hts⟩, hW, hG⟩, B.notSynchronized, B.returns, Nat.le_refl _, Nat.le_refl _, ⟨rfl, rfl⟩, (name_of_methodNamed B.named B.method).1⟩ hf _ _ _ _ _ hP (LO_nil G) (BU_in ⟨rfl, rfl⟩) hl
abbrev cJ2_add_2 : ByteArray := prog_27_method_24_code
def yJ2_add_2 : MethodName := ⟨RJ2, "add", "(Ljava/lang/Object;[Ljava/lang/Object;I)V"⟩
theorem dJ2_add_2_0 : decode cJ2_add_2 0 = .ok (.iload_n 3, 1) := by decide +kernel
theorem dJ2_add_2_1 : decode cJ2_add_2 1 = .ok (.aload_n 2, 1) := by decide +kernel
theorem dJ2_add_2_2 : decode cJ2_add_2 2 = .ok (.arraylength, 1) := by decide +kernel
theorem dJ2_add_2_3 : decode cJ2_add_2 3 = .ok (.if_icmp .ne 8, 3) := by decide +kernel
theorem dJ2_add_2_6 : decode cJ2_add_2 6 = .ok (.aload_n 0, 1) := by decide +kernel
theorem dJ2_add_2_7 : decode cJ2_add_2 7 = .ok (.invokevirtual 129, 3) := by decide +kernel
theorem dJ2_add_2_10 : decode cJ2_add_2 10 = .ok (.astore_n 2, 1) := by decide +kernel
theorem dJ2_add_2_11 : decode cJ2_add_2 11 = .ok (.aload_n 2, 1) := by decide +kernel
theorem dJ2_add_2_12 : decode cJ2_add_2 12 = .ok (.iload_n 3, 1) := by decide +kernel
theorem dJ2_add_2_13 : decode cJ2_add_2 13 = .ok (.aload_n 1, 1) := by decide +kernel
theorem dJ2_add_2_14 : decode cJ2_add_2 14 = .ok (.aastore, 1) := by decide +kernel
theorem dJ2_add_2_15 : decode cJ2_add_2 15 = .ok (.aload_n 0, 1) := by decide +kernel
theorem dJ2_add_2_16 : decode cJ2_add_2 16 = .ok (.iload_n 3, 1) := by decide +kernel
theorem dJ2_add_2_17 : decode cJ2_add_2 17 = .ok (.iconst 1, 1) := by decide +kernel
theorem dJ2_add_2_18 : decode cJ2_add_2 18 = .ok (.iadd, 1) := by decide +kernel
theorem dJ2_add_2_19 : decode cJ2_add_2 19 = .ok (.putfield 48, 3) := by decide +kernel
theorem dJ2_add_2_22 : decode cJ2_add_2 22 = .ok (.return_, 1) := by decide +kernel
/-- java/util/ArrayList.add(Ljava/lang/Object;[Ljava/lang/Object;I)V -/
def wJ2_add_2_L11 (post : Hp → Prop) (x0 : Nat) (x1 : Nat) (x2 : Nat) (x3 : Int32) (σ : Hp) : Prop :=
(tg_ σ x2 = 104 ∧ (lo_ σ < x2 ∧ (vp_in x3 (ln_ σ x2) ∧ (st_ σ 104 x1 ∧ (∀ σ5, σ5 = wR_ σ x2 (x3).toNatClampNeg x1 → (tg_ σ5 x0 = 11 ∧ (∀ σ7, σ7 = sI_ σ5 10 2 x0 (x3 + (1 : Int32)) → post σ7)))))))
def wJ2_add_2 (x0 : Nat) (x1 : Nat) (x2 : Nat) (x3 : Int32) (σ : Hp) (post : Hp → Prop) : Prop :=
(tg_ σ x2 = 104 ∧ ((¬ x3 = (nI (ln_ σ x2)) →
  wJ2_add_2_L11 post x0 x1 x2 x3 σ) ∧
 (x3 = (nI (ln_ σ x2)) →
  (tg_ σ x0 = 11 ∧ (∃ mc11 ms12 : Nat, (mc11 ≤ bc_ σ ∧ (ms12 ≤ bs_ σ ∧ (wJ2_grow x0  (bu_ σ mc11 ms12) (fun r15 σ16 => (∀ σ17, σ17 = bu_ σ16 (bc_ σ - mc11) (bs_ σ - ms12) → wJ2_add_2_L11 post x0 x1 r15 x3 σ17))))))))))
set_option maxHeartbeats 4000000 in
theorem sJ2_add_2_L11 {G : GG_} {p : Program} {l : Launch} {e : Env} {R : Room} {s : State} {m : MethodId} {args : Array Value} {below : List Frame} {meth : Method} {c : Code} {mc ms : Nat} (Y : MX_ G p R s m args meth c cJ2_add_2 4 RJ2 none 5 135 mc ms "add") {post : Hp → Prop} {x0 : Nat} {x1 : Nat} {x2 : Nat} {x3 : Int32} {σ : Hp} (hf : wJ2_add_2_L11 post x0 x1 x2 x3 σ) : WG_ G p l e R s m args below meth c (MQ below (QV_ G post) args s mc ms (FR_ G)) (BU_ R) 4 11 [(0, rv_ x0), (1, rv_ x1), (2, rv_ x2), (3, .int x3)] [] σ := by
  have ⟨X, hlk, hr, hRf, hRl, hRc, hnm⟩ := Y
  have ⟨⟨hx, hb, _, hown, hts⟩, _, _⟩ := X
  intro H locs cells slots ls hP hL hB hl
  unfold wJ2_add_2_L11 at hf
  refine p_aload_n hx hb dJ2_add_2_11 rfl (lv_at hl 2 rfl) ?_
  refine lv_iload_n hx hb dJ2_add_2_12 rfl (lv_at hl 3 rfl) ?_
  refine p_aload_n hx hb dJ2_add_2_13 rfl (lv_at hl 1 rfl) ?_
  obtain ⟨ht1, hf⟩ := hf
  obtain ⟨hlo2, hf⟩ := hf
  obtain ⟨hi3, hf⟩ := hf
  obtain ⟨hv4, hf⟩ := hf
  refine p_aast X hP hL ht1 (by decide) (by decide) hlo2 hi3 hv4 dJ2_add_2_14 (fun H locs hP hL => ?_)
  refine p_nmPB hP hB (fun σ5 hσ5 hP hB => ?_)
  have hf := hf σ5 hσ5
  have ht1 : tg_ σ5 x2 = 104 := by rw [hσ5]; exact ht1
  refine p_aload_n hx hb dJ2_add_2_15 rfl (lv_at hl 0 rfl) ?_
  refine lv_iload_n hx hb dJ2_add_2_16 rfl (lv_at hl 3 rfl) ?_
  refine lv_iconst (v := 1) hx hb dJ2_add_2_17 (by decide) ?_
  refine lv_iadd hx hb dJ2_add_2_18 ?_
  obtain ⟨ht6, hf⟩ := hf
  refine p_pI X cf10_ (k := 2) (by decide) rfl hP hL ht6 (p_ow hP ht6 rfl) q162 (fun _ h => h) (Or.inl rfl) rfl rfl dJ2_add_2_19 (fun H locs hP hL => ?_)
  refine p_nmPB hP hB (fun σ7 hσ7 hP hB => ?_)
  have hf := hf σ7 hσ7
  have ht1 : tg_ σ7 x2 = 104 := by rw [hσ7]; exact ht1
  have ht6 : tg_ σ7 x0 = 11 := by rw [hσ7]; exact ht6
  exact p_vret X hlk hP hL (BU_le hB hRc).1 (BU_le hB hRc).2 hr dJ2_add_2_22 hf
set_option maxHeartbeats 4000000 in
theorem sJ2_add_2 {G : GG_} {p : Program} {l : Launch} {e : Env} {R : Room} {s : State} {m : MethodId} {args : Array Value} {below : List Frame} {meth : Method} {c : Code} {mc ms : Nat} (Y : MX_ G p R s m args meth c cJ2_add_2 4 RJ2 none 5 135 mc ms "add") {post : Hp → Prop} {x0 : Nat} {x1 : Nat} {x2 : Nat} {x3 : Int32} {σ : Hp} (hf : wJ2_add_2 x0 x1 x2 x3 σ post) : WG_ G p l e R s m args below meth c (MQ below (QV_ G post) args s mc ms (FR_ G)) (BU_ R) 4 0 [(0, rv_ x0), (1, rv_ x1), (2, rv_ x2), (3, .int x3)] [] σ := by
  have ⟨X, hlk, hr, hRf, hRl, hRc, hnm⟩ := Y
  have ⟨⟨hx, hb, _, hown, hts⟩, _, _⟩ := X
  intro H locs cells slots ls hP hL hB hl
  unfold wJ2_add_2 at hf
  refine lv_iload_n hx hb dJ2_add_2_0 rfl (lv_at hl 3 rfl) ?_
  refine p_aload_n hx hb dJ2_add_2_1 rfl (lv_at hl 2 rfl) ?_
  obtain ⟨ht8, hf⟩ := hf
  refine p_alen X hP ht8 (by decide) (by decide) dJ2_add_2_2 ?_
  refine lv_icmp_ne (tgt := 11) hx hb dJ2_add_2_3 (by decide) (fun c9 => ?_) (fun c9 => ?_)
  · have hf := hf.1 c9
    exact sJ2_add_2_L11 Y hf _ _ _ _ _ hP hL hB (lv_sub hl [0, 1, 2, 3] rfl)
  · have hf := hf.2 c9
    refine p_aload_n hx hb dJ2_add_2_6 rfl (lv_at hl 0 rfl) ?_
    obtain ⟨ht10, hf⟩ := hf
    obtain ⟨mc11, ms12, hf⟩ := hf
    obtain ⟨hb13, hf⟩ := hf
    obtain ⟨hb14, hf⟩ := hf
    refine p_callr hL (p_runV X cf10_ (Pic_bu hP mc11 ms12) ht10 (metJ2_grow l G _ _ _ _ _ X.2.2 hf) (cwV 0 hts (lw_V q503 q505 qs1 q90 q506) rfl rfl rfl (by decide +kernel) ⟨Nat.le_trans (Nat.le_of_ble_eq_true rfl) hRf, Nat.le_trans (Nat.le_of_ble_eq_true rfl) hRl⟩) rfl hl.1 rfl (by decide) dJ2_add_2_7 (BU_call hB hb13 hb14)) (fun r15 σ16 H locs hf hP hL => ?_)
    have hB := BU_back (τ := σ16) hB hb13 hb14
    have hP := Pic_bu hP (bc_ σ - mc11) (bs_ σ - ms12)
    refine p_nmPB hP hB (fun σ17 hσ17 hP hB => ?_)
    have hf := hf σ17 hσ17
    have hl := lv_sub hl [0, 1, 3] rfl
    refine p_astore_n (i := 2) hx hb dJ2_add_2_10 rfl hl (by decide) ⟨⟨ne_ rfl, Or.inl (ne_ rfl)⟩, ⟨⟨ne_ rfl, Or.inr (rv_cat _)⟩, ⟨⟨ne_ rfl, Or.inl (ne_ rfl)⟩, trivial⟩⟩⟩ (fun ls hl => ?_)
    exact sJ2_add_2_L11 Y hf _ _ _ _ _ hP hL hB (lv_sub hl [1, 2, 0, 3] rfl)
set_option maxHeartbeats 4000000 in
theorem metJ2_add_2 (l : Launch) (G : GG_) (mc ms : Nat) (x0 : Nat) (x1 : Nat) (x2 : Nat) (x3 : Int32) (σ : Hp) (post : Hp → Prop) (hG : GOK_ G) (hf : wJ2_add_2 x0 x1 x2 x3 (bu_ σ mc ms) post) : Met l yJ2_add_2 (ws_ yJ2_add_2 cJ2_add_2 4 none) { frames := 5, cells := mc, slots := ms, locals := 135 } (PC_ G [rv_ x0, rv_ x1, rv_ x2, .int x3] (bu_ σ mc ms)) (QV_ G post) mc ms (FR_ G) := by
  refine Met.ofW (cc := cJ2_add_2) (maxL := 4) (ret := none) (by decide) rfl ?_
  intro p e s m args below meth c s₁ B hml hv
  obtain ⟨rfl, hP, hW⟩ := hv
  have hts := atoms_spec (ws := ws_ yJ2_add_2 cJ2_add_2 4 none) B.pre
  have hts : ∀ w ∈ lw_all, w.before _ s = true := fun w h => hts w (List.mem_cons_of_mem _ h)
  rw [lg_entry_eq]
  have hl := en_entry [rv_ x0, rv_ x1, rv_ x2, .int x3] [1, 1, 1, 1] (n := 4) (ca_r (ca_r (ca_r (ca_i ca_n)))) (by decide)
  exact sJ2_add_2 ⟨⟨⟨B.exec, B.bytes, hml, findClass_of_methodNamed B.named, hts⟩, hW, hG⟩, B.notSynchronized, B.returns, Nat.le_refl _, Nat.le_refl _, ⟨rfl, rfl⟩, (name_of_methodNamed B.named B.method).1⟩ hf _ _ _ _ _ hP (LO_nil G) (BU_in ⟨rfl, rfl⟩) hl
abbrev cJ2_add : ByteArray := prog_27_method_25_code
def yJ2_add : MethodName := ⟨RJ2, "add", "(Ljava/lang/Object;)Z"⟩
theorem dJ2_add_0 : decode cJ2_add 0 = .ok (.aload_n 0, 1) := by decide +kernel
theorem dJ2_add_1 : decode cJ2_add 1 = .ok (.dup, 1) := by decide +kernel
theorem dJ2_add_2 : decode cJ2_add 2 = .ok (.getfield 63, 3) := by decide +kernel
theorem dJ2_add_5 : decode cJ2_add 5 = .ok (.iconst 1, 1) := by decide +kernel
theorem dJ2_add_6 : decode cJ2_add 6 = .ok (.iadd, 1) := by decide +kernel
theorem dJ2_add_7 : decode cJ2_add 7 = .ok (.putfield 63, 3) := by decide +kernel
theorem dJ2_add_10 : decode cJ2_add 10 = .ok (.aload_n 0, 1) := by decide +kernel
theorem dJ2_add_11 : decode cJ2_add 11 = .ok (.aload_n 1, 1) := by decide +kernel
theorem dJ2_add_12 : decode cJ2_add 12 = .ok (.aload_n 0, 1) := by decide +kernel
theorem dJ2_add_13 : decode cJ2_add 13 = .ok (.getfield 9, 3) := by decide +kernel
theorem dJ2_add_16 : decode cJ2_add 16 = .ok (.aload_n 0, 1) := by decide +kernel
theorem dJ2_add_17 : decode cJ2_add 17 = .ok (.getfield 48, 3) := by decide +kernel
theorem dJ2_add_20 : decode cJ2_add 20 = .ok (.invokevirtual 131, 3) := by decide +kernel
theorem dJ2_add_23 : decode cJ2_add 23 = .ok (.iconst 1, 1) := by decide +kernel
theorem dJ2_add_24 : decode cJ2_add 24 = .ok (.ireturn, 1) := by decide +kernel
/-- java/util/ArrayList.add(Ljava/lang/Object;)Z -/
def wJ2_add (x0 : Nat) (x1 : Nat) (σ : Hp) (post : Int32 → Hp → Prop) : Prop :=
(tg_ σ x0 = 11 ∧ (∀ σ2, σ2 = sI_ σ 10 0 x0 ((fI_ σ 10 0 x0) + (1 : Int32)) → (∃ mc3 ms4 : Nat, (mc3 ≤ bc_ σ2 ∧ (ms4 ≤ bs_ σ2 ∧ (wJ2_add_2 x0 x1 (fR_ σ2 10 1 x0) (fI_ σ2 10 2 x0) (bu_ σ2 mc3 ms4) (fun σ7 => (∀ σ8, σ8 = bu_ σ7 (bc_ σ2 - mc3) (bs_ σ2 - ms4) → post (1 : Int32) σ8))))))))
set_option maxHeartbeats 4000000 in
theorem sJ2_add {G : GG_} {p : Program} {l : Launch} {e : Env} {R : Room} {s : State} {m : MethodId} {args : Array Value} {below : List Frame} {meth : Method} {c : Code} {mc ms : Nat} (Y : MX_ G p R s m args meth c cJ2_add 2 RJ2 (some Jvm.ClassFile.FieldType.boolean) 6 158 mc ms "add") {post : Int32 → Hp → Prop} {x0 : Nat} {x1 : Nat} {σ : Hp} (hf : wJ2_add x0 x1 σ post) : WG_ G p l e R s m args below meth c (MQ below (QI_ G post) args s mc ms (FR_ G)) (BU_ R) 2 0 [(0, rv_ x0), (1, rv_ x1)] [] σ := by
  have ⟨X, hlk, hr, hRf, hRl, hRc, hnm⟩ := Y
  have ⟨⟨hx, hb, _, hown, hts⟩, _, _⟩ := X
  intro H locs cells slots ls hP hL hB hl
  unfold wJ2_add at hf
  refine p_aload_n hx hb dJ2_add_0 rfl (lv_at hl 0 rfl) ?_
  refine lv_dup hx hb dJ2_add_1 (rv_cat _) ?_
  obtain ⟨ht1, hf⟩ := hf
  refine p_gI X cf10_ (k := 0) (by decide) rfl hP ht1 q164 (u_same (hts _ q165)) dJ2_add_2 ?_
  refine lv_iconst (v := 1) hx hb dJ2_add_5 (by decide) ?_
  refine lv_iadd hx hb dJ2_add_6 ?_
  refine p_pI X cf10_ (k := 0) (by decide) rfl hP hL ht1 (p_ow hP ht1 rfl) q164 (u_same (hts _ q165)) (Or.inl rfl) rfl rfl dJ2_add_7 (fun H locs hP hL => ?_)
  refine p_nmPB hP hB (fun σ2 hσ2 hP hB => ?_)
  have hf := hf σ2 hσ2
  have ht1 : tg_ σ2 x0 = 11 := by rw [hσ2]; exact ht1
  refine p_aload_n hx hb dJ2_add_10 rfl (lv_at hl 0 rfl) ?_
  refine p_aload_n hx hb dJ2_add_11 rfl (lv_at hl 1 rfl) ?_
  refine p_aload_n hx hb dJ2_add_12 rfl (lv_at hl 0 rfl) ?_
  refine p_gR X cf10_ (k := 1) (by decide) rfl hP ht1 q161 (fun _ h => h) dJ2_add_13 ?_
  refine p_aload_n hx hb dJ2_add_16 rfl (lv_at hl 0 rfl) ?_
  refine p_gI X cf10_ (k := 2) (by decide) rfl hP ht1 q162 (fun _ h => h) dJ2_add_17 ?_
  obtain ⟨mc3, ms4, hf⟩ := hf
  obtain ⟨hb5, hf⟩ := hf
  obtain ⟨hb6, hf⟩ := hf
  refine p_callv hL (p_runV X cf10_ (Pic_bu hP mc3 ms4) ht1 (metJ2_add_2 l G _ _ _ _ _ _ _ _ X.2.2 hf) (cwV 3 hts (lw_V q499 q501 qs0 q90 q502) rfl rfl rfl (by decide +kernel) ⟨Nat.le_trans (Nat.le_of_ble_eq_true rfl) hRf, Nat.le_trans (Nat.le_of_ble_eq_true rfl) hRl⟩) rfl hl.1 rfl (by decide) dJ2_add_20 (BU_call hB hb5 hb6)) (fun σ7 H locs hf hP hL => ?_)
  have hB := BU_back (τ := σ7) hB hb5 hb6
  have hP := Pic_bu hP (bc_ σ2 - mc3) (bs_ σ2 - ms4)
  refine p_nmPB hP hB (fun σ8 hσ8 hP hB => ?_)
  have hf := hf σ8 hσ8
  refine lv_iconst (v := 1) hx hb dJ2_add_23 (by decide) ?_
  exact p_zret X hlk hP hL (BU_le hB hRc).1 (BU_le hB hRc).2 hr nr_1 dJ2_add_24 hf
set_option maxHeartbeats 4000000 in
theorem metJ2_add (l : Launch) (G : GG_) (mc ms : Nat) (x0 : Nat) (x1 : Nat) (σ : Hp) (post : Int32 → Hp → Prop) (hG : GOK_ G) (hf : wJ2_add x0 x1 (bu_ σ mc ms) post) : Met l yJ2_add (ws_ yJ2_add cJ2_add 2 (some Jvm.ClassFile.FieldType.boolean)) { frames := 6, cells := mc, slots := ms, locals := 158 } (PC_ G [rv_ x0, rv_ x1] (bu_ σ mc ms)) (QI_ G post) mc ms (FR_ G) := by
  refine Met.ofW (cc := cJ2_add) (maxL := 2) (ret := (some Jvm.ClassFile.FieldType.boolean)) (by decide) rfl ?_
  intro p e s m args below meth c s₁ B hml hv
  obtain ⟨rfl, hP, hW⟩ := hv
  have hts := atoms_spec (ws := ws_ yJ2_add cJ2_add 2 (some Jvm.ClassFile.FieldType.boolean)) B.pre
  have hts : ∀ w ∈ lw_all, w.before _ s = true := fun w h => hts w (List.mem_cons_of_mem _ h)
  rw [lg_entry_eq]
  have hl := en_entry [rv_ x0, rv_ x1] [1, 1] (n := 2) (ca_r (ca_r ca_n)) (by decide)
  exact sJ2_add ⟨⟨⟨B.exec, B.bytes, hml, findClass_of_methodNamed B.named, hts⟩, hW, hG⟩, B.notSynchronized, B.returns, Nat.le_refl _, Nat.le_refl _, ⟨rfl, rfl⟩, (name_of_methodNamed B.named B.method).1⟩ hf _ _ _ _ _ hP (LO_nil G) (BU_in ⟨rfl, rfl⟩) hl
def RJ10 : String := "jdk/internal/util/Preconditions"
abbrev cJ10_checkIndex : ByteArray := prog_36_method_11_code
def yJ10_checkIndex : MethodName := ⟨RJ10, "checkIndex", "(IILjava/util/function/BiFunction;)I"⟩
theorem dJ10_checkIndex_0 : decode cJ10_checkIndex 0 = .ok (.iload_n 0, 1) := by decide +kernel
theorem dJ10_checkIndex_1 : decode cJ10_checkIndex 1 = .ok (.ifCond .lt 8, 3) := by decide +kernel
theorem dJ10_checkIndex_4 : decode cJ10_checkIndex 4 = .ok (.iload_n 0, 1) := by decide +kernel
theorem dJ10_checkIndex_5 : decode cJ10_checkIndex 5 = .ok (.iload_n 1, 1) := by decide +kernel
theorem dJ10_checkIndex_6 : decode cJ10_checkIndex 6 = .ok (.if_icmp .lt 10, 3) := by decide +kernel
theorem dJ10_checkIndex_9 : decode cJ10_checkIndex 9 = .ok (.aload_n 2, 1) := by decide +kernel
theorem dJ10_checkIndex_10 : decode cJ10_checkIndex 10 = .ok (.iload_n 0, 1) := by decide +kernel
theorem dJ10_checkIndex_11 : decode cJ10_checkIndex 11 = .ok (.iload_n 1, 1) := by decide +kernel
theorem dJ10_checkIndex_12 : decode cJ10_checkIndex 12 = .ok (.invokestatic 95, 3) := by decide +kernel
theorem dJ10_checkIndex_15 : decode cJ10_checkIndex 15 = .ok (.athrow, 1) := by decide +kernel
theorem dJ10_checkIndex_16 : decode cJ10_checkIndex 16 = .ok (.iload_n 0, 1) := by decide +kernel
theorem dJ10_checkIndex_17 : decode cJ10_checkIndex 17 = .ok (.ireturn, 1) := by decide +kernel
/-- jdk/internal/util/Preconditions.checkIndex(IILjava/util/function/BiFunction;)I -/
def wJ10_checkIndex_L9 (post : Int32 → Prop) (x0 : Int32) (x1 : Int32) (x2 : Nat) (σ : Hp) : Prop :=
False
def wJ10_checkIndex (x0 : Int32) (x1 : Int32) (x2 : Nat) (σ : Hp) (post : Int32 → Prop) : Prop :=
((x0 < 0 →
  wJ10_checkIndex_L9 post x0 x1 x2 σ) ∧
 (¬ x0 < 0 →
  ((x0 < x1 →
   post x0) ∧
  (¬ x0 < x1 →
   wJ10_checkIndex_L9 post x0 x1 x2 σ))))
set_option maxHeartbeats 4000000 in
theorem sJ10_checkIndex_L9 {G : GG_} {p : Program} {l : Launch} {e : Env} {R : Room} {s : State} {m : MethodId} {args : Array Value} {below : List Frame} {meth : Method} {c : Code} (Y : MX_ G p R s m args meth c cJ10_checkIndex 3 RJ10 (some Jvm.ClassFile.FieldType.int) 1 20 0 0 "checkIndex") {post : Int32 → Prop} {x0 : Int32} {x1 : Int32} {x2 : Nat} {σ : Hp} (hf : wJ10_checkIndex_L9 post x0 x1 x2 σ) : WG_ G p l e R s m args below meth c (MQ below (QI_ G (fun r τ => τ = σ ∧ post r)) args s 0 0 (FR_ G)) BN_ 3 9 [(0, .int x0), (1, .int x1), (2, rv_ x2)] [] σ := by
  have ⟨X, hlk, hr, hRf, hRl, hRc, hnm⟩ := Y
  have ⟨⟨hx, hb, _, hown, hts⟩, _, _⟩ := X
  intro H locs cells slots ls hP hL hB hl
  obtain ⟨rfl, rfl⟩ := hB
  unfold wJ10_checkIndex_L9 at hf
  refine p_aload_n hx hb dJ10_checkIndex_9 rfl (lv_at hl 2 rfl) ?_
  refine lv_iload_n hx hb dJ10_checkIndex_10 rfl (lv_at hl 0 rfl) ?_
  refine lv_iload_n hx hb dJ10_checkIndex_11 rfl (lv_at hl 1 rfl) ?_
  exact hf.elim
set_option maxHeartbeats 4000000 in
theorem sJ10_checkIndex {G : GG_} {p : Program} {l : Launch} {e : Env} {R : Room} {s : State} {m : MethodId} {args : Array Value} {below : List Frame} {meth : Method} {c : Code} (Y : MX_ G p R s m args meth c cJ10_checkIndex 3 RJ10 (some Jvm.ClassFile.FieldType.int) 1 20 0 0 "checkIndex") {post : Int32 → Prop} {x0 : Int32} {x1 : Int32} {x2 : Nat} {σ : Hp} (hf : wJ10_checkIndex x0 x1 x2 σ post) : WG_ G p l e R s m args below meth c (MQ below (QI_ G (fun r τ => τ = σ ∧ post r)) args s 0 0 (FR_ G)) BN_ 3 0 [(0, .int x0), (1, .int x1), (2, rv_ x2)] [] σ := by
  have ⟨X, hlk, hr, hRf, hRl, hRc, hnm⟩ := Y
  have ⟨⟨hx, hb, _, hown, hts⟩, _, _⟩ := X
  intro H locs cells slots ls hP hL hB hl
  obtain ⟨rfl, rfl⟩ := hB
  unfold wJ10_checkIndex at hf
  refine lv_iload_n hx hb dJ10_checkIndex_0 rfl (lv_at hl 0 rfl) ?_
  refine lv_if_lt (tgt := 9) hx hb dJ10_checkIndex_1 (by decide) (fun c1 => ?_) (fun c1 => ?_)
  · have hf := hf.1 c1
    exact sJ10_checkIndex_L9 Y hf _ _ _ _ _ hP hL ⟨rfl, rfl⟩ (lv_sub hl [0, 1, 2] rfl)
  · have hf := hf.2 c1
    refine lv_iload_n hx hb dJ10_checkIndex_4 rfl (lv_at hl 0 rfl) ?_
    refine lv_iload_n hx hb dJ10_checkIndex_5 rfl (lv_at hl 1 rfl) ?_
    refine lv_icmp_lt (tgt := 16) hx hb dJ10_checkIndex_6 (by decide) (fun c2 => ?_) (fun c2 => ?_)
    · have hf := hf.1 c2
      refine lv_iload_n hx hb dJ10_checkIndex_16 rfl (lv_at hl 0 rfl) ?_
      exact p_iret X hlk hP hL (Nat.le_refl _) (Nat.le_refl _) hr dJ10_checkIndex_17 ⟨rfl, hf⟩
    · have hf := hf.2 c2
      exact sJ10_checkIndex_L9 Y hf _ _ _ _ _ hP hL ⟨rfl, rfl⟩ (lv_sub hl [0, 1, 2] rfl)
set_option maxHeartbeats 4000000 in
theorem metJ10_checkIndex (l : Launch) (G : GG_) (x0 : Int32) (x1 : Int32) (x2 : Nat) (σ : Hp) (post : Int32 → Prop) (hG : GOK_ G) (hf : wJ10_checkIndex x0 x1 x2 σ post) : Met l yJ10_checkIndex (ws_ yJ10_checkIndex cJ10_checkIndex 3 (some Jvm.ClassFile.FieldType.int)) { frames := 1, cells := 0, slots := 0, locals := 20 } (PC_ G [.int x0, .int x1, rv_ x2] σ) (QI_ G (fun r τ => τ = σ ∧ post r)) 0 0 (FR_ G) := by
  refine Met.ofW (cc := cJ10_checkIndex) (maxL := 3) (ret := (some Jvm.ClassFile.FieldType.int)) (by decide) rfl ?_
  intro p e s m args below meth c s₁ B hml hv
  obtain ⟨rfl, hP, hW⟩ := hv
  have hts := atoms_spec (ws := ws_ yJ10_checkIndex cJ10_checkIndex 3 (some Jvm.ClassFile.FieldType.int)) B.pre
  have hts : ∀ w ∈ lw_all, w.before _ s = true := fun w h => hts w (List.mem_cons_of_mem _ h)
  rw [lg_entry_eq]
  have hl := en_entry [.int x0, .int x1, rv_ x2] [1, 1, 1] (n := 3) (ca_i (ca_i (ca_r ca_n))) (by decide)
  exact sJ10_checkIndex ⟨⟨⟨B.exec, B.bytes, hml, findClass_of_methodNamed B.named, hts⟩, hW, hG⟩, B.notSynchronized, B.returns, Nat.le_refl _, Nat.le_refl _, ⟨rfl, rfl⟩, (name_of_methodNamed B.named B.method).1⟩ hf _ _ _ _ _ hP (LO_nil G) ⟨rfl, rfl⟩ hl
def RJ12 : String := "java/util/Objects"
abbrev cJ12_checkIndex : ByteArray := prog_32_method_17_code
def yJ12_checkIndex : MethodName := ⟨RJ12, "checkIndex", "(II)I"⟩
theorem dJ12_checkIndex_0 : decode cJ12_checkIndex 0 = .ok (.iload_n 0, 1) := by decide +kernel
theorem dJ12_checkIndex_1 : decode cJ12_checkIndex 1 = .ok (.iload_n 1, 1) := by decide +kernel
theorem dJ12_checkIndex_2 : decode cJ12_checkIndex 2 = .ok (.aconst_null, 1) := by decide +kernel
theorem dJ12_checkIndex_3 : decode cJ12_checkIndex 3 = .ok (.invokestatic 105, 3) := by decide +kernel
theorem dJ12_checkIndex_6 : decode cJ12_checkIndex 6 = .ok (.ireturn, 1) := by decide +kernel
/-- java/util/Objects.checkIndex(II)I -/
def wJ12_checkIndex (x0 : Int32) (x1 : Int32) (σ : Hp) (post : Int32 → Prop) : Prop :=
(wJ10_checkIndex x0 x1 0 σ (fun r1 => post r1))
set_option maxHeartbeats 4000000 in
theorem sJ12_checkIndex {G : GG_} {p : Program} {l : Launch} {e : Env} {R : Room} {s : State} {m : MethodId} {args : Array Value} {below : List Frame} {meth : Method} {c : Code} (Y : MX_ G p R s m args meth c cJ12_checkIndex 2 RJ12 (some Jvm.ClassFile.FieldType.int) 2 42 0 0 "checkIndex") {post : Int32 → Prop} {x0 : Int32} {x1 : Int32} {σ : Hp} (hf : wJ12_checkIndex x0 x1 σ post) : WG_ G p l e R s m args below meth c (MQ below (QI_ G (fun r τ => τ = σ ∧ post r)) args s 0 0 (FR_ G)) BN_ 2 0 [(0, .int x0), (1, .int x1)] [] σ := by
  have ⟨X, hlk, hr, hRf, hRl, hRc, hnm⟩ := Y
  have ⟨⟨hx, hb, _, hown, hts⟩, _, _⟩ := X
  intro H locs cells slots ls hP hL hB hl
  obtain ⟨rfl, rfl⟩ := hB
  unfold wJ12_checkIndex at hf
  refine lv_iload_n hx hb dJ12_checkIndex_0 rfl (lv_at hl 0 rfl) ?_
  refine lv_iload_n hx hb dJ12_checkIndex_1 rfl (lv_at hl 1 rfl) ?_
  refine p_null hx hb dJ12_checkIndex_2 ?_
  refine p_calli hL (p_runS X hP (metJ10_checkIndex l G _ _ _ _ _ X.2.2 hf) (va_cwS 3 hts (lw_S q730 q704 q102 q705) rfl rfl rfl (by decide +kernel) ⟨Nat.le_trans (Nat.le_of_ble_eq_true rfl) hRf, Nat.le_trans (Nat.le_of_ble_eq_true rfl) hRl⟩) rfl hl.1 rfl (by decide) dJ12_checkIndex_3 ⟨Nat.zero_le _, Nat.zero_le _⟩) (fun r1 σ₁ H locs hf hP hL => ?_)
  obtain ⟨e₁, hf⟩ := hf
  rw [e₁] at hP
  exact p_iret X hlk hP hL (Nat.le_refl _) (Nat.le_refl _) hr dJ12_checkIndex_6 ⟨rfl, hf⟩
set_option maxHeartbeats 4000000 in
theorem metJ12_checkIndex (l : Launch) (G : GG_) (x0 : Int32) (x1 : Int32) (σ : Hp) (post : Int32 → Prop) (hG : GOK_ G) (hf : wJ12_checkIndex x0 x1 σ post) : Met l yJ12_checkIndex (ws_ yJ12_checkIndex cJ12_checkIndex 2 (some Jvm.ClassFile.FieldType.int)) { frames := 2, cells := 0, slots := 0, locals := 42 } (PC_ G [.int x0, .int x1] σ) (QI_ G (fun r τ => τ = σ ∧ post r)) 0 0 (FR_ G) := by
  refine Met.ofW (cc := cJ12_checkIndex) (maxL := 2) (ret := (some Jvm.ClassFile.FieldType.int)) (by decide) rfl ?_
  intro p e s m args below meth c s₁ B hml hv
  obtain ⟨rfl, hP, hW⟩ := hv
  have hts := atoms_spec (ws := ws_ yJ12_checkIndex cJ12_checkIndex 2 (some Jvm.ClassFile.FieldType.int)) B.pre
  have hts : ∀ w ∈ lw_all, w.before _ s = true := fun w h => hts w (List.mem_cons_of_mem _ h)
  rw [lg_entry_eq]
  have hl := en_entry [.int x0, .int x1] [1, 1] (n := 2) (ca_i (ca_i ca_n)) (by decide)
  exact sJ12_checkIndex ⟨⟨⟨B.exec, B.bytes, hml, findClass_of_methodNamed B.named, hts⟩, hW, hG⟩, B.notSynchronized, B.returns, Nat.le_refl _, Nat.le_refl _, ⟨rfl, rfl⟩, (name_of_methodNamed B.named B.method).1⟩ hf _ _ _ _ _ hP (LO_nil G) ⟨rfl, rfl⟩ hl
abbrev cJ2_elementData : ByteArray := prog_27_method_18_code
def yJ2_elementData : MethodName := ⟨RJ2, "elementData", "(I)Ljava/lang/Object;"⟩
theorem dJ2_elementData_0 : decode cJ2_elementData 0 = .ok (.aload_n 0, 1) := by decide +kernel
theorem dJ2_elementData_1 : decode cJ2_elementData 1 = .ok (.getfield 9, 3) := by decide +kernel
theorem dJ2_elementData_4 : decode cJ2_elementData 4 = .ok (.iload_n 1, 1) := by decide +kernel
theorem dJ2_elementData_5 : decode cJ2_elementData 5 = .ok (.aaload, 1) := by decide +kernel
theorem dJ2_elementData_6 : decode cJ2_elementData 6 = .ok (.areturn, 1) := by decide +kernel
/-- java/util/ArrayList.elementData(I)Ljava/lang/Object; -/
def wJ2_elementData (x0 : Nat) (x1 : Int32) (σ : Hp) (post : Nat → Prop) : Prop :=
(tg_ σ x0 = 11 ∧ (tg_ σ (fR_ σ 10 1 x0) = 104 ∧ (vp_in x1 (ln_ σ (fR_ σ 10 1 x0)) ∧ post (aR_ σ (fR_ σ 10 1 x0) (x1).toNatClampNeg))))
set_option maxHeartbeats 4000000 in
theorem sJ2_elementData {G : GG_} {p : Program} {l : Launch} {e : Env} {R : Room} {s : State} {m : MethodId} {args : Array Value} {below : List Frame} {meth : Method} {c : Code} (Y : MX_ G p R s m args meth c cJ2_elementData 2 RJ2 (some ((Jvm.ClassFile.FieldType.object "java/lang/Object"))) 1 20 0 0 "elementData") {post : Nat → Prop} {x0 : Nat} {x1 : Int32} {σ : Hp} (hf : wJ2_elementData x0 x1 σ post) : WG_ G p l e R s m args below meth c (MQ below (QR_ G (fun r τ => τ = σ ∧ post r)) args s 0 0 (FR_ G)) BN_ 2 0 [(0, rv_ x0), (1, .int x1)] [] σ := by
  have ⟨X, hlk, hr, hRf, hRl, hRc, hnm⟩ := Y
  have ⟨⟨hx, hb, _, hown, hts⟩, _, _⟩ := X
  intro H locs cells slots ls hP hL hB hl
  obtain ⟨rfl, rfl⟩ := hB
  unfold wJ2_elementData at hf
  refine p_aload_n hx hb dJ2_elementData_0 rfl (lv_at hl 0 rfl) ?_
  obtain ⟨ht1, hf⟩ := hf
  refine p_gR X cf10_ (k := 1) (by decide) rfl hP ht1 q161 (fun _ h => h) dJ2_elementData_1 ?_
  refine lv_iload_n hx hb dJ2_elementData_4 rfl (lv_at hl 1 rfl) ?_
  obtain ⟨ht2, hf⟩ := hf
  obtain ⟨hi3, hf⟩ := hf
  refine p_aald X hP ht2 (by decide) (by decide) hi3 dJ2_elementData_5 ?_
  exact p_aret X hlk hP hL (Nat.le_refl _) (Nat.le_refl _) hr (Or.inl ⟨_, rfl⟩) dJ2_elementData_6 ⟨rfl, hf⟩
set_option maxHeartbeats 4000000 in
theorem metJ2_elementData (l : Launch) (G : GG_) (x0 : Nat) (x1 : Int32) (σ : Hp) (post : Nat → Prop) (hG : GOK_ G) (hf : wJ2_elementData x0 x1 σ post) : Met l yJ2_elementData (ws_ yJ2_elementData cJ2_elementData 2 (some ((Jvm.ClassFile.FieldType.object "java/lang/Object")))) { frames := 1, cells := 0, slots := 0, locals := 20 } (PC_ G [rv_ x0, .int x1] σ) (QR_ G (fun r τ => τ = σ ∧ post r)) 0 0 (FR_ G) := by
  refine Met.ofW (cc := cJ2_elementData) (maxL := 2) (ret := (some ((Jvm.ClassFile.FieldType.object "java/lang/Object")))) (by decide) rfl ?_
  intro p e s m args below meth c s₁ B hml hv
  obtain ⟨rfl, hP, hW⟩ := hv
  have hts := atoms_spec (ws := ws_ yJ2_elementData cJ2_elementData 2 (some ((Jvm.ClassFile.FieldType.object "java/lang/Object")))) B.pre
  have hts : ∀ w ∈ lw_all, w.before _ s = true := fun w h => hts w (List.mem_cons_of_mem _ h)
  rw [lg_entry_eq]
  have hl := en_entry [rv_ x0, .int x1] [1, 1] (n := 2) (ca_r (ca_i ca_n)) (by decide)
  exact sJ2_elementData ⟨⟨⟨B.exec, B.bytes, hml, findClass_of_methodNamed B.named, hts⟩, hW, hG⟩, B.notSynchronized, B.returns, Nat.le_refl _, Nat.le_refl _, ⟨rfl, rfl⟩, (name_of_methodNamed B.named B.method).1⟩ hf _ _ _ _ _ hP (LO_nil G) ⟨rfl, rfl⟩ hl
abbrev cJ2_get : ByteArray := prog_27_method_20_code
def yJ2_get : MethodName := ⟨RJ2, "get", "(I)Ljava/lang/Object;"⟩
theorem dJ2_get_0 : decode cJ2_get 0 = .ok (.iload_n 1, 1) := by decide +kernel
theorem dJ2_get_1 : decode cJ2_get 1 = .ok (.aload_n 0, 1) := by decide +kernel
theorem dJ2_get_2 : decode cJ2_get 2 = .ok (.getfield 48, 3) := by decide +kernel
theorem dJ2_get_5 : decode cJ2_get 5 = .ok (.invokestatic 118, 3) := by decide +kernel
theorem dJ2_get_8 : decode cJ2_get 8 = .ok (.pop, 1) := by decide +kernel
theorem dJ2_get_9 : decode cJ2_get 9 = .ok (.aload_n 0, 1) := by decide +kernel
theorem dJ2_get_10 : decode cJ2_get 10 = .ok (.iload_n 1, 1) := by decide +kernel
theorem dJ2_get_11 : decode cJ2_get 11 = .ok (.invokevirtual 123, 3) := by decide +kernel
theorem dJ2_get_14 : decode cJ2_get 14 = .ok (.areturn, 1) := by decide +kernel
/-- java/util/ArrayList.get(I)Ljava/lang/Object; -/
def wJ2_get (x0 : Nat) (x1 : Int32) (σ : Hp) (post : Nat → Prop) : Prop :=
(tg_ σ x0 = 11 ∧ (wJ12_checkIndex x1 (fI_ σ 10 2 x0) σ (fun r2 => (wJ2_elementData x0 x1 σ (fun r3 => post r3)))))
set_option maxHeartbeats 4000000 in
theorem sJ2_get {G : GG_} {p : Program} {l : Launch} {e : Env} {R : Room} {s : State} {m : MethodId} {args : Array Value} {below : List Frame} {meth : Method} {c : Code} (Y : MX_ G p R s m args meth c cJ2_get 2 RJ2 (some ((Jvm.ClassFile.FieldType.object "java/lang/Object"))) 3 63 0 0 "get") {post : Nat → Prop} {x0 : Nat} {x1 : Int32} {σ : Hp} (hf : wJ2_get x0 x1 σ post) : WG_ G p l e R s m args below meth c (MQ below (QR_ G (fun r τ => τ = σ ∧ post r)) args s 0 0 (FR_ G)) BN_ 2 0 [(0, rv_ x0), (1, .int x1)] [] σ := by
  have ⟨X, hlk, hr, hRf, hRl, hRc, hnm⟩ := Y
  have ⟨⟨hx, hb, _, hown, hts⟩, _, _⟩ := X
  intro H locs cells slots ls hP hL hB hl
  obtain ⟨rfl, rfl⟩ := hB
  unfold wJ2_get at hf
  refine lv_iload_n hx hb dJ2_get_0 rfl (lv_at hl 1 rfl) ?_
  refine p_aload_n hx hb dJ2_get_1 rfl (lv_at hl 0 rfl) ?_
  obtain ⟨ht1, hf⟩ := hf
  refine p_gI X cf10_ (k := 2) (by decide) rfl hP ht1 q162 (fun _ h => h) dJ2_get_2 ?_
  refine p_calli hL (p_runS X hP (metJ12_checkIndex l G _ _ _ _ X.2.2 hf) (va_cwS 2 hts (lw_S q727 q728 q107 q729) rfl rfl rfl (by decide +kernel) ⟨Nat.le_trans (Nat.le_of_ble_eq_true rfl) hRf, Nat.le_trans (Nat.le_of_ble_eq_true rfl) hRl⟩) rfl hl.1 rfl (by decide) dJ2_get_5 ⟨Nat.zero_le _, Nat.zero_le _⟩) (fun r2 σ₁ H locs hf hP hL => ?_)
  obtain ⟨e₁, hf⟩ := hf
  rw [e₁] at hP
  refine lv_pop hx hb dJ2_get_8 rfl ?_
  refine p_aload_n hx hb dJ2_get_9 rfl (lv_at hl 0 rfl) ?_
  refine lv_iload_n hx hb dJ2_get_10 rfl (lv_at hl 1 rfl) ?_
  refine p_callr hL (p_runV X cf10_ hP ht1 (metJ2_elementData l G _ _ _ _ X.2.2 hf) (cwV 1 hts (lw_V q731 q732 q733 q90 q734) rfl rfl rfl (by decide +kernel) ⟨Nat.le_trans (Nat.le_of_ble_eq_true rfl) hRf, Nat.le_trans (Nat.le_of_ble_eq_true rfl) hRl⟩) rfl hl.1 rfl (by decide) dJ2_get_11 ⟨Nat.zero_le _, Nat.zero_le _⟩) (fun r3 σ₁ H locs hf hP hL => ?_)
  obtain ⟨e₁, hf⟩ := hf
  rw [e₁] at hP
  exact p_aret X hlk hP hL (Nat.le_refl _) (Nat.le_refl _) hr (Or.inl ⟨_, rfl⟩) dJ2_get_14 ⟨rfl, hf⟩
set_option maxHeartbeats 4000000 in
theorem metJ2_get (l : Launch) (G : GG_) (x0 : Nat) (x1 : Int32) (σ : Hp) (post : Nat → Prop) (hG : GOK_ G) (hf : wJ2_get x0 x1 σ post) : Met l yJ2_get (ws_ yJ2_get cJ2_get 2 (some ((Jvm.ClassFile.FieldType.object "java/lang/Object")))) { frames := 3, cells := 0, slots := 0, locals := 63 } (PC_ G [rv_ x0, .int x1] σ) (QR_ G (fun r τ => τ = σ ∧ post r)) 0 0 (FR_ G) := by
  refine Met.ofW (cc := cJ2_get) (maxL := 2) (ret := (some ((Jvm.ClassFile.FieldType.object "java/lang/Object")))) (by decide) rfl ?_
  intro p e s m args below meth c s₁ B hml hv
  obtain ⟨rfl, hP, hW⟩ := hv
  have hts := atoms_spec (ws := ws_ yJ2_get cJ2_get 2 (some ((Jvm.ClassFile.FieldType.object "java/lang/Object")))) B.pre
  have hts : ∀ w ∈ lw_all, w.before _ s = true := fun w h => hts w (List.mem_cons_of_mem _ h)
  rw [lg_entry_eq]
  have hl := en_entry [rv_ x0, .int x1] [1, 1] (n := 2) (ca_r (ca_i ca_n)) (by decide)
  exact sJ2_get ⟨⟨⟨B.exec, B.bytes, hml, findClass_of_methodNamed B.named, hts⟩, hW, hG⟩, B.notSynchronized, B.returns, Nat.le_refl _, Nat.le_refl _, ⟨rfl, rfl⟩, (name_of_methodNamed B.named B.method).1⟩ hf _ _ _ _ _ hP (LO_nil G) ⟨rfl, rfl⟩ hl
abbrev cJ2_set : ByteArray := prog_27_method_23_code
def yJ2_set : MethodName := ⟨RJ2, "set", "(ILjava/lang/Object;)Ljava/lang/Object;"⟩
theorem dJ2_set_0 : decode cJ2_set 0 = .ok (.iload_n 1, 1) := by decide +kernel
theorem dJ2_set_1 : decode cJ2_set 1 = .ok (.aload_n 0, 1) := by decide +kernel
theorem dJ2_set_2 : decode cJ2_set 2 = .ok (.getfield 48, 3) := by decide +kernel
theorem dJ2_set_5 : decode cJ2_set 5 = .ok (.invokestatic 118, 3) := by decide +kernel
theorem dJ2_set_8 : decode cJ2_set 8 = .ok (.pop, 1) := by decide +kernel
theorem dJ2_set_9 : decode cJ2_set 9 = .ok (.aload_n 0, 1) := by decide +kernel
theorem dJ2_set_10 : decode cJ2_set 10 = .ok (.iload_n 1, 1) := by decide +kernel
theorem dJ2_set_11 : decode cJ2_set 11 = .ok (.invokevirtual 123, 3) := by decide +kernel
theorem dJ2_set_14 : decode cJ2_set 14 = .ok (.astore_n 3, 1) := by decide +kernel
theorem dJ2_set_15 : decode cJ2_set 15 = .ok (.aload_n 0, 1) := by decide +kernel
theorem dJ2_set_16 : decode cJ2_set 16 = .ok (.getfield 9, 3) := by decide +kernel
theorem dJ2_set_19 : decode cJ2_set 19 = .ok (.iload_n 1, 1) := by decide +kernel
theorem dJ2_set_20 : decode cJ2_set 20 = .ok (.aload_n 2, 1) := by decide +kernel
theorem dJ2_set_21 : decode cJ2_set 21 = .ok (.aastore, 1) := by decide +kernel
theorem dJ2_set_22 : decode cJ2_set 22 = .ok (.aload_n 3, 1) := by decide +kernel
theorem dJ2_set_23 : decode cJ2_set 23 = .ok (.areturn, 1) := by decide +kernel
/-- java/util/ArrayList.set(ILjava/lang/Object;)Ljava/lang/Object; -/
def wJ2_set (x0 : Nat) (x1 : Int32) (x2 : Nat) (σ : Hp) (post : Nat → Hp → Prop) : Prop :=
(tg_ σ x0 = 11 ∧ (wJ12_checkIndex x1 (fI_ σ 10 2 x0) σ (fun r2 => (wJ2_elementData x0 x1 σ (fun r3 => (tg_ σ (fR_ σ 10 1 x0) = 104 ∧ (lo_ σ < (fR_ σ 10 1 x0) ∧ (vp_in x1 (ln_ σ (fR_ σ 10 1 x0)) ∧ (st_ σ 104 x2 ∧ (∀ σ8, σ8 = wR_ σ (fR_ σ 10 1 x0) (x1).toNatClampNeg x2 → post r3 σ8))))))))))
set_option maxHeartbeats 4000000 in
theorem sJ2_set {G : GG_} {p : Program} {l : Launch} {e : Env} {R : Room} {s : State} {m : MethodId} {args : Array Value} {below : List Frame} {meth : Method} {c : Code} (Y : MX_ G p R s m args meth c cJ2_set 4 RJ2 (some ((Jvm.ClassFile.FieldType.object "java/lang/Object"))) 3 63 0 0 "set") {post : Nat → Hp → Prop} {x0 : Nat} {x1 : Int32} {x2 : Nat} {σ : Hp} (hf : wJ2_set x0 x1 x2 σ post) : WG_ G p l e R s m args below meth c (MQ below (QR_ G post) args s 0 0 (FR_ G)) BN_ 4 0 [(0, rv_ x0), (1, .int x1), (2, rv_ x2)] [] σ := by
  have ⟨X, hlk, hr, hRf, hRl, hRc, hnm⟩ := Y
  have ⟨⟨hx, hb, _, hown, hts⟩, _, _⟩ := X
  intro H locs cells slots ls hP hL hB hl
  obtain ⟨rfl, rfl⟩ := hB
  unfold wJ2_set at hf
  refine lv_iload_n hx hb dJ2_set_0 rfl (lv_at hl 1 rfl) ?_
  refine p_aload_n hx hb dJ2_set_1 rfl (lv_at hl 0 rfl) ?_
  obtain ⟨ht1, hf⟩ := hf
  refine p_gI X cf10_ (k := 2) (by decide) rfl hP ht1 q162 (fun _ h => h) dJ2_set_2 ?_
  refine p_calli hL (p_runS X hP (metJ12_checkIndex l G _ _ _ _ X.2.2 hf) (va_cwS 2 hts (lw_S q727 q728 q107 q729) rfl rfl rfl (by decide +kernel) ⟨Nat.le_trans (Nat.le_of_ble_eq_true rfl) hRf, Nat.le_trans (Nat.le_of_ble_eq_true rfl) hRl⟩) rfl hl.1 rfl (by decide) dJ2_set_5 ⟨Nat.zero_le _, Nat.zero_le _⟩) (fun r2 σ₁ H locs hf hP hL => ?_)
  obtain ⟨e₁, hf⟩ := hf
  rw [e₁] at hP
  refine lv_pop hx hb dJ2_set_8 rfl ?_
  refine p_aload_n hx hb dJ2_set_9 rfl (lv_at hl 0 rfl) ?_
  refine lv_iload_n hx hb dJ2_set_10 rfl (lv_at hl 1 rfl) ?_
  refine p_callr hL (p_runV X cf10_ hP ht1 (metJ2_elementData l G _ _ _ _ X.2.2 hf) (cwV 1 hts (lw_V q731 q732 q733 q90 q734) rfl rfl rfl (by decide +kernel) ⟨Nat.le_trans (Nat.le_of_ble_eq_true rfl) hRf, Nat.le_trans (Nat.le_of_ble_eq_true rfl) hRl⟩) rfl hl.1 rfl (by decide) dJ2_set_11 ⟨Nat.zero_le _, Nat.zero_le _⟩) (fun r3 σ₁ H locs hf hP hL => ?_)
  obtain ⟨e₁, hf⟩ := hf
  rw [e₁] at hP
  refine p_astore_n (i := 3) hx hb dJ2_set_14 rfl hl (by decide) ⟨⟨ne_ rfl, Or.inl (ne_ rfl)⟩, ⟨⟨ne_ rfl, Or.inl (ne_ rfl)⟩, ⟨⟨ne_ rfl, Or.inr (rv_cat _)⟩, trivial⟩⟩⟩ (fun ls hl => ?_)
  refine p_aload_n hx hb dJ2_set_15 rfl (lv_at hl 1 rfl) ?_
  refine p_gR X cf10_ (k := 1) (by decide) rfl hP ht1 q161 (fun _ h => h) dJ2_set_16 ?_
  refine lv_iload_n hx hb dJ2_set_19 rfl (lv_at hl 2 rfl) ?_
  refine p_aload_n hx hb dJ2_set_20 rfl (lv_at hl 3 rfl) ?_
  obtain ⟨ht4, hf⟩ := hf
  obtain ⟨hlo5, hf⟩ := hf
  obtain ⟨hi6, hf⟩ := hf
  obtain ⟨hv7, hf⟩ := hf
  refine p_aast X hP hL ht4 (by decide) (by decide) hlo5 hi6 hv7 dJ2_set_21 (fun H locs hP hL => ?_)
  refine p_nmP hP (fun σ8 hσ8 hP => ?_)
  have hf := hf σ8 hσ8
  have ht1 : tg_ σ8 x0 = 11 := by rw [hσ8]; exact ht1
  refine p_aload_n hx hb dJ2_set_22 rfl (lv_at hl 0 rfl) ?_
  exact p_aret X hlk hP hL (Nat.le_refl _) (Nat.le_refl _) hr (Or.inl ⟨_, rfl⟩) dJ2_set_23 hf
set_option maxHeartbeats 4000000 in
theorem metJ2_set (l : Launch) (G : GG_) (x0 : Nat) (x1 : Int32) (x2 : Nat) (σ : Hp) (post : Nat → Hp → Prop) (hG : GOK_ G) (hf : wJ2_set x0 x1 x2 σ post) : Met l yJ2_set (ws_ yJ2_set cJ2_set 4 (some ((Jvm.ClassFile.FieldType.object "java/lang/Object")))) { frames := 3, cells := 0, slots := 0, locals := 63 } (PC_ G [rv_ x0, .int x1, rv_ x2] σ) (QR_ G post) 0 0 (FR_ G) := by
  refine Met.ofW (cc := cJ2_set) (maxL := 4) (ret := (some ((Jvm.ClassFile.FieldType.object "java/lang/Object")))) (by decide) rfl ?_
  intro p e s m args below meth c s₁ B hml hv
  obtain ⟨rfl, hP, hW⟩ := hv
  have hts := atoms_spec (ws := ws_ yJ2_set cJ2_set 4 (some ((Jvm.ClassFile.FieldType.object "java/lang/Object")))) B.pre
  have hts : ∀ w ∈ lw_all, w.before _ s = true := fun w h => hts w (List.mem_cons_of_mem _ h)
  rw [lg_entry_eq]
  have hl := en_entry [rv_ x0, .int x1, rv_ x2] [1, 1, 1] (n := 4) (ca_r (ca_i (ca_r ca_n))) (by decide)
  exact sJ2_set ⟨⟨⟨B.exec, B.bytes, hml, findClass_of_methodNamed B.named, hts⟩, hW, hG⟩, B.notSynchronized, B.returns, Nat.le_refl _, Nat.le_refl _, ⟨rfl, rfl⟩, (name_of_methodNamed B.named B.method).1⟩ hf _ _ _ _ _ hP (LO_nil G) ⟨rfl, rfl⟩ hl
abbrev cJ2_size : ByteArray := prog_27_method_8_code
def yJ2_size : MethodName := ⟨RJ2, "size", "()I"⟩
theorem dJ2_size_0 : decode cJ2_size 0 = .ok (.aload_n 0, 1) := by decide +kernel
theorem dJ2_size_1 : decode cJ2_size 1 = .ok (.getfield 48, 3) := by decide +kernel
theorem dJ2_size_4 : decode cJ2_size 4 = .ok (.ireturn, 1) := by decide +kernel
/-- java/util/ArrayList.size()I -/
def wJ2_size (x0 : Nat) (σ : Hp) (post : Int32 → Prop) : Prop :=
(tg_ σ x0 = 11 ∧ post (fI_ σ 10 2 x0))
set_option maxHeartbeats 4000000 in
theorem sJ2_size {G : GG_} {p : Program} {l : Launch} {e : Env} {R : Room} {s : State} {m : MethodId} {args : Array Value} {below : List Frame} {meth : Method} {c : Code} (Y : MX_ G p R s m args meth c cJ2_size 1 RJ2 (some Jvm.ClassFile.FieldType.int) 1 20 0 0 "size") {post : Int32 → Prop} {x0 : Nat} {σ : Hp} (hf : wJ2_size x0 σ post) : WG_ G p l e R s m args below meth c (MQ below (QI_ G (fun r τ => τ = σ ∧ post r)) args s 0 0 (FR_ G)) BN_ 1 0 [(0, rv_ x0)] [] σ := by
  have ⟨X, hlk, hr, hRf, hRl, hRc, hnm⟩ := Y
  have ⟨⟨hx, hb, _, hown, hts⟩, _, _⟩ := X
  intro H locs cells slots ls hP hL hB hl
  obtain ⟨rfl, rfl⟩ := hB
  unfold wJ2_size at hf
  refine p_aload_n hx hb dJ2_size_0 rfl (lv_at hl 0 rfl) ?_
  obtain ⟨ht1, hf⟩ := hf
  refine p_gI X cf10_ (k := 2) (by decide) rfl hP ht1 q162 (fun _ h => h) dJ2_size_1 ?_
  exact p_iret X hlk hP hL (Nat.le_refl _) (Nat.le_refl _) hr dJ2_size_4 ⟨rfl, hf⟩
set_option maxHeartbeats 4000000 in
theorem metJ2_size (l : Launch) (G : GG_) (x0 : Nat) (σ : Hp) (post : Int32 → Prop) (hG : GOK_ G) (hf : wJ2_size x0 σ post) : Met l yJ2_size (ws_ yJ2_size cJ2_size 1 (some Jvm.ClassFile.FieldType.int)) { frames := 1, cells := 0, slots := 0, locals := 20 } (PC_ G [rv_ x0] σ) (QI_ G (fun r τ => τ = σ ∧ post r)) 0 0 (FR_ G) := by
  refine Met.ofW (cc := cJ2_size) (maxL := 1) (ret := (some Jvm.ClassFile.FieldType.int)) (by decide) rfl ?_
  intro p e s m args below meth c s₁ B hml hv
  obtain ⟨rfl, hP, hW⟩ := hv
  have hts := atoms_spec (ws := ws_ yJ2_size cJ2_size 1 (some Jvm.ClassFile.FieldType.int)) B.pre
  have hts : ∀ w ∈ lw_all, w.before _ s = true := fun w h => hts w (List.mem_cons_of_mem _ h)
  rw [lg_entry_eq]
  have hl := en_entry [rv_ x0] [1] (n := 1) (ca_r ca_n) (by decide)
  exact sJ2_size ⟨⟨⟨B.exec, B.bytes, hml, findClass_of_methodNamed B.named, hts⟩, hW, hG⟩, B.notSynchronized, B.returns, Nat.le_refl _, Nat.le_refl _, ⟨rfl, rfl⟩, (name_of_methodNamed B.named B.method).1⟩ hf _ _ _ _ _ hP (LO_nil G) ⟨rfl, rfl⟩ hl
abbrev cJ2_clear : ByteArray := prog_27_method_40_code
def yJ2_clear : MethodName := ⟨RJ2, "clear", "()V"⟩
theorem dJ2_clear_0 : decode cJ2_clear 0 = .ok (.aload_n 0, 1) := by decide +kernel
theorem dJ2_clear_1 : decode cJ2_clear 1 = .ok (.dup, 1) := by decide +kernel
theorem dJ2_clear_2 : decode cJ2_clear 2 = .ok (.getfield 63, 3) := by decide +kernel
theorem dJ2_clear_5 : decode cJ2_clear 5 = .ok (.iconst 1, 1) := by decide +kernel
theorem dJ2_clear_6 : decode cJ2_clear 6 = .ok (.iadd, 1) := by decide +kernel
theorem dJ2_clear_7 : decode cJ2_clear 7 = .ok (.putfield 63, 3) := by decide +kernel
theorem dJ2_clear_10 : decode cJ2_clear 10 = .ok (.aload_n 0, 1) := by decide +kernel
theorem dJ2_clear_11 : decode cJ2_clear 11 = .ok (.getfield 9, 3) := by decide +kernel
theorem dJ2_clear_14 : decode cJ2_clear 14 = .ok (.astore_n 1, 1) := by decide +kernel
theorem dJ2_clear_15 : decode cJ2_clear 15 = .ok (.aload_n 0, 1) := by decide +kernel
theorem dJ2_clear_16 : decode cJ2_clear 16 = .ok (.getfield 48, 3) := by decide +kernel
theorem dJ2_clear_19 : decode cJ2_clear 19 = .ok (.istore_n 2, 1) := by decide +kernel
theorem dJ2_clear_20 : decode cJ2_clear 20 = .ok (.aload_n 0, 1) := by decide +kernel
theorem dJ2_clear_21 : decode cJ2_clear 21 = .ok (.iconst 0, 1) := by decide +kernel
theorem dJ2_clear_22 : decode cJ2_clear 22 = .ok (.dup_x1, 1) := by decide +kernel
theorem dJ2_clear_23 : decode cJ2_clear 23 = .ok (.putfield 48, 3) := by decide +kernel
theorem dJ2_clear_26 : decode cJ2_clear 26 = .ok (.istore_n 3, 1) := by decide +kernel
theorem dJ2_clear_27 : decode cJ2_clear 27 = .ok (.iload_n 3, 1) := by decide +kernel
theorem dJ2_clear_28 : decode cJ2_clear 28 = .ok (.iload_n 2, 1) := by decide +kernel
theorem dJ2_clear_29 : decode cJ2_clear 29 = .ok (.if_icmp .ge 13, 3) := by decide +kernel
theorem dJ2_clear_32 : decode cJ2_clear 32 = .ok (.aload_n 1, 1) := by decide +kernel
theorem dJ2_clear_33 : decode cJ2_clear 33 = .ok (.iload_n 3, 1) := by decide +kernel
theorem dJ2_clear_34 : decode cJ2_clear 34 = .ok (.aconst_null, 1) := by decide +kernel
theorem dJ2_clear_35 : decode cJ2_clear 35 = .ok (.aastore, 1) := by decide +kernel
theorem dJ2_clear_36 : decode cJ2_clear 36 = .ok (.iinc 3 1, 3) := by decide +kernel
theorem dJ2_clear_39 : decode cJ2_clear 39 = .ok (.goto (-12), 3) := by decide +kernel
theorem dJ2_clear_42 : decode cJ2_clear 42 = .ok (.return_, 1) := by decide +kernel
/-- java/util/ArrayList.clear()V -/
def wJ2_clear_B27 (post : Hp → Prop) (rc27 : Int32 → Hp → Prop) (x1 : Nat) (x2 : Int32) (x3 : Int32) (σ : Hp) : Prop :=
((x2 ≤ x3 →
  post σ) ∧
 (¬ x2 ≤ x3 →
  (tg_ σ x1 = 104 ∧ (lo_ σ < x1 ∧ (vp_in x3 (ln_ σ x1) ∧ (st_ σ 104 0 ∧ (∀ σ6, σ6 = wR_ σ x1 (x3).toNatClampNeg 0 → (∀ y7 : Int32, y7 = x3 + 1 → rc27 y7 σ6))))))))
def wJ2_clear_L27 (post : Hp → Prop) (x1 : Nat) (x2 : Int32) (x3 : Int32) (σ : Hp) : Prop :=
 ∃ (I : Int32 → Hp → Prop) (μ : Int32 → Hp → Nat), I x3 σ ∧ ∀ (x3 : Int32) (σ : Hp), I x3 σ → wJ2_clear_B27 post (fun x3' σ' => I x3' σ' ∧ μ x3' σ' < μ x3 σ) x1 x2 x3 σ
def wJ2_clear (x0 : Nat) (σ : Hp) (post : Hp → Prop) : Prop :=
(tg_ σ x0 = 11 ∧ (∀ σ9, σ9 = sI_ σ 10 0 x0 ((fI_ σ 10 0 x0) + (1 : Int32)) → (∀ y10 : Nat, y10 = (fR_ σ9 10 1 x0) → (∀ y11 : Int32, y11 = (fI_ σ9 10 2 x0) → (∀ σ12, σ12 = sI_ σ9 10 2 x0 (0 : Int32) → wJ2_clear_L27 post y10 y11 (0 : Int32) σ12)))))
set_option maxHeartbeats 4000000 in
theorem sJ2_clear_B27 {G : GG_} {p : Program} {l : Launch} {e : Env} {R : Room} {s : State} {m : MethodId} {args : Array Value} {below : List Frame} {meth : Method} {c : Code} (Y : MX_ G p R s m args meth c cJ2_clear 4 RJ2 none 1 20 0 0 "clear") {post : Hp → Prop} {rc27 : Int32 → Hp → Prop} {x1 : Nat} {x2 : Int32} {x3 : Int32} {σ : Hp} (hrc27 : ∀ (x3 : Int32) (σ : Hp), rc27 x3 σ → WG_ G p l e R s m args below meth c (MQ below (QV_ G post) args s 0 0 (FR_ G)) BN_ 4 27 [(1, rv_ x1), (2, .int x2), (3, .int x3)] [] σ) (hf : wJ2_clear_B27 post rc27 x1 x2 x3 σ) : WG_ G p l e R s m args below meth c (MQ below (QV_ G post) args s 0 0 (FR_ G)) BN_ 4 27 [(1, rv_ x1), (2, .int x2), (3, .int x3)] [] σ := by
  have ⟨X, hlk, hr, hRf, hRl, hRc, hnm⟩ := Y
  have ⟨⟨hx, hb, _, hown, hts⟩, _, _⟩ := X
  intro H locs cells slots ls hP hL hB hl
  obtain ⟨rfl, rfl⟩ := hB
  unfold wJ2_clear_B27 at hf
  refine lv_iload_n hx hb dJ2_clear_27 rfl (lv_at hl 2 rfl) ?_
  refine lv_iload_n hx hb dJ2_clear_28 rfl (lv_at hl 1 rfl) ?_
  refine lv_icmp_ge (tgt := 42) hx hb dJ2_clear_29 (by decide) (fun c1 => ?_) (fun c1 => ?_)
  · have hf := hf.1 c1
    exact p_vret X hlk hP hL (Nat.le_refl _) (Nat.le_refl _) hr dJ2_clear_42 hf
  · have hf := hf.2 c1
    refine p_aload_n hx hb dJ2_clear_32 rfl (lv_at hl 0 rfl) ?_
    refine lv_iload_n hx hb dJ2_clear_33 rfl (lv_at hl 2 rfl) ?_
    refine p_null hx hb dJ2_clear_34 ?_
    obtain ⟨ht2, hf⟩ := hf
    obtain ⟨hlo3, hf⟩ := hf
    obtain ⟨hi4, hf⟩ := hf
    obtain ⟨hv5, hf⟩ := hf
    refine p_aast X hP hL ht2 (by decide) (by decide) hlo3 hi4 hv5 dJ2_clear_35 (fun H locs hP hL => ?_)
    refine p_nmP hP (fun σ6 hσ6 hP => ?_)
    have hf := hf σ6 hσ6
    have ht2 : tg_ σ6 x1 = 104 := by rw [hσ6]; exact ht2
    have hl := lv_sub hl [2, 0, 1] rfl
    refine p_iincc (i := 3) (k := 1) hx hb (by decide) dJ2_clear_36 hl (by decide) ⟨⟨ne_ rfl, Or.inl (ne_ rfl)⟩, ⟨⟨ne_ rfl, Or.inr rfl⟩, trivial⟩⟩ (fun y7 hy7 ls hl => ?_)
    have hf := hf y7 hy7
    refine lv_goto (tgt := 27) hx hb dJ2_clear_39 (by decide) ?_
    exact hrc27 _ _ hf _ _ _ _ _ hP hL ⟨rfl, rfl⟩ (lv_sub hl [1, 2, 0] rfl)
set_option maxHeartbeats 4000000 in
theorem sJ2_clear_L27 {G : GG_} {p : Program} {l : Launch} {e : Env} {R : Room} {s : State} {m : MethodId} {args : Array Value} {below : List Frame} {meth : Method} {c : Code} (Y : MX_ G p R s m args meth c cJ2_clear 4 RJ2 none 1 20 0 0 "clear") {post : Hp → Prop} {x1 : Nat} {x2 : Int32} {x3 : Int32} {σ : Hp} (hf : wJ2_clear_L27 post x1 x2 x3 σ) : WG_ G p l e R s m args below meth c (MQ below (QV_ G post) args s 0 0 (FR_ G)) BN_ 4 27 [(1, rv_ x1), (2, .int x2), (3, .int x3)] [] σ := by
  unfold wJ2_clear_L27 at hf
  obtain ⟨I, μ, h0, hI⟩ := hf
  have key : ∀ (n : Nat) (x3 : Int32) (σ : Hp), I x3 σ → μ x3 σ < n → WG_ G p l e R s m args below meth c (MQ below (QV_ G post) args s 0 0 (FR_ G)) BN_ 4 27 [(1, rv_ x1), (2, .int x2), (3, .int x3)] [] σ := by
    intro n
    induction n with
    | zero => intro x3 σ _ h; exact absurd h (Nat.not_lt_zero _)
    | succ n ih => intro x3 σ hi hn; exact sJ2_clear_B27 Y (fun x3' σ' h => ih x3' σ' h.1 (Nat.lt_of_lt_of_le h.2 (Nat.le_of_lt_succ hn))) (hI x3 σ hi)
  exact key _ _ _ h0 (Nat.lt_succ_self _)
set_option maxHeartbeats 4000000 in
theorem sJ2_clear {G : GG_} {p : Program} {l : Launch} {e : Env} {R : Room} {s : State} {m : MethodId} {args : Array Value} {below : List Frame} {meth : Method} {c : Code} (Y : MX_ G p R s m args meth c cJ2_clear 4 RJ2 none 1 20 0 0 "clear") {post : Hp → Prop} {x0 : Nat} {σ : Hp} (hf : wJ2_clear x0 σ post) : WG_ G p l e R s m args below meth c (MQ below (QV_ G post) args s 0 0 (FR_ G)) BN_ 4 0 [(0, rv_ x0)] [] σ := by
  have ⟨X, hlk, hr, hRf, hRl, hRc, hnm⟩ := Y
  have ⟨⟨hx, hb, _, hown, hts⟩, _, _⟩ := X
  intro H locs cells slots ls hP hL hB hl
  obtain ⟨rfl, rfl⟩ := hB
  unfold wJ2_clear at hf
  refine p_aload_n hx hb dJ2_clear_0 rfl (lv_at hl 0 rfl) ?_
  refine lv_dup hx hb dJ2_clear_1 (rv_cat _) ?_
  obtain ⟨ht8, hf⟩ := hf
  refine p_gI X cf10_ (k := 0) (by decide) rfl hP ht8 q164 (u_same (hts _ q165)) dJ2_clear_2 ?_
  refine lv_iconst (v := 1) hx hb dJ2_clear_5 (by decide) ?_
  refine lv_iadd hx hb dJ2_clear_6 ?_
  refine p_pI X cf10_ (k := 0) (by decide) rfl hP hL ht8 (p_ow hP ht8 rfl) q164 (u_same (hts _ q165)) (Or.inl rfl) rfl rfl dJ2_clear_7 (fun H locs hP hL => ?_)
  refine p_nmP hP (fun σ9 hσ9 hP => ?_)
  have hf := hf σ9 hσ9
  have ht8 : tg_ σ9 x0 = 11 := by rw [hσ9]; exact ht8
  refine p_aload_n hx hb dJ2_clear_10 rfl (lv_at hl 0 rfl) ?_
  refine p_gR X cf10_ (k := 1) (by decide) rfl hP ht8 q161 (fun _ h => h) dJ2_clear_11 ?_
  refine p_topr (fun y10 hy10 => ?_)
  have hf := hf y10 hy10
  refine p_astore_n (i := 1) hx hb dJ2_clear_14 rfl hl (by decide) ⟨⟨ne_ rfl, Or.inr (rv_cat _)⟩, trivial⟩ (fun ls hl => ?_)
  refine p_aload_n hx hb dJ2_clear_15 rfl (lv_at hl 1 rfl) ?_
  refine p_gI X cf10_ (k := 2) (by decide) rfl hP ht8 q162 (fun _ h => h) dJ2_clear_16 ?_
  refine lv_topi (fun y11 hy11 => ?_)
  have hf := hf y11 hy11
  refine p_istore_n (i := 2) hx hb dJ2_clear_19 rfl hl (by decide) ⟨⟨ne_ rfl, Or.inr (rv_cat _)⟩, ⟨⟨ne_ rfl, Or.inl (ne_ rfl)⟩, trivial⟩⟩ (fun ls hl => ?_)
  refine p_aload_n hx hb dJ2_clear_20 rfl (lv_at hl 2 rfl) ?_
  refine lv_iconst (v := 0) hx hb dJ2_clear_21 (by decide) ?_
  refine lv_dup_x1 hx hb dJ2_clear_22 rfl (rv_cat _) ?_
  refine p_pI X cf10_ (k := 2) (by decide) rfl hP hL ht8 (p_ow hP ht8 rfl) q162 (fun _ h => h) (Or.inl rfl) rfl rfl dJ2_clear_23 (fun H locs hP hL => ?_)
  refine p_nmP hP (fun σ12 hσ12 hP => ?_)
  have hf := hf σ12 hσ12
  have ht8 : tg_ σ12 x0 = 11 := by rw [hσ12]; exact ht8
  have hl := lv_sub hl [0, 1] rfl
  refine p_istore_n (i := 3) hx hb dJ2_clear_26 rfl hl (by decide) ⟨⟨ne_ rfl, Or.inr rfl⟩, ⟨⟨ne_ rfl, Or.inl (ne_ rfl)⟩, trivial⟩⟩ (fun ls hl => ?_)
  exact sJ2_clear_L27 Y hf _ _ _ _ _ hP hL ⟨rfl, rfl⟩ (lv_sub hl [2, 1, 0] rfl)
set_option maxHeartbeats 4000000 in
theorem metJ2_clear (l : Launch) (G : GG_) (x0 : Nat) (σ : Hp) (post : Hp → Prop) (hG : GOK_ G) (hf : wJ2_clear x0 σ post) : Met l yJ2_clear (ws_ yJ2_clear cJ2_clear 4 none) { frames := 1, cells := 0, slots := 0, locals := 20 } (PC_ G [rv_ x0] σ) (QV_ G post) 0 0 (FR_ G) := by
  refine Met.ofW (cc := cJ2_clear) (maxL := 4) (ret := none) (by decide) rfl ?_
  intro p e s m args below meth c s₁ B hml hv
  obtain ⟨rfl, hP, hW⟩ := hv
  have hts := atoms_spec (ws := ws_ yJ2_clear cJ2_clear 4 none) B.pre
  have hts : ∀ w ∈ lw_all, w.before _ s = true := fun w h => hts w (List.mem_cons_of_mem _ h)
  rw [lg_entry_eq]
  have hl := en_entry [rv_ x0] [1] (n := 4) (ca_r ca_n) (by decide)
  exact sJ2_clear ⟨⟨⟨B.exec, B.bytes, hml, findClass_of_methodNamed B.named, hts⟩, hW, hG⟩, B.notSynchronized, B.returns, Nat.le_refl _, Nat.le_refl _, ⟨rfl, rfl⟩, (name_of_methodNamed B.named B.method).1⟩ hf _ _ _ _ _ hP (LO_nil G) ⟨rfl, rfl⟩ hl
abbrev cJ2_fastRemove : ByteArray := prog_27_method_39_code
def yJ2_fastRemove : MethodName := ⟨RJ2, "fastRemove", "([Ljava/lang/Object;I)V"⟩
theorem dJ2_fastRemove_0 : decode cJ2_fastRemove 0 = .ok (.aload_n 0, 1) := by decide +kernel
theorem dJ2_fastRemove_1 : decode cJ2_fastRemove 1 = .ok (.dup, 1) := by decide +kernel
theorem dJ2_fastRemove_2 : decode cJ2_fastRemove 2 = .ok (.getfield 63, 3) := by decide +kernel
theorem dJ2_fastRemove_5 : decode cJ2_fastRemove 5 = .ok (.iconst 1, 1) := by decide +kernel
theorem dJ2_fastRemove_6 : decode cJ2_fastRemove 6 = .ok (.iadd, 1) := by decide +kernel
theorem dJ2_fastRemove_7 : decode cJ2_fastRemove 7 = .ok (.putfield 63, 3) := by decide +kernel
theorem dJ2_fastRemove_10 : decode cJ2_fastRemove 10 = .ok (.aload_n 0, 1) := by decide +kernel
theorem dJ2_fastRemove_11 : decode cJ2_fastRemove 11 = .ok (.getfield 48, 3) := by decide +kernel
theorem dJ2_fastRemove_14 : decode cJ2_fastRemove 14 = .ok (.iconst 1, 1) := by decide +kernel
theorem dJ2_fastRemove_15 : decode cJ2_fastRemove 15 = .ok (.isub, 1) := by decide +kernel
theorem dJ2_fastRemove_16 : decode cJ2_fastRemove 16 = .ok (.dup, 1) := by decide +kernel
theorem dJ2_fastRemove_17 : decode cJ2_fastRemove 17 = .ok (.istore_n 3, 1) := by decide +kernel
theorem dJ2_fastRemove_18 : decode cJ2_fastRemove 18 = .ok (.iload_n 2, 1) := by decide +kernel
theorem dJ2_fastRemove_19 : decode cJ2_fastRemove 19 = .ok (.if_icmp .le 15, 3) := by decide +kernel
theorem dJ2_fastRemove_22 : decode cJ2_fastRemove 22 = .ok (.aload_n 1, 1) := by decide +kernel
theorem dJ2_fastRemove_23 : decode cJ2_fastRemove 23 = .ok (.iload_n 2, 1) := by decide +kernel
theorem dJ2_fastRemove_24 : decode cJ2_fastRemove 24 = .ok (.iconst 1, 1) := by decide +kernel
theorem dJ2_fastRemove_25 : decode cJ2_fastRemove 25 = .ok (.iadd, 1) := by decide +kernel
theorem dJ2_fastRemove_26 : decode cJ2_fastRemove 26 = .ok (.aload_n 1, 1) := by decide +kernel
theorem dJ2_fastRemove_27 : decode cJ2_fastRemove 27 = .ok (.iload_n 2, 1) := by decide +kernel
theorem dJ2_fastRemove_28 : decode cJ2_fastRemove 28 = .ok (.iload_n 3, 1) := by decide +kernel
theorem dJ2_fastRemove_29 : decode cJ2_fastRemove 29 = .ok (.iload_n 2, 1) := by decide +kernel
theorem dJ2_fastRemove_30 : decode cJ2_fastRemove 30 = .ok (.isub, 1) := by decide +kernel
theorem dJ2_fastRemove_31 : decode cJ2_fastRemove 31 = .ok (.invokestatic 112, 3) := by decide +kernel
theorem dJ2_fastRemove_34 : decode cJ2_fastRemove 34 = .ok (.aload_n 1, 1) := by decide +kernel
theorem dJ2_fastRemove_35 : decode cJ2_fastRemove 35 = .ok (.aload_n 0, 1) := by decide +kernel
theorem dJ2_fastRemove_36 : decode cJ2_fastRemove 36 = .ok (.iload_n 3, 1) := by decide +kernel
theorem dJ2_fastRemove_37 : decode cJ2_fastRemove 37 = .ok (.dup_x1, 1) := by decide +kernel
theorem dJ2_fastRemove_38 : decode cJ2_fastRemove 38 = .ok (.putfield 48, 3) := by decide +kernel
theorem dJ2_fastRemove_41 : decode cJ2_fastRemove 41 = .ok (.aconst_null, 1) := by decide +kernel
theorem dJ2_fastRemove_42 : decode cJ2_fastRemove 42 = .ok (.aastore, 1) := by decide +kernel
theorem dJ2_fastRemove_43 : decode cJ2_fastRemove 43 = .ok (.return_, 1) := by decide +kernel
/-- java/util/ArrayList.fastRemove([Ljava/lang/Object;I)V -/
def wJ2_fastRemove_L34 (post : Hp → Prop) (x0 : Nat) (x1 : Nat) (x3 : Int32) (σ : Hp) : Prop :=
(tg_ σ x0 = 11 ∧ (∀ σ2, σ2 = sI_ σ 10 2 x0 x3 → (tg_ σ2 x1 = 104 ∧ (lo_ σ2 < x1 ∧ (vp_in x3 (ln_ σ2 x1) ∧ (st_ σ2 104 0 ∧ (∀ σ7, σ7 = wR_ σ2 x1 (x3).toNatClampNeg 0 → post σ7)))))))
def wJ2_fastRemove (x0 : Nat) (x1 : Nat) (x2 : Int32) (σ : Hp) (post : Hp → Prop) : Prop :=
(tg_ σ x0 = 11 ∧ (∀ σ9, σ9 = sI_ σ 10 0 x0 ((fI_ σ 10 0 x0) + (1 : Int32)) → (∀ y10 : Int32, y10 = ((fI_ σ9 10 2 x0) - (1 : Int32)) → ((((fI_ σ9 10 2 x0) - (1 : Int32)) ≤ x2 →
  wJ2_fastRemove_L34 post x0 x1 y10 σ9) ∧
 (¬ ((fI_ σ9 10 2 x0) - (1 : Int32)) ≤ x2 →
  (tg_ σ9 x1 = 104 ∧ (lo_ σ9 < x1 ∧ (¬ (x2 + (1 : Int32)) < 0 ∧ (¬ x2 < 0 ∧ (¬ (y10 - x2) < 0 ∧ (((x2 + (1 : Int32))).toNatClampNeg + ((y10 - x2)).toNatClampNeg ≤ ln_ σ9 x1 ∧ ((x2).toNatClampNeg + ((y10 - x2)).toNatClampNeg ≤ ln_ σ9 x1 ∧ ((∀ i, i < ((y10 - x2)).toNatClampNeg → st_ σ9 104 (aR_ σ9 x1 (((x2 + (1 : Int32))).toNatClampNeg + i))) ∧ (∀ σ20, σ20 = cR_ σ9 x1 ((x2 + (1 : Int32))).toNatClampNeg x1 (x2).toNatClampNeg ((y10 - x2)).toNatClampNeg → wJ2_fastRemove_L34 post x0 x1 y10 σ20))))))))))))))
set_option maxHeartbeats 4000000 in
theorem sJ2_fastRemove_L34 {G : GG_} {p : Program} {l : Launch} {e : Env} {R : Room} {s : State} {m : MethodId} {args : Array Value} {below : List Frame} {meth : Method} {c : Code} (Y : MX_ G p R s m args meth c cJ2_fastRemove 4 RJ2 none 1 48 0 0 "fastRemove") {post : Hp → Prop} {x0 : Nat} {x1 : Nat} {x3 : Int32} {σ : Hp} (hf : wJ2_fastRemove_L34 post x0 x1 x3 σ) : WG_ G p l e R s m args below meth c (MQ below (QV_ G post) args s 0 0 (FR_ G)) BN_ 4 34 [(0, rv_ x0), (1, rv_ x1), (3, .int x3)] [] σ := by
  have ⟨X, hlk, hr, hRf, hRl, hRc, hnm⟩ := Y
  have ⟨⟨hx, hb, _, hown, hts⟩, _, _⟩ := X
  intro H locs cells slots ls hP hL hB hl
  obtain ⟨rfl, rfl⟩ := hB
  unfold wJ2_fastRemove_L34 at hf
  refine p_aload_n hx hb dJ2_fastRemove_34 rfl (lv_at hl 1 rfl) ?_
  refine p_aload_n hx hb dJ2_fastRemove_35 rfl (lv_at hl 0 rfl) ?_
  refine lv_iload_n hx hb dJ2_fastRemove_36 rfl (lv_at hl 2 rfl) ?_
  refine lv_dup_x1 hx hb dJ2_fastRemove_37 rfl (rv_cat _) ?_
  obtain ⟨ht1, hf⟩ := hf
  refine p_pI X cf10_ (k := 2) (by decide) rfl hP hL ht1 (p_ow hP ht1 rfl) q162 (fun _ h => h) (Or.inl rfl) rfl rfl dJ2_fastRemove_38 (fun H locs hP hL => ?_)
  refine p_nmP hP (fun σ2 hσ2 hP => ?_)
  have hf := hf σ2 hσ2
  have ht1 : tg_ σ2 x0 = 11 := by rw [hσ2]; exact ht1
  refine p_null hx hb dJ2_fastRemove_41 ?_
  obtain ⟨ht3, hf⟩ := hf
  obtain ⟨hlo4, hf⟩ := hf
  obtain ⟨hi5, hf⟩ := hf
  obtain ⟨hv6, hf⟩ := hf
  refine p_aast X hP hL ht3 (by decide) (by decide) hlo4 hi5 hv6 dJ2_fastRemove_42 (fun H locs hP hL => ?_)
  refine p_nmP hP (fun σ7 hσ7 hP => ?_)
  have hf := hf σ7 hσ7
  have ht1 : tg_ σ7 x0 = 11 := by rw [hσ7]; exact ht1
  have ht3 : tg_ σ7 x1 = 104 := by rw [hσ7]; exact ht3
  exact p_vret X hlk hP hL (Nat.le_refl _) (Nat.le_refl _) hr dJ2_fastRemove_43 hf
set_option maxHeartbeats 4000000 in
theorem sJ2_fastRemove {G : GG_} {p : Program} {l : Launch} {e : Env} {R : Room} {s : State} {m : MethodId} {args : Array Value} {below : List Frame} {meth : Method} {c : Code} (Y : MX_ G p R s m args meth c cJ2_fastRemove 4 RJ2 none 1 48 0 0 "fastRemove") {post : Hp → Prop} {x0 : Nat} {x1 : Nat} {x2 : Int32} {σ : Hp} (hf : wJ2_fastRemove x0 x1 x2 σ post) : WG_ G p l e R s m args below meth c (MQ below (QV_ G post) args s 0 0 (FR_ G)) BN_ 4 0 [(0, rv_ x0), (1, rv_ x1), (2, .int x2)] [] σ := by
  have ⟨X, hlk, hr, hRf, hRl, hRc, hnm⟩ := Y
  have ⟨⟨hx, hb, _, hown, hts⟩, _, _⟩ := X
  intro H locs cells slots ls hP hL hB hl
  obtain ⟨rfl, rfl⟩ := hB
  unfold wJ2_fastRemove at hf
  refine p_aload_n hx hb dJ2_fastRemove_0 rfl (lv_at hl 0 rfl) ?_
  refine lv_dup hx hb dJ2_fastRemove_1 (rv_cat _) ?_
  obtain ⟨ht8, hf⟩ := hf
  refine p_gI X cf10_ (k := 0) (by decide) rfl hP ht8 q164 (u_same (hts _ q165)) dJ2_fastRemove_2 ?_
  refine lv_iconst (v := 1) hx hb dJ2_fastRemove_5 (by decide) ?_
  refine lv_iadd hx hb dJ2_fastRemove_6 ?_
  refine p_pI X cf10_ (k := 0) (by decide) rfl hP hL ht8 (p_ow hP ht8 rfl) q164 (u_same (hts _ q165)) (Or.inl rfl) rfl rfl dJ2_fastRemove_7 (fun H locs hP hL => ?_)
  refine p_nmP hP (fun σ9 hσ9 hP => ?_)
  have hf := hf σ9 hσ9
  have ht8 : tg_ σ9 x0 = 11 := by rw [hσ9]; exact ht8
  refine p_aload_n hx hb dJ2_fastRemove_10 rfl (lv_at hl 0 rfl) ?_
  refine p_gI X cf10_ (k := 2) (by decide) rfl hP ht8 q162 (fun _ h => h) dJ2_fastRemove_11 ?_
  refine lv_iconst (v := 1) hx hb dJ2_fastRemove_14 (by decide) ?_
  refine lv_isub hx hb dJ2_fastRemove_15 ?_
  refine lv_dup hx hb dJ2_fastRemove_16 rfl ?_
  refine lv_topi (fun y10 hy10 => ?_)
  have hf := hf y10 hy10
  refine p_istore_n (i := 3) hx hb dJ2_fastRemove_17 rfl hl (by decide) ⟨⟨ne_ rfl, Or.inl (ne_ rfl)⟩, ⟨⟨ne_ rfl, Or.inl (ne_ rfl)⟩, ⟨⟨ne_ rfl, Or.inr rfl⟩, trivial⟩⟩⟩ (fun ls hl => ?_)
  refine lv_iload_n hx hb dJ2_fastRemove_18 rfl (lv_at hl 3 rfl) ?_
  refine lv_icmp_le (tgt := 34) hx hb dJ2_fastRemove_19 (by decide) (fun c11 => ?_) (fun c11 => ?_)
  · have hf := hf.1 c11
    exact sJ2_fastRemove_L34 Y hf _ _ _ _ _ hP hL ⟨rfl, rfl⟩ (lv_sub hl [1, 2, 0] rfl)
  · have hf := hf.2 c11
    refine p_aload_n hx hb dJ2_fastRemove_22 rfl (lv_at hl 2 rfl) ?_
    refine lv_iload_n hx hb dJ2_fastRemove_23 rfl (lv_at hl 3 rfl) ?_
    refine lv_iconst (v := 1) hx hb dJ2_fastRemove_24 (by decide) ?_
    refine lv_iadd hx hb dJ2_fastRemove_25 ?_
    refine p_aload_n hx hb dJ2_fastRemove_26 rfl (lv_at hl 2 rfl) ?_
    refine lv_iload_n hx hb dJ2_fastRemove_27 rfl (lv_at hl 3 rfl) ?_
    refine lv_iload_n hx hb dJ2_fastRemove_28 rfl (lv_at hl 0 rfl) ?_
    refine lv_iload_n hx hb dJ2_fastRemove_29 rfl (lv_at hl 3 rfl) ?_
    refine lv_isub hx hb dJ2_fastRemove_30 ?_
    obtain ⟨ht12, hf⟩ := hf
    obtain ⟨ha13, hf⟩ := hf
    obtain ⟨ha14, hf⟩ := hf
    obtain ⟨ha15, hf⟩ := hf
    obtain ⟨ha16, hf⟩ := hf
    obtain ⟨ha17, hf⟩ := hf
    obtain ⟨ha18, hf⟩ := hf
    obtain ⟨ha19, hf⟩ := hf
    refine p_acpR X hP hL ht12 ht12 ha13 ha14 ha15 ha16 ha17 ha18 ha19 q785 q299 q298 q101 hl.1 (Nat.le_trans (by decide) hRf) (by decide) (Nat.le_trans (by decide) hRl) dJ2_fastRemove_31 (fun H locs hP hL => ?_)
    refine p_nmP hP (fun σ20 hσ20 hP => ?_)
    have hf := hf σ20 hσ20
    have ht8 : tg_ σ20 x0 = 11 := by rw [hσ20]; exact ht8
    have ht12 : tg_ σ20 x1 = 104 := by rw [hσ20]; exact ht12
    exact sJ2_fastRemove_L34 Y hf _ _ _ _ _ hP hL ⟨rfl, rfl⟩ (lv_sub hl [1, 2, 0] rfl)
set_option maxHeartbeats 4000000 in
theorem metJ2_fastRemove (l : Launch) (G : GG_) (x0 : Nat) (x1 : Nat) (x2 : Int32) (σ : Hp) (post : Hp → Prop) (hG : GOK_ G) (hf : wJ2_fastRemove x0 x1 x2 σ post) : Met l yJ2_fastRemove (ws_ yJ2_fastRemove cJ2_fastRemove 4 none) { frames := 1, cells := 0, slots := 0, locals := 48 } (PC_ G [rv_ x0, rv_ x1, .int x2] σ) (QV_ G post) 0 0 (FR_ G) := by
  refine Met.ofW (cc := cJ2_fastRemove) (maxL := 4) (ret := none) (by decide) rfl ?_
  intro p e s m args below meth c s₁ B hml hv
  obtain ⟨rfl, hP, hW⟩ := hv
  have hts := atoms_spec (ws := ws_ yJ2_fastRemove cJ2_fastRemove 4 none) B.pre
  have hts : ∀ w ∈ lw_all, w.before _ s = true := fun w h => hts w (List.mem_cons_of_mem _ h)
  rw [lg_entry_eq]
  have hl := en_entry [rv_ x0, rv_ x1, .int x2] [1, 1, 1] (n := 4) (ca_r (ca_r (ca_i ca_n))) (by decide)
  exact sJ2_fastRemove ⟨⟨⟨B.exec, B.bytes, hml, findClass_of_methodNamed B.named, hts⟩, hW, hG⟩, B.notSynchronized, B.returns, Nat.le_refl _, Nat.le_refl _, ⟨rfl, rfl⟩, (name_of_methodNamed B.named B.method).1⟩ hf _ _ _ _ _ hP (LO_nil G) ⟨rfl, rfl⟩ hl
abbrev cJ2_remove : ByteArray := prog_27_method_29_code
def yJ2_remove : MethodName := ⟨RJ2, "remove", "(I)Ljava/lang/Object;"⟩
theorem dJ2_remove_0 : decode cJ2_remove 0 = .ok (.iload_n 1, 1) := by decide +kernel
theorem dJ2_remove_1 : decode cJ2_remove 1 = .ok (.aload_n 0, 1) := by decide +kernel
theorem dJ2_remove_2 : decode cJ2_remove 2 = .ok (.getfield 48, 3) := by decide +kernel
theorem dJ2_remove_5 : decode cJ2_remove 5 = .ok (.invokestatic 118, 3) := by decide +kernel
theorem dJ2_remove_8 : decode cJ2_remove 8 = .ok (.pop, 1) := by decide +kernel
theorem dJ2_remove_9 : decode cJ2_remove 9 = .ok (.aload_n 0, 1) := by decide +kernel
theorem dJ2_remove_10 : decode cJ2_remove 10 = .ok (.getfield 9, 3) := by decide +kernel
theorem dJ2_remove_13 : decode cJ2_remove 13 = .ok (.astore_n 2, 1) := by decide +kernel
theorem dJ2_remove_14 : decode cJ2_remove 14 = .ok (.aload_n 2, 1) := by decide +kernel
theorem dJ2_remove_15 : decode cJ2_remove 15 = .ok (.iload_n 1, 1) := by decide +kernel
theorem dJ2_remove_16 : decode cJ2_remove 16 = .ok (.aaload, 1) := by decide +kernel
theorem dJ2_remove_17 : decode cJ2_remove 17 = .ok (.astore_n 3, 1) := by decide +kernel
theorem dJ2_remove_18 : decode cJ2_remove 18 = .ok (.aload_n 0, 1) := by decide +kernel
theorem dJ2_remove_19 : decode cJ2_remove 19 = .ok (.aload_n 2, 1) := by decide +kernel
theorem dJ2_remove_20 : decode cJ2_remove 20 = .ok (.iload_n 1, 1) := by decide +kernel
theorem dJ2_remove_21 : decode cJ2_remove 21 = .ok (.invokevirtual 144, 3) := by decide +kernel
theorem dJ2_remove_24 : decode cJ2_remove 24 = .ok (.aload_n 3, 1) := by decide +kernel
theorem dJ2_remove_25 : decode cJ2_remove 25 = .ok (.areturn, 1) := by decide +kernel
/-- java/util/ArrayList.remove(I)Ljava/lang/Object; -/
def wJ2_remove (x0 : Nat) (x1 : Int32) (σ : Hp) (post : Nat → Hp → Prop) : Prop :=
(tg_ σ x0 = 11 ∧ (wJ12_checkIndex x1 (fI_ σ 10 2 x0) σ (fun r2 => (∀ y3 : Nat, y3 = (fR_ σ 10 1 x0) → (tg_ σ y3 = 104 ∧ (vp_in x1 (ln_ σ y3) ∧ (∀ y6 : Nat, y6 = (aR_ σ y3 (x1).toNatClampNeg) → (wJ2_fastRemove x0 y3 x1 σ (fun σ7 => post y6 σ7)))))))))
set_option maxHeartbeats 4000000 in
theorem sJ2_remove {G : GG_} {p : Program} {l : Launch} {e : Env} {R : Room} {s : State} {m : MethodId} {args : Array Value} {below : List Frame} {meth : Method} {c : Code} (Y : MX_ G p R s m args meth c cJ2_remove 4 RJ2 (some ((Jvm.ClassFile.FieldType.object "java/lang/Object"))) 3 71 0 0 "remove") {post : Nat → Hp → Prop} {x0 : Nat} {x1 : Int32} {σ : Hp} (hf : wJ2_remove x0 x1 σ post) : WG_ G p l e R s m args below meth c (MQ below (QR_ G post) args s 0 0 (FR_ G)) BN_ 4 0 [(0, rv_ x0), (1, .int x1)] [] σ := by
  have ⟨X, hlk, hr, hRf, hRl, hRc, hnm⟩ := Y
  have ⟨⟨hx, hb, _, hown, hts⟩, _, _⟩ := X
  intro H locs cells slots ls hP hL hB hl
  obtain ⟨rfl, rfl⟩ := hB
  unfold wJ2_remove at hf
  refine lv_iload_n hx hb dJ2_remove_0 rfl (lv_at hl 1 rfl) ?_
  refine p_aload_n hx hb dJ2_remove_1 rfl (lv_at hl 0 rfl) ?_
  obtain ⟨ht1, hf⟩ := hf
  refine p_gI X cf10_ (k := 2) (by decide) rfl hP ht1 q162 (fun _ h => h) dJ2_remove_2 ?_
  refine p_calli hL (p_runS X hP (metJ12_checkIndex l G _ _ _ _ X.2.2 hf) (va_cwS 2 hts (lw_S q727 q728 q107 q729) rfl rfl rfl (by decide +kernel) ⟨Nat.le_trans (Nat.le_of_ble_eq_true rfl) hRf, Nat.le_trans (Nat.le_of_ble_eq_true rfl) hRl⟩) rfl hl.1 rfl (by decide) dJ2_remove_5 ⟨Nat.zero_le _, Nat.zero_le _⟩) (fun r2 σ₁ H locs hf hP hL => ?_)
  obtain ⟨e₁, hf⟩ := hf
  rw [e₁] at hP
  refine lv_pop hx hb dJ2_remove_8 rfl ?_
  refine p_aload_n hx hb dJ2_remove_9 rfl (lv_at hl 0 rfl) ?_
  refine p_gR X cf10_ (k := 1) (by decide) rfl hP ht1 q161 (fun _ h => h) dJ2_remove_10 ?_
  refine p_topr (fun y3 hy3 => ?_)
  have hf := hf y3 hy3
  refine p_astore_n (i := 2) hx hb dJ2_remove_13 rfl hl (by decide) ⟨⟨ne_ rfl, Or.inl (ne_ rfl)⟩, ⟨⟨ne_ rfl, Or.inr rfl⟩, trivial⟩⟩ (fun ls hl => ?_)
  refine p_aload_n hx hb dJ2_remove_14 rfl (lv_at hl 0 rfl) ?_
  refine lv_iload_n hx hb dJ2_remove_15 rfl (lv_at hl 2 rfl) ?_
  obtain ⟨ht4, hf⟩ := hf
  obtain ⟨hi5, hf⟩ := hf
  refine p_aald X hP ht4 (by decide) (by decide) hi5 dJ2_remove_16 ?_
  refine p_topr (fun y6 hy6 => ?_)
  have hf := hf y6 hy6
  refine p_astore_n (i := 3) hx hb dJ2_remove_17 rfl hl (by decide) ⟨⟨ne_ rfl, Or.inr (rv_cat _)⟩, ⟨⟨ne_ rfl, Or.inl (ne_ rfl)⟩, ⟨⟨ne_ rfl, Or.inl (ne_ rfl)⟩, trivial⟩⟩⟩ (fun ls hl => ?_)
  refine p_aload_n hx hb dJ2_remove_18 rfl (lv_at hl 2 rfl) ?_
  refine p_aload_n hx hb dJ2_remove_19 rfl (lv_at hl 1 rfl) ?_
  refine lv_iload_n hx hb dJ2_remove_20 rfl (lv_at hl 3 rfl) ?_
  refine p_callv hL (p_runV X cf10_ hP ht1 (metJ2_fastRemove l G _ _ _ _ _ X.2.2 hf) (cwV 2 hts (lw_V q781 q783 qs5 q90 q784) rfl rfl rfl (by decide +kernel) ⟨Nat.le_trans (Nat.le_of_ble_eq_true rfl) hRf, Nat.le_trans (Nat.le_of_ble_eq_true rfl) hRl⟩) rfl hl.1 rfl (by decide) dJ2_remove_21 ⟨Nat.zero_le _, Nat.zero_le _⟩) (fun σ7 H locs hf hP hL => ?_)
  refine p_aload_n hx hb dJ2_remove_24 rfl (lv_at hl 0 rfl) ?_
  exact p_aret X hlk hP hL (Nat.le_refl _) (Nat.le_refl _) hr (Or.inl ⟨_, rfl⟩) dJ2_remove_25 hf
set_option maxHeartbeats 4000000 in
theorem metJ2_remove (l : Launch) (G : GG_) (x0 : Nat) (x1 : Int32) (σ : Hp) (post : Nat → Hp → Prop) (hG : GOK_ G) (hf : wJ2_remove x0 x1 σ post) : Met l yJ2_remove (ws_ yJ2_remove cJ2_remove 4 (some ((Jvm.ClassFile.FieldType.object "java/lang/Object")))) { frames := 3, cells := 0, slots := 0, locals := 71 } (PC_ G [rv_ x0, .int x1] σ) (QR_ G post) 0 0 (FR_ G) := by
  refine Met.ofW (cc := cJ2_remove) (maxL := 4) (ret := (some ((Jvm.ClassFile.FieldType.object "java/lang/Object")))) (by decide) rfl ?_
  intro p e s m args below meth c s₁ B hml hv
  obtain ⟨rfl, hP, hW⟩ := hv
  have hts := atoms_spec (ws := ws_ yJ2_remove cJ2_remove 4 (some ((Jvm.ClassFile.FieldType.object "java/lang/Object")))) B.pre
  have hts : ∀ w ∈ lw_all, w.before _ s = true := fun w h => hts w (List.mem_cons_of_mem _ h)
  rw [lg_entry_eq]
  have hl := en_entry [rv_ x0, .int x1] [1, 1] (n := 4) (ca_r (ca_i ca_n)) (by decide)
  exact sJ2_remove ⟨⟨⟨B.exec, B.bytes, hml, findClass_of_methodNamed B.named, hts⟩, hW, hG⟩, B.notSynchronized, B.returns, Nat.le_refl _, Nat.le_refl _, ⟨rfl, rfl⟩, (name_of_methodNamed B.named B.method).1⟩ hf _ _ _ _ _ hP (LO_nil G) ⟨rfl, rfl⟩ hl
def RJ3 : String := "java/lang/AbstractStringBuilder"
abbrev cJ3_init : ByteArray := prog_13_method_2_code
def yJ3_init : MethodName := ⟨RJ3, "<init>", "(I)V"⟩
theorem dJ3_init_0 : decode cJ3_init 0 = .ok (.aload_n 0, 1) := by decide +kernel
theorem dJ3_init_1 : decode cJ3_init 1 = .ok (.invokespecial 3, 3) := by decide +kernel
theorem dJ3_init_4 : decode cJ3_init 4 = .ok (.getstatic 18, 3) := by decide +kernel
theorem dJ3_init_7 : decode cJ3_init 7 = .ok (.ifCond .eq 18, 3) := by decide +kernel
theorem dJ3_init_10 : decode cJ3_init 10 = .ok (.aload_n 0, 1) := by decide +kernel
theorem dJ3_init_11 : decode cJ3_init 11 = .ok (.iload_n 1, 1) := by decide +kernel
theorem dJ3_init_12 : decode cJ3_init 12 = .ok (.newarray .byte, 2) := by decide +kernel
theorem dJ3_init_14 : decode cJ3_init 14 = .ok (.putfield 15, 3) := by decide +kernel
theorem dJ3_init_17 : decode cJ3_init 17 = .ok (.aload_n 0, 1) := by decide +kernel
theorem dJ3_init_18 : decode cJ3_init 18 = .ok (.iconst 0, 1) := by decide +kernel
theorem dJ3_init_19 : decode cJ3_init 19 = .ok (.putfield 22, 3) := by decide +kernel
theorem dJ3_init_22 : decode cJ3_init 22 = .ok (.goto 16, 3) := by decide +kernel
theorem dJ3_init_25 : decode cJ3_init 25 = .ok (.aload_n 0, 1) := by decide +kernel
theorem dJ3_init_26 : decode cJ3_init 26 = .ok (.iload_n 1, 1) := by decide +kernel
theorem dJ3_init_27 : decode cJ3_init 27 = .ok (.invokestatic 26, 3) := by decide +kernel
theorem dJ3_init_30 : decode cJ3_init 30 = .ok (.putfield 15, 3) := by decide +kernel
theorem dJ3_init_33 : decode cJ3_init 33 = .ok (.aload_n 0, 1) := by decide +kernel
theorem dJ3_init_34 : decode cJ3_init 34 = .ok (.iconst 1, 1) := by decide +kernel
theorem dJ3_init_35 : decode cJ3_init 35 = .ok (.putfield 22, 3) := by decide +kernel
theorem dJ3_init_38 : decode cJ3_init 38 = .ok (.return_, 1) := by decide +kernel
/-- java/lang/AbstractStringBuilder.<init>(I)V -/
def wJ3_init (x0 : Nat) (x1 : Int32) (σ : Hp) (post : Hp → Prop) : Prop :=
(tg_ σ x0 = 12 ∧ (((1 : Int32) = 0 →
  False) ∧
 (¬ (1 : Int32) = 0 →
  (¬ x1 < 0 ∧ ((x1).toNatClampNeg ≤ 1000000 ∧ (1 ≤ bc_ σ ∧ ((x1).toNatClampNeg ≤ bs_ σ ∧ (∀ σ7, σ7 = mA_ σ 100 (x1).toNatClampNeg → (tg_ σ7 x0 = 12 ∧ (∀ σ9, σ9 = sR_ σ7 11 0 x0 (nx_ σ) → (∀ σ10, σ10 = sI_ σ9 11 1 x0 (0 : Int32) → post σ10)))))))))))
set_option maxHeartbeats 4000000 in
theorem sJ3_init {G : GG_} {p : Program} {l : Launch} {e : Env} {R : Room} {s : State} {m : MethodId} {args : Array Value} {below : List Frame} {meth : Method} {c : Code} {mc ms : Nat} (Y : MX_ G p R s m args meth c cJ3_init 2 RJ3 none 1 28 mc ms "<init>") {post : Hp → Prop} {x0 : Nat} {x1 : Int32} {σ : Hp} (hf : wJ3_init x0 x1 σ post) : WG_ G p l e R s m args below meth c (MQ below (QV_ G post) args s mc ms (FR_ G)) (BU_ R) 2 0 [(0, rv_ x0), (1, .int x1)] [] σ := by
  have ⟨X, hlk, hr, hRf, hRl, hRc, hnm⟩ := Y
  have ⟨⟨hx, hb, _, hown, hts⟩, _, _⟩ := X
  intro H locs cells slots ls hP hL hB hl
  unfold wJ3_init at hf
  refine p_aload_n hx hb dJ3_init_0 rfl (lv_at hl 0 rfl) ?_
  obtain ⟨ht1, hf⟩ := hf
  refine p_objInit X hP ht1 q231 q119 q120 hl.1 dJ3_init_1 (Nat.le_trans (by decide) hRf) (by decide) (Nat.le_trans (by decide) hRl) ?_
  refine p_gsC X hP q232 dJ3_init_4 ?_
  refine lv_if_eq (tgt := 25) hx hb dJ3_init_7 (by decide) (fun c2 => ?_) (fun c2 => ?_)
  · have hf := hf.1 c2
    refine p_aload_n hx hb dJ3_init_25 rfl (lv_at hl 0 rfl) ?_
    refine lv_iload_n hx hb dJ3_init_26 rfl (lv_at hl 1 rfl) ?_
    exact hf.elim
  · have hf := hf.2 c2
    refine p_aload_n hx hb dJ3_init_10 rfl (lv_at hl 0 rfl) ?_
    refine lv_iload_n hx hb dJ3_init_11 rfl (lv_at hl 1 rfl) ?_
    obtain ⟨hb3, hf⟩ := hf
    obtain ⟨hb4, hf⟩ := hf
    obtain ⟨hb5, hf⟩ := hf
    obtain ⟨hb6, hf⟩ := hf
    refine p_newa X (atype := .byte) (t := 100) rfl (by decide) (by decide) q184 hP hB hb3 hb4 hb5 hb6 dJ3_init_12 (fun H hP hB => ?_)
    refine p_nmPB hP hB (fun σ7 hσ7 hP hB => ?_)
    have hf := hf σ7 hσ7
    obtain ⟨ht8, hf⟩ := hf
    refine p_pR X cf11_ (k := 0) (by decide) rfl hP hL ht8 (p_ow hP ht8 rfl) q241 (fun _ h => h) (Or.inl rfl) dJ3_init_14 (fun H locs hP hL => ?_)
    refine p_nmPB hP hB (fun σ9 hσ9 hP hB => ?_)
    have hf := hf σ9 hσ9
    have ht8 : tg_ σ9 x0 = 12 := by rw [hσ9]; exact ht8
    refine p_aload_n hx hb dJ3_init_17 rfl (lv_at hl 0 rfl) ?_
    refine lv_iconst (v := 0) hx hb dJ3_init_18 (by decide) ?_
    refine p_pI X cf11_ (k := 1) (by decide) rfl hP hL ht8 (p_ow hP ht8 rfl) q242 (fun _ h => h) (Or.inl rfl) rfl (by decide) dJ3_init_19 (fun H locs hP hL => ?_)
    refine p_nmPB hP hB (fun σ10 hσ10 hP hB => ?_)
    have hf := hf σ10 hσ10
    have ht8 : tg_ σ10 x0 = 12 := by rw [hσ10]; exact ht8
    refine lv_goto (tgt := 38) hx hb dJ3_init_22 (by decide) ?_
    exact p_vret X hlk hP hL (BU_le hB hRc).1 (BU_le hB hRc).2 hr dJ3_init_38 hf
set_option maxHeartbeats 4000000 in
theorem metJ3_init (l : Launch) (G : GG_) (mc ms : Nat) (x0 : Nat) (x1 : Int32) (σ : Hp) (post : Hp → Prop) (hG : GOK_ G) (hf : wJ3_init x0 x1 (bu_ σ mc ms) post) : Met l yJ3_init (ws_ yJ3_init cJ3_init 2 none) { frames := 1, cells := mc, slots := ms, locals := 28 } (PC_ G [rv_ x0, .int x1] (bu_ σ mc ms)) (QV_ G post) mc ms (FR_ G) := by
  refine Met.ofW (cc := cJ3_init) (maxL := 2) (ret := none) (by decide) rfl ?_
  intro p e s m args below meth c s₁ B hml hv
  obtain ⟨rfl, hP, hW⟩ := hv
  have hts := atoms_spec (ws := ws_ yJ3_init cJ3_init 2 none) B.pre
  have hts : ∀ w ∈ lw_all, w.before _ s = true := fun w h => hts w (List.mem_cons_of_mem _ h)
  rw [lg_entry_eq]
  have hl := en_entry [rv_ x0, .int x1] [1, 1] (n := 2) (ca_r (ca_i ca_n)) (by decide)
  exact sJ3_init ⟨⟨⟨B.exec, B.bytes, hml, findClass_of_methodNamed B.named, hts⟩, hW, hG⟩, B.notSynchronized, B.returns, Nat.le_refl _, Nat.le_refl _, ⟨rfl, rfl⟩, (name_of_methodNamed B.named B.method).1⟩ hf _ _ _ _ _ hP (LO_nil G) (BU_in ⟨rfl, rfl⟩) hl
abbrev cJ4_init : ByteArray := prog_20_method_1_code
def yJ4_init : MethodName := ⟨RJ4, "<init>", "()V"⟩
theorem dJ4_init_0 : decode cJ4_init 0 = .ok (.aload_n 0, 1) := by decide +kernel
theorem dJ4_init_1 : decode cJ4_init 1 = .ok (.bipush 16, 2) := by decide +kernel
theorem dJ4_init_3 : decode cJ4_init 3 = .ok (.invokespecial 1, 3) := by decide +kernel
theorem dJ4_init_6 : decode cJ4_init 6 = .ok (.return_, 1) := by decide +kernel
/-- java/lang/StringBuilder.<init>()V -/
def wJ4_init (x0 : Nat) (σ : Hp) (post : Hp → Prop) : Prop :=
(tg_ σ x0 = 12 ∧ (∃ mc2 ms3 : Nat, (mc2 ≤ bc_ σ ∧ (ms3 ≤ bs_ σ ∧ (wJ3_init x0 (16 : Int32) (bu_ σ mc2 ms3) (fun σ6 => (∀ σ7, σ7 = bu_ σ6 (bc_ σ - mc2) (bs_ σ - ms3) → post σ7)))))))
set_option maxHeartbeats 4000000 in
theorem sJ4_init {G : GG_} {p : Program} {l : Launch} {e : Env} {R : Room} {s : State} {m : MethodId} {args : Array Value} {below : List Frame} {meth : Method} {c : Code} {mc ms : Nat} (Y : MX_ G p R s m args meth c cJ4_init 1 RJ4 none 2 49 mc ms "<init>") {post : Hp → Prop} {x0 : Nat} {σ : Hp} (hf : wJ4_init x0 σ post) : WG_ G p l e R s m args below meth c (MQ below (QV_ G post) args s mc ms (FR_ G)) (BU_ R) 1 0 [(0, rv_ x0)] [] σ := by
  have ⟨X, hlk, hr, hRf, hRl, hRc, hnm⟩ := Y
  have ⟨⟨hx, hb, _, hown, hts⟩, _, _⟩ := X
  intro H locs cells slots ls hP hL hB hl
  unfold wJ4_init at hf
  refine p_aload_n hx hb dJ4_init_0 rfl (lv_at hl 0 rfl) ?_
  refine lv_bipush (v := 16) hx hb dJ4_init_1 (by decide) ?_
  obtain ⟨ht1, hf⟩ := hf
  obtain ⟨mc2, ms3, hf⟩ := hf
  obtain ⟨hb4, hf⟩ := hf
  obtain ⟨hb5, hf⟩ := hf
  refine p_callv hL (p_runI X (Pic_bu hP mc2 ms3) ht1 (metJ3_init l G _ _ _ _ _ _ X.2.2 hf) (cwI 1 hts (lw_meth q230) rfl rfl rfl (hts _ q94) (hts _ q228) (hts _ q229) rfl (by decide +kernel) ⟨Nat.le_trans (Nat.le_of_ble_eq_true rfl) hRf, Nat.le_trans (Nat.le_of_ble_eq_true rfl) hRl⟩) rfl hl.1 rfl (by decide) dJ4_init_3 (BU_call hB hb4 hb5)) (fun σ6 H locs hf hP hL => ?_)
  have hB := BU_back (τ := σ6) hB hb4 hb5
  have hP := Pic_bu hP (bc_ σ - mc2) (bs_ σ - ms3)
  refine p_nmPB hP hB (fun σ7 hσ7 hP hB => ?_)
  have hf := hf σ7 hσ7
  exact p_vret X hlk hP hL (BU_le hB hRc).1 (BU_le hB hRc).2 hr dJ4_init_6 hf
set_option maxHeartbeats 4000000 in
theorem metJ4_init (l : Launch) (G : GG_) (mc ms : Nat) (x0 : Nat) (σ : Hp) (post : Hp → Prop) (hG : GOK_ G) (hf : wJ4_init x0 (bu_ σ mc ms) post) : Met l yJ4_init (ws_ yJ4_init cJ4_init 1 none) { frames := 2, cells := mc, slots := ms, locals := 49 } (PC_ G [rv_ x0] (bu_ σ mc ms)) (QV_ G post) mc ms (FR_ G) := by
  refine Met.ofW (cc := cJ4_init) (maxL := 1) (ret := none) (by decide) rfl ?_
  intro p e s m args below meth c s₁ B hml hv
  obtain ⟨rfl, hP, hW⟩ := hv
  have hts := atoms_spec (ws := ws_ yJ4_init cJ4_init 1 none) B.pre
  have hts : ∀ w ∈ lw_all, w.before _ s = true := fun w h => hts w (List.mem_cons_of_mem _ h)
  rw [lg_entry_eq]
  have hl := en_entry [rv_ x0] [1] (n := 1) (ca_r ca_n) (by decide)
  exact sJ4_init ⟨⟨⟨B.exec, B.bytes, hml, findClass_of_methodNamed B.named, hts⟩, hW, hG⟩, B.notSynchronized, B.returns, Nat.le_refl _, Nat.le_refl _, ⟨rfl, rfl⟩, (name_of_methodNamed B.named B.method).1⟩ hf _ _ _ _ _ hP (LO_nil G) (BU_in ⟨rfl, rfl⟩) hl
abbrev cJ5_coder : ByteArray := prog_19_method_152_code
def yJ5_coder : MethodName := ⟨RJ5, "coder", "()B"⟩
theorem dJ5_coder_0 : decode cJ5_coder 0 = .ok (.getstatic 38, 3) := by decide +kernel
theorem dJ5_coder_3 : decode cJ5_coder 3 = .ok (.ifCond .eq 10, 3) := by decide +kernel
theorem dJ5_coder_6 : decode cJ5_coder 6 = .ok (.aload_n 0, 1) := by decide +kernel
theorem dJ5_coder_7 : decode cJ5_coder 7 = .ok (.getfield 15, 3) := by decide +kernel
theorem dJ5_coder_10 : decode cJ5_coder 10 = .ok (.goto 4, 3) := by decide +kernel
theorem dJ5_coder_13 : decode cJ5_coder 13 = .ok (.iconst 1, 1) := by decide +kernel
theorem dJ5_coder_14 : decode cJ5_coder 14 = .ok (.ireturn, 1) := by decide +kernel
/-- java/lang/String.coder()B -/
def wJ5_coder (x0 : Nat) (σ : Hp) (post : Int32 → Prop) : Prop :=
(((1 : Int32) = 0 →
  (nr_ .byte (1 : Int32) ∧ post (1 : Int32))) ∧
 (¬ (1 : Int32) = 0 →
  (tg_ σ x0 = 13 ∧ (nr_ .byte (fI_ σ 12 1 x0) ∧ post (fI_ σ 12 1 x0)))))
set_option maxHeartbeats 4000000 in
theorem sJ5_coder {G : GG_} {p : Program} {l : Launch} {e : Env} {R : Room} {s : State} {m : MethodId} {args : Array Value} {below : List Frame} {meth : Method} {c : Code} (Y : MX_ G p R s m args meth c cJ5_coder 1 RJ5 (some Jvm.ClassFile.FieldType.byte) 1 20 0 0 "coder") {post : Int32 → Prop} {x0 : Nat} {σ : Hp} (hf : wJ5_coder x0 σ post) : WG_ G p l e R s m args below meth c (MQ below (QI_ G (fun r τ => τ = σ ∧ post r)) args s 0 0 (FR_ G)) BN_ 1 0 [(0, rv_ x0)] [] σ := by
  have ⟨X, hlk, hr, hRf, hRl, hRc, hnm⟩ := Y
  have ⟨⟨hx, hb, _, hown, hts⟩, _, _⟩ := X
  intro H locs cells slots ls hP hL hB hl
  obtain ⟨rfl, rfl⟩ := hB
  unfold wJ5_coder at hf
  refine p_gsC X hP q339 dJ5_coder_0 ?_
  refine lv_if_eq (tgt := 13) hx hb dJ5_coder_3 (by decide) (fun c1 => ?_) (fun c1 => ?_)
  · have hf := hf.1 c1
    refine lv_iconst (v := 1) hx hb dJ5_coder_13 (by decide) ?_
    obtain ⟨hn2, hf⟩ := hf
    exact p_zret X hlk hP hL (Nat.le_refl _) (Nat.le_refl _) hr hn2 dJ5_coder_14 ⟨rfl, hf⟩
  · have hf := hf.2 c1
    refine p_aload_n hx hb dJ5_coder_6 rfl (lv_at hl 0 rfl) ?_
    obtain ⟨ht3, hf⟩ := hf
    refine p_gI X cf12_ (k := 1) (by decide) rfl hP ht3 q425 (fun _ h => h) dJ5_coder_7 ?_
    refine lv_goto (tgt := 14) hx hb dJ5_coder_10 (by decide) ?_
    obtain ⟨hn4, hf⟩ := hf
    exact p_zret X hlk hP hL (Nat.le_refl _) (Nat.le_refl _) hr hn4 dJ5_coder_14 ⟨rfl, hf⟩
set_option maxHeartbeats 4000000 in
theorem metJ5_coder (l : Launch) (G : GG_) (x0 : Nat) (σ : Hp) (post : Int32 → Prop) (hG : GOK_ G) (hf : wJ5_coder x0 σ post) : Met l yJ5_coder (ws_ yJ5_coder cJ5_coder 1 (some Jvm.ClassFile.FieldType.byte)) { frames := 1, cells := 0, slots := 0, locals := 20 } (PC_ G [rv_ x0] σ) (QI_ G (fun r τ => τ = σ ∧ post r)) 0 0 (FR_ G) := by
  refine Met.ofW (cc := cJ5_coder) (maxL := 1) (ret := (some Jvm.ClassFile.FieldType.byte)) (by decide) rfl ?_
  intro p e s m args below meth c s₁ B hml hv
  obtain ⟨rfl, hP, hW⟩ := hv
  have hts := atoms_spec (ws := ws_ yJ5_coder cJ5_coder 1 (some Jvm.ClassFile.FieldType.byte)) B.pre
  have hts : ∀ w ∈ lw_all, w.before _ s = true := fun w h => hts w (List.mem_cons_of_mem _ h)
  rw [lg_entry_eq]
  have hl := en_entry [rv_ x0] [1] (n := 1) (ca_r ca_n) (by decide)
  exact sJ5_coder ⟨⟨⟨B.exec, B.bytes, hml, findClass_of_methodNamed B.named, hts⟩, hW, hG⟩, B.notSynchronized, B.returns, Nat.le_refl _, Nat.le_refl _, ⟨rfl, rfl⟩, (name_of_methodNamed B.named B.method).1⟩ hf _ _ _ _ _ hP (LO_nil G) ⟨rfl, rfl⟩ hl
abbrev cJ5_length : ByteArray := prog_19_method_54_code
def yJ5_length : MethodName := ⟨RJ5, "length", "()I"⟩
theorem dJ5_length_0 : decode cJ5_length 0 = .ok (.aload_n 0, 1) := by decide +kernel
theorem dJ5_length_1 : decode cJ5_length 1 = .ok (.getfield 9, 3) := by decide +kernel
theorem dJ5_length_4 : decode cJ5_length 4 = .ok (.arraylength, 1) := by decide +kernel
theorem dJ5_length_5 : decode cJ5_length 5 = .ok (.aload_n 0, 1) := by decide +kernel
theorem dJ5_length_6 : decode cJ5_length 6 = .ok (.invokevirtual 335, 3) := by decide +kernel
theorem dJ5_length_9 : decode cJ5_length 9 = .ok (.ishr, 1) := by decide +kernel
theorem dJ5_length_10 : decode cJ5_length 10 = .ok (.ireturn, 1) := by decide +kernel
/-- java/lang/String.length()I -/
def wJ5_length (x0 : Nat) (σ : Hp) (post : Int32 → Prop) : Prop :=
(tg_ σ x0 = 13 ∧ (tg_ σ (fR_ σ 12 0 x0) = 100 ∧ (wJ5_coder x0  σ (fun r3 => post ((nI (ln_ σ (fR_ σ 12 0 x0))) >>> (r3 &&& 31))))))
set_option maxHeartbeats 4000000 in
theorem sJ5_length {G : GG_} {p : Program} {l : Launch} {e : Env} {R : Room} {s : State} {m : MethodId} {args : Array Value} {below : List Frame} {meth : Method} {c : Code} (Y : MX_ G p R s m args meth c cJ5_length 1 RJ5 (some Jvm.ClassFile.FieldType.int) 2 40 0 0 "length") {post : Int32 → Prop} {x0 : Nat} {σ : Hp} (hf : wJ5_length x0 σ post) : WG_ G p l e R s m args below meth c (MQ below (QI_ G (fun r τ => τ = σ ∧ post r)) args s 0 0 (FR_ G)) BN_ 1 0 [(0, rv_ x0)] [] σ := by
  have ⟨X, hlk, hr, hRf, hRl, hRc, hnm⟩ := Y
  have ⟨⟨hx, hb, _, hown, hts⟩, _, _⟩ := X
  intro H locs cells slots ls hP hL hB hl
  obtain ⟨rfl, rfl⟩ := hB
  unfold wJ5_length at hf
  refine p_aload_n hx hb dJ5_length_0 rfl (lv_at hl 0 rfl) ?_
  obtain ⟨ht1, hf⟩ := hf
  refine p_gR X cf12_ (k := 0) (by decide) rfl hP ht1 q424 (fun _ h => h) dJ5_length_1 ?_
  obtain ⟨ht2, hf⟩ := hf
  refine p_alen X hP ht2 (by decide) (by decide) dJ5_length_4 ?_
  refine p_aload_n hx hb dJ5_length_5 rfl (lv_at hl 0 rfl) ?_
  refine p_calli hL (p_runV X cf12_ hP ht1 (metJ5_coder l G _ _ _ X.2.2 hf) (cwV 0 hts (lw_V q335 q336 q337 q96 q338) rfl rfl rfl (by decide +kernel) ⟨Nat.le_trans (Nat.le_of_ble_eq_true rfl) hRf, Nat.le_trans (Nat.le_of_ble_eq_true rfl) hRl⟩) rfl hl.1 rfl (by rw [(ca_i ca_n)]; decide) dJ5_length_6 ⟨Nat.zero_le _, Nat.zero_le _⟩) (fun r3 σ₁ H locs hf hP hL => ?_)
  obtain ⟨e₁, hf⟩ := hf
  rw [e₁] at hP
  refine lv_ishr hx hb dJ5_length_9 ?_
  exact p_iret X hlk hP hL (Nat.le_refl _) (Nat.le_refl _) hr dJ5_length_10 ⟨rfl, hf⟩
set_option maxHeartbeats 4000000 in
theorem metJ5_length (l : Launch) (G : GG_) (x0 : Nat) (σ : Hp) (post : Int32 → Prop) (hG : GOK_ G) (hf : wJ5_length x0 σ post) : Met l yJ5_length (ws_ yJ5_length cJ5_length 1 (some Jvm.ClassFile.FieldType.int)) { frames := 2, cells := 0, slots := 0, locals := 40 } (PC_ G [rv_ x0] σ) (QI_ G (fun r τ => τ = σ ∧ post r)) 0 0 (FR_ G) := by
  refine Met.ofW (cc := cJ5_length) (maxL := 1) (ret := (some Jvm.ClassFile.FieldType.int)) (by decide) rfl ?_
  intro p e s m args below meth c s₁ B hml hv
  obtain ⟨rfl, hP, hW⟩ := hv
  have hts := atoms_spec (ws := ws_ yJ5_length cJ5_length 1 (some Jvm.ClassFile.FieldType.int)) B.pre
  have hts : ∀ w ∈ lw_all, w.before _ s = true := fun w h => hts w (List.mem_cons_of_mem _ h)
  rw [lg_entry_eq]
  have hl := en_entry [rv_ x0] [1] (n := 1) (ca_r ca_n) (by decide)
  exact sJ5_length ⟨⟨⟨B.exec, B.bytes, hml, findClass_of_methodNamed B.named, hts⟩, hW, hG⟩, B.notSynchronized, B.returns, Nat.le_refl _, Nat.le_refl _, ⟨rfl, rfl⟩, (name_of_methodNamed B.named B.method).1⟩ hf _ _ _ _ _ hP (LO_nil G) ⟨rfl, rfl⟩ hl
abbrev cJ3_ensureCapacityInternal : ByteArray := prog_13_method_9_code
def yJ3_ensureCapacityInternal : MethodName := ⟨RJ3, "ensureCapacityInternal", "(I)V"⟩
theorem dJ3_ensureCapacityInternal_0 : decode cJ3_ensureCapacityInternal 0 = .ok (.aload_n 0, 1) := by decide +kernel
theorem dJ3_ensureCapacityInternal_1 : decode cJ3_ensureCapacityInternal 1 = .ok (.getfield 15, 3) := by decide +kernel
theorem dJ3_ensureCapacityInternal_4 : decode cJ3_ensureCapacityInternal 4 = .ok (.arraylength, 1) := by decide +kernel
theorem dJ3_ensureCapacityInternal_5 : decode cJ3_ensureCapacityInternal 5 = .ok (.aload_n 0, 1) := by decide +kernel
theorem dJ3_ensureCapacityInternal_6 : decode cJ3_ensureCapacityInternal 6 = .ok (.getfield 22, 3) := by decide +kernel
theorem dJ3_ensureCapacityInternal_9 : decode cJ3_ensureCapacityInternal 9 = .ok (.ishr, 1) := by decide +kernel
theorem dJ3_ensureCapacityInternal_10 : decode cJ3_ensureCapacityInternal 10 = .ok (.istore_n 2, 1) := by decide +kernel
theorem dJ3_ensureCapacityInternal_11 : decode cJ3_ensureCapacityInternal 11 = .ok (.iload_n 1, 1) := by decide +kernel
theorem dJ3_ensureCapacityInternal_12 : decode cJ3_ensureCapacityInternal 12 = .ok (.iload_n 2, 1) := by decide +kernel
theorem dJ3_ensureCapacityInternal_13 : decode cJ3_ensureCapacityInternal 13 = .ok (.isub, 1) := by decide +kernel
theorem dJ3_ensureCapacityInternal_14 : decode cJ3_ensureCapacityInternal 14 = .ok (.ifCond .le 24, 3) := by decide +kernel
theorem dJ3_ensureCapacityInternal_17 : decode cJ3_ensureCapacityInternal 17 = .ok (.aload_n 0, 1) := by decide +kernel
theorem dJ3_ensureCapacityInternal_18 : decode cJ3_ensureCapacityInternal 18 = .ok (.aload_n 0, 1) := by decide +kernel
theorem dJ3_ensureCapacityInternal_19 : decode cJ3_ensureCapacityInternal 19 = .ok (.getfield 15, 3) := by decide +kernel
theorem dJ3_ensureCapacityInternal_22 : decode cJ3_ensureCapacityInternal 22 = .ok (.aload_n 0, 1) := by decide +kernel
theorem dJ3_ensureCapacityInternal_23 : decode cJ3_ensureCapacityInternal 23 = .ok (.iload_n 1, 1) := by decide +kernel
theorem dJ3_ensureCapacityInternal_24 : decode cJ3_ensureCapacityInternal 24 = .ok (.invokevirtual 104, 3) := by decide +kernel
theorem dJ3_ensureCapacityInternal_27 : decode cJ3_ensureCapacityInternal 27 = .ok (.aload_n 0, 1) := by decide +kernel
theorem dJ3_ensureCapacityInternal_28 : decode cJ3_ensureCapacityInternal 28 = .ok (.getfield 22, 3) := by decide +kernel
theorem dJ3_ensureCapacityInternal_31 : decode cJ3_ensureCapacityInternal 31 = .ok (.ishl, 1) := by decide +kernel
theorem dJ3_ensureCapacityInternal_32 : decode cJ3_ensureCapacityInternal 32 = .ok (.invokestatic 108, 3) := by decide +kernel
theorem dJ3_ensureCapacityInternal_35 : decode cJ3_ensureCapacityInternal 35 = .ok (.putfield 15, 3) := by decide +kernel
theorem dJ3_ensureCapacityInternal_38 : decode cJ3_ensureCapacityInternal 38 = .ok (.return_, 1) := by decide +kernel
/-- java/lang/AbstractStringBuilder.ensureCapacityInternal(I)V -/
def wJ3_ensureCapacityInternal (x0 : Nat) (x1 : Int32) (σ : Hp) (post : Hp → Prop) : Prop :=
(tg_ σ x0 = 12 ∧ (tg_ σ (fR_ σ 11 0 x0) = 100 ∧ (∀ y3 : Int32, y3 = ((nI (ln_ σ (fR_ σ 11 0 x0))) >>> ((fI_ σ 11 1 x0) &&& 31)) → (((x1 - y3) ≤ 0 →
  post σ) ∧
 (¬ (x1 - y3) ≤ 0 →
  False)))))
set_option maxHeartbeats 4000000 in
theorem sJ3_ensureCapacityInternal {G : GG_} {p : Program} {l : Launch} {e : Env} {R : Room} {s : State} {m : MethodId} {args : Array Value} {below : List Frame} {meth : Method} {c : Code} (Y : MX_ G p R s m args meth c cJ3_ensureCapacityInternal 3 RJ3 none 1 28 0 0 "ensureCapacityInternal") {post : Hp → Prop} {x0 : Nat} {x1 : Int32} {σ : Hp} (hf : wJ3_ensureCapacityInternal x0 x1 σ post) : WG_ G p l e R s m args below meth c (MQ below (QV_ G post) args s 0 0 (FR_ G)) BN_ 3 0 [(0, rv_ x0), (1, .int x1)] [] σ := by
  have ⟨X, hlk, hr, hRf, hRl, hRc, hnm⟩ := Y
  have ⟨⟨hx, hb, _, hown, hts⟩, _, _⟩ := X
  intro H locs cells slots ls hP hL hB hl
  obtain ⟨rfl, rfl⟩ := hB
  unfold wJ3_ensureCapacityInternal at hf
  refine p_aload_n hx hb dJ3_ensureCapacityInternal_0 rfl (lv_at hl 0 rfl) ?_
  obtain ⟨ht1, hf⟩ := hf
  refine p_gR X cf11_ (k := 0) (by decide) rfl hP ht1 q241 (fun _ h => h) dJ3_ensureCapacityInternal_1 ?_
  obtain ⟨ht2, hf⟩ := hf
  refine p_alen X hP ht2 (by decide) (by decide) dJ3_ensureCapacityInternal_4 ?_
  refine p_aload_n hx hb dJ3_ensureCapacityInternal_5 rfl (lv_at hl 0 rfl) ?_
  refine p_gI X cf11_ (k := 1) (by decide) rfl hP ht1 q242 (fun _ h => h) dJ3_ensureCapacityInternal_6 ?_
  refine lv_ishr hx hb dJ3_ensureCapacityInternal_9 ?_
  refine lv_topi (fun y3 hy3 => ?_)
  have hf := hf y3 hy3
  refine p_istore_n (i := 2) hx hb dJ3_ensureCapacityInternal_10 rfl hl (by decide) ⟨⟨ne_ rfl, Or.inl (ne_ rfl)⟩, ⟨⟨ne_ rfl, Or.inr rfl⟩, trivial⟩⟩ (fun ls hl => ?_)
  refine lv_iload_n hx hb dJ3_ensureCapacityInternal_11 rfl (lv_at hl 2 rfl) ?_
  refine lv_iload_n hx hb dJ3_ensureCapacityInternal_12 rfl (lv_at hl 0 rfl) ?_
  refine lv_isub hx hb dJ3_ensureCapacityInternal_13 ?_
  refine lv_if_le (tgt := 38) hx hb dJ3_ensureCapacityInternal_14 (by decide) (fun c4 => ?_) (fun c4 => ?_)
  · have hf := hf.1 c4
    exact p_vret X hlk hP hL (Nat.le_refl _) (Nat.le_refl _) hr dJ3_ensureCapacityInternal_38 hf
  · have hf := hf.2 c4
    refine p_aload_n hx hb dJ3_ensureCapacityInternal_17 rfl (lv_at hl 1 rfl) ?_
    refine p_aload_n hx hb dJ3_ensureCapacityInternal_18 rfl (lv_at hl 1 rfl) ?_
    refine p_gR X cf11_ (k := 0) (by decide) rfl hP ht1 q241 (fun _ h => h) dJ3_ensureCapacityInternal_19 ?_
    refine p_aload_n hx hb dJ3_ensureCapacityInternal_22 rfl (lv_at hl 1 rfl) ?_
    refine lv_iload_n hx hb dJ3_ensureCapacityInternal_23 rfl (lv_at hl 2 rfl) ?_
    exact hf.elim
set_option maxHeartbeats 4000000 in
theorem metJ3_ensureCapacityInternal (l : Launch) (G : GG_) (x0 : Nat) (x1 : Int32) (σ : Hp) (post : Hp → Prop) (hG : GOK_ G) (hf : wJ3_ensureCapacityInternal x0 x1 σ post) : Met l yJ3_ensureCapacityInternal (ws_ yJ3_ensureCapacityInternal cJ3_ensureCapacityInternal 3 none) { frames := 1, cells := 0, slots := 0, locals := 28 } (PC_ G [rv_ x0, .int x1] σ) (QV_ G post) 0 0 (FR_ G) := by
  refine Met.ofW (cc := cJ3_ensureCapacityInternal) (maxL := 3) (ret := none) (by decide) rfl ?_
  intro p e s m args below meth c s₁ B hml hv
  obtain ⟨rfl, hP, hW⟩ := hv
  have hts := atoms_spec (ws := ws_ yJ3_ensureCapacityInternal cJ3_ensureCapacityInternal 3 none) B.pre
  have hts : ∀ w ∈ lw_all, w.before _ s = true := fun w h => hts w (List.mem_cons_of_mem _ h)
  rw [lg_entry_eq]
  have hl := en_entry [rv_ x0, .int x1] [1, 1] (n := 3) (ca_r (ca_i ca_n)) (by decide)
  exact sJ3_ensureCapacityInternal ⟨⟨⟨B.exec, B.bytes, hml, findClass_of_methodNamed B.named, hts⟩, hW, hG⟩, B.notSynchronized, B.returns, Nat.le_refl _, Nat.le_refl _, ⟨rfl, rfl⟩, (name_of_methodNamed B.named B.method).1⟩ hf _ _ _ _ _ hP (LO_nil G) ⟨rfl, rfl⟩ hl
abbrev cJ3_inflateIfNeededFor : ByteArray := prog_13_method_71_code
def yJ3_inflateIfNeededFor : MethodName := ⟨RJ3, "inflateIfNeededFor", "(Ljava/lang/String;)V"⟩
theorem dJ3_inflateIfNeededFor_0 : decode cJ3_inflateIfNeededFor 0 = .ok (.getstatic 18, 3) := by decide +kernel
theorem dJ3_inflateIfNeededFor_3 : decode cJ3_inflateIfNeededFor 3 = .ok (.ifCond .eq 18, 3) := by decide +kernel
theorem dJ3_inflateIfNeededFor_6 : decode cJ3_inflateIfNeededFor 6 = .ok (.aload_n 0, 1) := by decide +kernel
theorem dJ3_inflateIfNeededFor_7 : decode cJ3_inflateIfNeededFor 7 = .ok (.getfield 22, 3) := by decide +kernel
theorem dJ3_inflateIfNeededFor_10 : decode cJ3_inflateIfNeededFor 10 = .ok (.aload_n 1, 1) := by decide +kernel
theorem dJ3_inflateIfNeededFor_11 : decode cJ3_inflateIfNeededFor 11 = .ok (.invokevirtual 40, 3) := by decide +kernel
theorem dJ3_inflateIfNeededFor_14 : decode cJ3_inflateIfNeededFor 14 = .ok (.if_icmp .eq 7, 3) := by decide +kernel
theorem dJ3_inflateIfNeededFor_17 : decode cJ3_inflateIfNeededFor 17 = .ok (.aload_n 0, 1) := by decide +kernel
theorem dJ3_inflateIfNeededFor_18 : decode cJ3_inflateIfNeededFor 18 = .ok (.invokevirtual 195, 3) := by decide +kernel
theorem dJ3_inflateIfNeededFor_21 : decode cJ3_inflateIfNeededFor 21 = .ok (.return_, 1) := by decide +kernel
/-- java/lang/AbstractStringBuilder.inflateIfNeededFor(Ljava/lang/String;)V -/
def wJ3_inflateIfNeededFor (x0 : Nat) (x1 : Nat) (σ : Hp) (post : Prop) : Prop :=
(((1 : Int32) = 0 →
  post) ∧
 (¬ (1 : Int32) = 0 →
  (tg_ σ x0 = 12 ∧ (tg_ σ x1 = 13 ∧ (wJ5_coder x1  σ (fun r4 => (((fI_ σ 11 1 x0) = r4 →
   post) ∧
  (¬ (fI_ σ 11 1 x0) = r4 →
   False))))))))
set_option maxHeartbeats 4000000 in
theorem sJ3_inflateIfNeededFor {G : GG_} {p : Program} {l : Launch} {e : Env} {R : Room} {s : State} {m : MethodId} {args : Array Value} {below : List Frame} {meth : Method} {c : Code} (Y : MX_ G p R s m args meth c cJ3_inflateIfNeededFor 2 RJ3 none 2 40 0 0 "inflateIfNeededFor") {post : Prop} {x0 : Nat} {x1 : Nat} {σ : Hp} (hf : wJ3_inflateIfNeededFor x0 x1 σ post) : WG_ G p l e R s m args below meth c (MQ below (QV_ G (fun τ => τ = σ ∧ post)) args s 0 0 (FR_ G)) BN_ 2 0 [(0, rv_ x0), (1, rv_ x1)] [] σ := by
  have ⟨X, hlk, hr, hRf, hRl, hRc, hnm⟩ := Y
  have ⟨⟨hx, hb, _, hown, hts⟩, _, _⟩ := X
  intro H locs cells slots ls hP hL hB hl
  obtain ⟨rfl, rfl⟩ := hB
  unfold wJ3_inflateIfNeededFor at hf
  refine p_gsC X hP q232 dJ3_inflateIfNeededFor_0 ?_
  refine lv_if_eq (tgt := 21) hx hb dJ3_inflateIfNeededFor_3 (by decide) (fun c1 => ?_) (fun c1 => ?_)
  · have hf := hf.1 c1
    exact p_vret X hlk hP hL (Nat.le_refl _) (Nat.le_refl _) hr dJ3_inflateIfNeededFor_21 ⟨rfl, hf⟩
  · have hf := hf.2 c1
    refine p_aload_n hx hb dJ3_inflateIfNeededFor_6 rfl (lv_at hl 0 rfl) ?_
    obtain ⟨ht2, hf⟩ := hf
    refine p_gI X cf11_ (k := 1) (by decide) rfl hP ht2 q242 (fun _ h => h) dJ3_inflateIfNeededFor_7 ?_
    refine p_aload_n hx hb dJ3_inflateIfNeededFor_10 rfl (lv_at hl 1 rfl) ?_
    obtain ⟨ht3, hf⟩ := hf
    refine p_calli hL (p_runV X cf12_ hP ht3 (metJ5_coder l G _ _ _ X.2.2 hf) (cwV 0 hts (lw_V q348 q336 q337 q96 q338) rfl rfl rfl (by decide +kernel) ⟨Nat.le_trans (Nat.le_of_ble_eq_true rfl) hRf, Nat.le_trans (Nat.le_of_ble_eq_true rfl) hRl⟩) rfl hl.1 rfl (by rw [(ca_i ca_n)]; decide) dJ3_inflateIfNeededFor_11 ⟨Nat.zero_le _, Nat.zero_le _⟩) (fun r4 σ₁ H locs hf hP hL => ?_)
    obtain ⟨e₁, hf⟩ := hf
    rw [e₁] at hP
    refine lv_icmp_eq (tgt := 21) hx hb dJ3_inflateIfNeededFor_14 (by decide) (fun c5 => ?_) (fun c5 => ?_)
    · have hf := hf.1 c5
      exact p_vret X hlk hP hL (Nat.le_refl _) (Nat.le_refl _) hr dJ3_inflateIfNeededFor_21 ⟨rfl, hf⟩
    · have hf := hf.2 c5
      refine p_aload_n hx hb dJ3_inflateIfNeededFor_17 rfl (lv_at hl 0 rfl) ?_
      exact hf.elim
set_option maxHeartbeats 4000000 in
theorem metJ3_inflateIfNeededFor (l : Launch) (G : GG_) (x0 : Nat) (x1 : Nat) (σ : Hp) (post : Prop) (hG : GOK_ G) (hf : wJ3_inflateIfNeededFor x0 x1 σ post) : Met l yJ3_inflateIfNeededFor (ws_ yJ3_inflateIfNeededFor cJ3_inflateIfNeededFor 2 none) { frames := 2, cells := 0, slots := 0, locals := 40 } (PC_ G [rv_ x0, rv_ x1] σ) (QV_ G (fun τ => τ = σ ∧ post)) 0 0 (FR_ G) := by
  refine Met.ofW (cc := cJ3_inflateIfNeededFor) (maxL := 2) (ret := none) (by decide) rfl ?_
  intro p e s m args below meth c s₁ B hml hv
  obtain ⟨rfl, hP, hW⟩ := hv
  have hts := atoms_spec (ws := ws_ yJ3_inflateIfNeededFor cJ3_inflateIfNeededFor 2 none) B.pre
  have hts : ∀ w ∈ lw_all, w.before _ s = true := fun w h => hts w (List.mem_cons_of_mem _ h)
  rw [lg_entry_eq]
  have hl := en_entry [rv_ x0, rv_ x1] [1, 1] (n := 2) (ca_r (ca_r ca_n)) (by decide)
  exact sJ3_inflateIfNeededFor ⟨⟨⟨B.exec, B.bytes, hml, findClass_of_methodNamed B.named, hts⟩, hW, hG⟩, B.notSynchronized, B.returns, Nat.le_refl _, Nat.le_refl _, ⟨rfl, rfl⟩, (name_of_methodNamed B.named B.method).1⟩ hf _ _ _ _ _ hP (LO_nil G) ⟨rfl, rfl⟩ hl
def RJ11 : String := "java/lang/StringLatin1"
abbrev cJ11_inflate : ByteArray := prog_21_method_50_code
def yJ11_inflate : MethodName := ⟨RJ11, "inflate", "([BI[BII)V"⟩
theorem dJ11_inflate_0 : decode cJ11_inflate 0 = .ok (.aload_n 0, 1) := by decide +kernel
theorem dJ11_inflate_1 : decode cJ11_inflate 1 = .ok (.iload_n 1, 1) := by decide +kernel
theorem dJ11_inflate_2 : decode cJ11_inflate 2 = .ok (.aload_n 2, 1) := by decide +kernel
theorem dJ11_inflate_3 : decode cJ11_inflate 3 = .ok (.iload_n 3, 1) := by decide +kernel
theorem dJ11_inflate_4 : decode cJ11_inflate 4 = .ok (.iload 4, 2) := by decide +kernel
theorem dJ11_inflate_6 : decode cJ11_inflate 6 = .ok (.invokestatic 240, 3) := by decide +kernel
theorem dJ11_inflate_9 : decode cJ11_inflate 9 = .ok (.return_, 1) := by decide +kernel
/-- java/lang/StringLatin1.inflate([BI[BII)V -/
def wJ11_inflate (x0 : Nat) (x1 : Int32) (x2 : Nat) (x3 : Int32) (x4 : Int32) (σ : Hp) (post : Prop) : Prop :=
False
set_option maxHeartbeats 4000000 in
theorem sJ11_inflate {G : GG_} {p : Program} {l : Launch} {e : Env} {R : Room} {s : State} {m : MethodId} {args : Array Value} {below : List Frame} {meth : Method} {c : Code} (Y : MX_ G p R s m args meth c cJ11_inflate 5 RJ11 none 1 28 0 0 "inflate") {post : Prop} {x0 : Nat} {x1 : Int32} {x2 : Nat} {x3 : Int32} {x4 : Int32} {σ : Hp} (hf : wJ11_inflate x0 x1 x2 x3 x4 σ post) : WG_ G p l e R s m args below meth c (MQ below (QV_ G (fun τ => τ = σ ∧ post)) args s 0 0 (FR_ G)) BN_ 5 0 [(0, rv_ x0), (1, .int x1), (2, rv_ x2), (3, .int x3), (4, .int x4)] [] σ := by
  have ⟨X, hlk, hr, hRf, hRl, hRc, hnm⟩ := Y
  have ⟨⟨hx, hb, _, hown, hts⟩, _, _⟩ := X
  intro H locs cells slots ls hP hL hB hl
  obtain ⟨rfl, rfl⟩ := hB
  unfold wJ11_inflate at hf
  refine p_aload_n hx hb dJ11_inflate_0 rfl (lv_at hl 0 rfl) ?_
  refine lv_iload_n hx hb dJ11_inflate_1 rfl (lv_at hl 1 rfl) ?_
  refine p_aload_n hx hb dJ11_inflate_2 rfl (lv_at hl 2 rfl) ?_
  refine lv_iload_n hx hb dJ11_inflate_3 rfl (lv_at hl 3 rfl) ?_
  refine lv_iload hx hb dJ11_inflate_4 (lv_at hl 4 rfl) ?_
  exact hf.elim
set_option maxHeartbeats 4000000 in
theorem metJ11_inflate (l : Launch) (G : GG_) (x0 : Nat) (x1 : Int32) (x2 : Nat) (x3 : Int32) (x4 : Int32) (σ : Hp) (post : Prop) (hG : GOK_ G) (hf : wJ11_inflate x0 x1 x2 x3 x4 σ post) : Met l yJ11_inflate (ws_ yJ11_inflate cJ11_inflate 5 none) { frames := 1, cells := 0, slots := 0, locals := 28 } (PC_ G [rv_ x0, .int x1, rv_ x2, .int x3, .int x4] σ) (QV_ G (fun τ => τ = σ ∧ post)) 0 0 (FR_ G) := by
  refine Met.ofW (cc := cJ11_inflate) (maxL := 5) (ret := none) (by decide) rfl ?_
  intro p e s m args below meth c s₁ B hml hv
  obtain ⟨rfl, hP, hW⟩ := hv
  have hts := atoms_spec (ws := ws_ yJ11_inflate cJ11_inflate 5 none) B.pre
  have hts : ∀ w ∈ lw_all, w.before _ s = true := fun w h => hts w (List.mem_cons_of_mem _ h)
  rw [lg_entry_eq]
  have hl := en_entry [rv_ x0, .int x1, rv_ x2, .int x3, .int x4] [1, 1, 1, 1, 1] (n := 5) (ca_r (ca_i (ca_r (ca_i (ca_i ca_n))))) (by decide)
  exact sJ11_inflate ⟨⟨⟨B.exec, B.bytes, hml, findClass_of_methodNamed B.named, hts⟩, hW, hG⟩, B.notSynchronized, B.returns, Nat.le_refl _, Nat.le_refl _, ⟨rfl, rfl⟩, (name_of_methodNamed B.named B.method).1⟩ hf _ _ _ _ _ hP (LO_nil G) ⟨rfl, rfl⟩ hl
abbrev cJ5_getBytes : ByteArray := prog_19_method_147_code
def yJ5_getBytes : MethodName := ⟨RJ5, "getBytes", "([BIB)V"⟩
theorem dJ5_getBytes_0 : decode cJ5_getBytes 0 = .ok (.aload_n 0, 1) := by decide +kernel
theorem dJ5_getBytes_1 : decode cJ5_getBytes 1 = .ok (.invokevirtual 335, 3) := by decide +kernel
theorem dJ5_getBytes_4 : decode cJ5_getBytes 4 = .ok (.iload_n 3, 1) := by decide +kernel
theorem dJ5_getBytes_5 : decode cJ5_getBytes 5 = .ok (.if_icmp .ne 23, 3) := by decide +kernel
theorem dJ5_getBytes_8 : decode cJ5_getBytes 8 = .ok (.aload_n 0, 1) := by decide +kernel
theorem dJ5_getBytes_9 : decode cJ5_getBytes 9 = .ok (.getfield 9, 3) := by decide +kernel
theorem dJ5_getBytes_12 : decode cJ5_getBytes 12 = .ok (.iconst 0, 1) := by decide +kernel
theorem dJ5_getBytes_13 : decode cJ5_getBytes 13 = .ok (.aload_n 1, 1) := by decide +kernel
theorem dJ5_getBytes_14 : decode cJ5_getBytes 14 = .ok (.iload_n 2, 1) := by decide +kernel
theorem dJ5_getBytes_15 : decode cJ5_getBytes 15 = .ok (.iload_n 3, 1) := by decide +kernel
theorem dJ5_getBytes_16 : decode cJ5_getBytes 16 = .ok (.ishl, 1) := by decide +kernel
theorem dJ5_getBytes_17 : decode cJ5_getBytes 17 = .ok (.aload_n 0, 1) := by decide +kernel
theorem dJ5_getBytes_18 : decode cJ5_getBytes 18 = .ok (.getfield 9, 3) := by decide +kernel
theorem dJ5_getBytes_21 : decode cJ5_getBytes 21 = .ok (.arraylength, 1) := by decide +kernel
theorem dJ5_getBytes_22 : decode cJ5_getBytes 22 = .ok (.invokestatic 212, 3) := by decide +kernel
theorem dJ5_getBytes_25 : decode cJ5_getBytes 25 = .ok (.goto 18, 3) := by decide +kernel
theorem dJ5_getBytes_28 : decode cJ5_getBytes 28 = .ok (.aload_n 0, 1) := by decide +kernel
theorem dJ5_getBytes_29 : decode cJ5_getBytes 29 = .ok (.getfield 9, 3) := by decide +kernel
theorem dJ5_getBytes_32 : decode cJ5_getBytes 32 = .ok (.iconst 0, 1) := by decide +kernel
theorem dJ5_getBytes_33 : decode cJ5_getBytes 33 = .ok (.aload_n 1, 1) := by decide +kernel
theorem dJ5_getBytes_34 : decode cJ5_getBytes 34 = .ok (.iload_n 2, 1) := by decide +kernel
theorem dJ5_getBytes_35 : decode cJ5_getBytes 35 = .ok (.aload_n 0, 1) := by decide +kernel
theorem dJ5_getBytes_36 : decode cJ5_getBytes 36 = .ok (.getfield 9, 3) := by decide +kernel
theorem dJ5_getBytes_39 : decode cJ5_getBytes 39 = .ok (.arraylength, 1) := by decide +kernel
theorem dJ5_getBytes_40 : decode cJ5_getBytes 40 = .ok (.invokestatic 106, 3) := by decide +kernel
theorem dJ5_getBytes_43 : decode cJ5_getBytes 43 = .ok (.return_, 1) := by decide +kernel
/-- java/lang/String.getBytes([BIB)V -/
def wJ5_getBytes (x0 : Nat) (x1 : Nat) (x2 : Int32) (x3 : Int32) (σ : Hp) (post : Hp → Prop) : Prop :=
(tg_ σ x0 = 13 ∧ (wJ5_coder x0  σ (fun r2 => ((¬ r2 = x3 →
  (tg_ σ (fR_ σ 12 0 x0) = 100 ∧ (wJ11_inflate (fR_ σ 12 0 x0) (0 : Int32) x1 x2 (nI (ln_ σ (fR_ σ 12 0 x0))) σ (post σ)))) ∧
 (r2 = x3 →
  (tg_ σ (fR_ σ 12 0 x0) = 100 ∧ (tg_ σ x1 = 100 ∧ (lo_ σ < x1 ∧ (¬ (0 : Int32) < 0 ∧ (¬ (x2 <<< (x3 &&& 31)) < 0 ∧ (¬ (nI (ln_ σ (fR_ σ 12 0 x0))) < 0 ∧ (((0 : Int32)).toNatClampNeg + ((nI (ln_ σ (fR_ σ 12 0 x0)))).toNatClampNeg ≤ ln_ σ (fR_ σ 12 0 x0) ∧ (((x2 <<< (x3 &&& 31))).toNatClampNeg + ((nI (ln_ σ (fR_ σ 12 0 x0)))).toNatClampNeg ≤ ln_ σ x1 ∧ ((∀ i, i < ((nI (ln_ σ (fR_ σ 12 0 x0)))).toNatClampNeg → fits .byte (.int (aI_ σ (fR_ σ 12 0 x0) (((0 : Int32)).toNatClampNeg + i))) = true) ∧ (∀ σ14, σ14 = cI_ σ (fR_ σ 12 0 x0) ((0 : Int32)).toNatClampNeg x1 ((x2 <<< (x3 &&& 31))).toNatClampNeg ((nI (ln_ σ (fR_ σ 12 0 x0)))).toNatClampNeg → post σ14)))))))))))))))
set_option maxHeartbeats 4000000 in
theorem sJ5_getBytes {G : GG_} {p : Program} {l : Launch} {e : Env} {R : Room} {s : State} {m : MethodId} {args : Array Value} {below : List Frame} {meth : Method} {c : Code} (Y : MX_ G p R s m args meth c cJ5_getBytes 4 RJ5 none 2 52 0 0 "getBytes") {post : Hp → Prop} {x0 : Nat} {x1 : Nat} {x2 : Int32} {x3 : Int32} {σ : Hp} (hf : wJ5_getBytes x0 x1 x2 x3 σ post) : WG_ G p l e R s m args below meth c (MQ below (QV_ G post) args s 0 0 (FR_ G)) BN_ 4 0 [(0, rv_ x0), (1, rv_ x1), (2, .int x2), (3, .int x3)] [] σ := by
  have ⟨X, hlk, hr, hRf, hRl, hRc, hnm⟩ := Y
  have ⟨⟨hx, hb, _, hown, hts⟩, _, _⟩ := X
  intro H locs cells slots ls hP hL hB hl
  obtain ⟨rfl, rfl⟩ := hB
  unfold wJ5_getBytes at hf
  refine p_aload_n hx hb dJ5_getBytes_0 rfl (lv_at hl 0 rfl) ?_
  obtain ⟨ht1, hf⟩ := hf
  refine p_calli hL (p_runV X cf12_ hP ht1 (metJ5_coder l G _ _ _ X.2.2 hf) (cwV 0 hts (lw_V q335 q336 q337 q96 q338) rfl rfl rfl (by decide +kernel) ⟨Nat.le_trans (Nat.le_of_ble_eq_true rfl) hRf, Nat.le_trans (Nat.le_of_ble_eq_true rfl) hRl⟩) rfl hl.1 rfl (by decide) dJ5_getBytes_1 ⟨Nat.zero_le _, Nat.zero_le _⟩) (fun r2 σ₁ H locs hf hP hL => ?_)
  obtain ⟨e₁, hf⟩ := hf
  rw [e₁] at hP
  refine lv_iload_n hx hb dJ5_getBytes_4 rfl (lv_at hl 3 rfl) ?_
  refine lv_icmp_ne (tgt := 28) hx hb dJ5_getBytes_5 (by decide) (fun c3 => ?_) (fun c3 => ?_)
  · have hf := hf.1 c3
    refine p_aload_n hx hb dJ5_getBytes_28 rfl (lv_at hl 0 rfl) ?_
    refine p_gR X cf12_ (k := 0) (by decide) rfl hP ht1 q424 (fun _ h => h) dJ5_getBytes_29 ?_
    refine lv_iconst (v := 0) hx hb dJ5_getBytes_32 (by decide) ?_
    refine p_aload_n hx hb dJ5_getBytes_33 rfl (lv_at hl 1 rfl) ?_
    refine lv_iload_n hx hb dJ5_getBytes_34 rfl (lv_at hl 2 rfl) ?_
    refine p_aload_n hx hb dJ5_getBytes_35 rfl (lv_at hl 0 rfl) ?_
    refine p_gR X cf12_ (k := 0) (by decide) rfl hP ht1 q424 (fun _ h => h) dJ5_getBytes_36 ?_
    obtain ⟨ht4, hf⟩ := hf
    refine p_alen X hP ht4 (by decide) (by decide) dJ5_getBytes_39 ?_
    refine p_callv hL (p_runS X hP (metJ11_inflate l G _ _ _ _ _ _ _ X.2.2 hf) (va_cwS 5 hts (lw_S q373 q354 q103 q355) rfl rfl rfl (by decide +kernel) ⟨Nat.le_trans (Nat.le_of_ble_eq_true rfl) hRf, Nat.le_trans (Nat.le_of_ble_eq_true rfl) hRl⟩) rfl hl.1 rfl (by decide) dJ5_getBytes_40 ⟨Nat.zero_le _, Nat.zero_le _⟩) (fun σ₁ H locs hf hP hL => ?_)
    obtain ⟨e₁, hf⟩ := hf
    rw [e₁] at hP
    exact p_vret X hlk hP hL (Nat.le_refl _) (Nat.le_refl _) hr dJ5_getBytes_43 hf
  · have hf := hf.2 c3
    refine p_aload_n hx hb dJ5_getBytes_8 rfl (lv_at hl 0 rfl) ?_
    refine p_gR X cf12_ (k := 0) (by decide) rfl hP ht1 q424 (fun _ h => h) dJ5_getBytes_9 ?_
    refine lv_iconst (v := 0) hx hb dJ5_getBytes_12 (by decide) ?_
    refine p_aload_n hx hb dJ5_getBytes_13 rfl (lv_at hl 1 rfl) ?_
    refine lv_iload_n hx hb dJ5_getBytes_14 rfl (lv_at hl 2 rfl) ?_
    refine lv_iload_n hx hb dJ5_getBytes_15 rfl (lv_at hl 3 rfl) ?_
    refine lv_ishl hx hb dJ5_getBytes_16 ?_
    refine p_aload_n hx hb dJ5_getBytes_17 rfl (lv_at hl 0 rfl) ?_
    refine p_gR X cf12_ (k := 0) (by decide) rfl hP ht1 q424 (fun _ h => h) dJ5_getBytes_18 ?_
    obtain ⟨ht5, hf⟩ := hf
    refine p_alen X hP ht5 (by decide) (by decide) dJ5_getBytes_21 ?_
    obtain ⟨ht6, hf⟩ := hf
    obtain ⟨ha7, hf⟩ := hf
    obtain ⟨ha8, hf⟩ := hf
    obtain ⟨ha9, hf⟩ := hf
    obtain ⟨ha10, hf⟩ := hf
    obtain ⟨ha11, hf⟩ := hf
    obtain ⟨ha12, hf⟩ := hf
    obtain ⟨ha13, hf⟩ := hf
    refine p_acpB X hP hL ht5 ht6 ha7 ha8 ha9 ha10 ha11 ha12 ha13 q372 q299 q298 q101 hl.1 (Nat.le_trans (by decide) hRf) (by decide) (Nat.le_trans (by decide) hRl) dJ5_getBytes_22 (fun H locs hP hL => ?_)
    refine p_nmP hP (fun σ14 hσ14 hP => ?_)
    have hf := hf σ14 hσ14
    have ht1 : tg_ σ14 x0 = 13 := by rw [hσ14]; exact ht1
    have ht6 : tg_ σ14 x1 = 100 := by rw [hσ14]; exact ht6
    refine lv_goto (tgt := 43) hx hb dJ5_getBytes_25 (by decide) ?_
    exact p_vret X hlk hP hL (Nat.le_refl _) (Nat.le_refl _) hr dJ5_getBytes_43 hf
set_option maxHeartbeats 4000000 in
theorem metJ5_getBytes (l : Launch) (G : GG_) (x0 : Nat) (x1 : Nat) (x2 : Int32) (x3 : Int32) (σ : Hp) (post : Hp → Prop) (hG : GOK_ G) (hf : wJ5_getBytes x0 x1 x2 x3 σ post) : Met l yJ5_getBytes (ws_ yJ5_getBytes cJ5_getBytes 4 none) { frames := 2, cells := 0, slots := 0, locals := 52 } (PC_ G [rv_ x0, rv_ x1, .int x2, .int x3] σ) (QV_ G post) 0 0 (FR_ G) := by
  refine Met.ofW (cc := cJ5_getBytes) (maxL := 4) (ret := none) (by decide) rfl ?_
  intro p e s m args below meth c s₁ B hml hv
  obtain ⟨rfl, hP, hW⟩ := hv
  have hts := atoms_spec (ws := ws_ yJ5_getBytes cJ5_getBytes 4 none) B.pre
  have hts : ∀ w ∈ lw_all, w.before _ s = true := fun w h => hts w (List.mem_cons_of_mem _ h)
  rw [lg_entry_eq]
  have hl := en_entry [rv_ x0, rv_ x1, .int x2, .int x3] [1, 1, 1, 1] (n := 4) (ca_r (ca_r (ca_i (ca_i ca_n)))) (by decide)
  exact sJ5_getBytes ⟨⟨⟨B.exec, B.bytes, hml, findClass_of_methodNamed B.named, hts⟩, hW, hG⟩, B.notSynchronized, B.returns, Nat.le_refl _, Nat.le_refl _, ⟨rfl, rfl⟩, (name_of_methodNamed B.named B.method).1⟩ hf _ _ _ _ _ hP (LO_nil G) ⟨rfl, rfl⟩ hl
abbrev cJ3_putStringAt : ByteArray := prog_13_method_73_code
def yJ3_putStringAt : MethodName := ⟨RJ3, "putStringAt", "(ILjava/lang/String;)V"⟩
theorem dJ3_putStringAt_0 : decode cJ3_putStringAt 0 = .ok (.aload_n 0, 1) := by decide +kernel
theorem dJ3_putStringAt_1 : decode cJ3_putStringAt 1 = .ok (.aload_n 2, 1) := by decide +kernel
theorem dJ3_putStringAt_2 : decode cJ3_putStringAt 2 = .ok (.invokevirtual 397, 3) := by decide +kernel
theorem dJ3_putStringAt_5 : decode cJ3_putStringAt 5 = .ok (.aload_n 2, 1) := by decide +kernel
theorem dJ3_putStringAt_6 : decode cJ3_putStringAt 6 = .ok (.aload_n 0, 1) := by decide +kernel
theorem dJ3_putStringAt_7 : decode cJ3_putStringAt 7 = .ok (.getfield 15, 3) := by decide +kernel
theorem dJ3_putStringAt_10 : decode cJ3_putStringAt 10 = .ok (.iload_n 1, 1) := by decide +kernel
theorem dJ3_putStringAt_11 : decode cJ3_putStringAt 11 = .ok (.aload_n 0, 1) := by decide +kernel
theorem dJ3_putStringAt_12 : decode cJ3_putStringAt 12 = .ok (.getfield 22, 3) := by decide +kernel
theorem dJ3_putStringAt_15 : decode cJ3_putStringAt 15 = .ok (.invokevirtual 399, 3) := by decide +kernel
theorem dJ3_putStringAt_18 : decode cJ3_putStringAt 18 = .ok (.return_, 1) := by decide +kernel
/-- java/lang/AbstractStringBuilder.putStringAt(ILjava/lang/String;)V -/
def wJ3_putStringAt (x0 : Nat) (x1 : Int32) (x2 : Nat) (σ : Hp) (post : Hp → Prop) : Prop :=
(tg_ σ x0 = 12 ∧ (wJ3_inflateIfNeededFor x0 x2 σ ((tg_ σ x2 = 13 ∧ (wJ5_getBytes x2 (fR_ σ 11 0 x0) x1 (fI_ σ 11 1 x0) σ (fun σ3 => post σ3))))))
set_option maxHeartbeats 4000000 in
theorem sJ3_putStringAt {G : GG_} {p : Program} {l : Launch} {e : Env} {R : Room} {s : State} {m : MethodId} {args : Array Value} {below : List Frame} {meth : Method} {c : Code} (Y : MX_ G p R s m args meth c cJ3_putStringAt 3 RJ3 none 3 75 0 0 "putStringAt") {post : Hp → Prop} {x0 : Nat} {x1 : Int32} {x2 : Nat} {σ : Hp} (hf : wJ3_putStringAt x0 x1 x2 σ post) : WG_ G p l e R s m args below meth c (MQ below (QV_ G post) args s 0 0 (FR_ G)) BN_ 3 0 [(0, rv_ x0), (1, .int x1), (2, rv_ x2)] [] σ := by
  have ⟨X, hlk, hr, hRf, hRl, hRc, hnm⟩ := Y
  have ⟨⟨hx, hb, _, hown, hts⟩, _, _⟩ := X
  intro H locs cells slots ls hP hL hB hl
  obtain ⟨rfl, rfl⟩ := hB
  unfold wJ3_putStringAt at hf
  refine p_aload_n hx hb dJ3_putStringAt_0 rfl (lv_at hl 0 rfl) ?_
  refine p_aload_n hx hb dJ3_putStringAt_1 rfl (lv_at hl 2 rfl) ?_
  obtain ⟨ht1, hf⟩ := hf
  refine p_callv hL (p_runV X cf11_ hP ht1 (metJ3_inflateIfNeededFor l G _ _ _ _ X.2.2 hf) ⟨callB_of 1 hts (lw_meth q347) rfl rfl rfl (hts _ q94) (hts _ q344) (by decide +kernel) ⟨Nat.le_trans (Nat.le_of_ble_eq_true rfl) hRf, Nat.le_trans (Nat.le_of_ble_eq_true rfl) hRl⟩, hts _ q346, (p_selP X ⟨by decide, by decide⟩ q303 rfl q224 q345 q346)⟩ rfl hl.1 rfl (by decide) dJ3_putStringAt_2 ⟨Nat.zero_le _, Nat.zero_le _⟩) (fun σ₁ H locs hf hP hL => ?_)
  obtain ⟨e₁, hf⟩ := hf
  rw [e₁] at hP
  refine p_aload_n hx hb dJ3_putStringAt_5 rfl (lv_at hl 2 rfl) ?_
  refine p_aload_n hx hb dJ3_putStringAt_6 rfl (lv_at hl 0 rfl) ?_
  refine p_gR X cf11_ (k := 0) (by decide) rfl hP ht1 q241 (fun _ h => h) dJ3_putStringAt_7 ?_
  refine lv_iload_n hx hb dJ3_putStringAt_10 rfl (lv_at hl 1 rfl) ?_
  refine p_aload_n hx hb dJ3_putStringAt_11 rfl (lv_at hl 0 rfl) ?_
  refine p_gI X cf11_ (k := 1) (by decide) rfl hP ht1 q242 (fun _ h => h) dJ3_putStringAt_12 ?_
  obtain ⟨ht2, hf⟩ := hf
  refine p_callv hL (p_runV X cf12_ hP ht2 (metJ5_getBytes l G _ _ _ _ _ _ X.2.2 hf) (cwV 3 hts (lw_V q368 q369 q370 q96 q371) rfl rfl rfl (by decide +kernel) ⟨Nat.le_trans (Nat.le_of_ble_eq_true rfl) hRf, Nat.le_trans (Nat.le_of_ble_eq_true rfl) hRl⟩) rfl hl.1 rfl (by decide) dJ3_putStringAt_15 ⟨Nat.zero_le _, Nat.zero_le _⟩) (fun σ3 H locs hf hP hL => ?_)
  exact p_vret X hlk hP hL (Nat.le_refl _) (Nat.le_refl _) hr dJ3_putStringAt_18 hf
set_option maxHeartbeats 4000000 in
theorem metJ3_putStringAt (l : Launch) (G : GG_) (x0 : Nat) (x1 : Int32) (x2 : Nat) (σ : Hp) (post : Hp → Prop) (hG : GOK_ G) (hf : wJ3_putStringAt x0 x1 x2 σ post) : Met l yJ3_putStringAt (ws_ yJ3_putStringAt cJ3_putStringAt 3 none) { frames := 3, cells := 0, slots := 0, locals := 75 } (PC_ G [rv_ x0, .int x1, rv_ x2] σ) (QV_ G post) 0 0 (FR_ G) := by
  refine Met.ofW (cc := cJ3_putStringAt) (maxL := 3) (ret := none) (by decide) rfl ?_
  intro p e s m args below meth c s₁ B hml hv
  obtain ⟨rfl, hP, hW⟩ := hv
  have hts := atoms_spec (ws := ws_ yJ3_putStringAt cJ3_putStringAt 3 none) B.pre
  have hts : ∀ w ∈ lw_all, w.before _ s = true := fun w h => hts w (List.mem_cons_of_mem _ h)
  rw [lg_entry_eq]
  have hl := en_entry [rv_ x0, .int x1, rv_ x2] [1, 1, 1] (n := 3) (ca_r (ca_i (ca_r ca_n))) (by decide)
  exact sJ3_putStringAt ⟨⟨⟨B.exec, B.bytes, hml, findClass_of_methodNamed B.named, hts⟩, hW, hG⟩, B.notSynchronized, B.returns, Nat.le_refl _, Nat.le_refl _, ⟨rfl, rfl⟩, (name_of_methodNamed B.named B.method).1⟩ hf _ _ _ _ _ hP (LO_nil G) ⟨rfl, rfl⟩ hl
abbrev cJ3_append : ByteArray := prog_13_method_22_code
def yJ3_append : MethodName := ⟨RJ3, "append", "(Ljava/lang/String;)Ljava/lang/AbstractStringBuilder;"⟩
theorem dJ3_append_0 : decode cJ3_append 0 = .ok (.aload_n 1, 1) := by decide +kernel
theorem dJ3_append_1 : decode cJ3_append 1 = .ok (.ifnonnull 8, 3) := by decide +kernel
theorem dJ3_append_4 : decode cJ3_append 4 = .ok (.aload_n 0, 1) := by decide +kernel
theorem dJ3_append_5 : decode cJ3_append 5 = .ok (.invokevirtual 204, 3) := by decide +kernel
theorem dJ3_append_8 : decode cJ3_append 8 = .ok (.areturn, 1) := by decide +kernel
theorem dJ3_append_9 : decode cJ3_append 9 = .ok (.aload_n 1, 1) := by decide +kernel
theorem dJ3_append_10 : decode cJ3_append 10 = .ok (.invokevirtual 32, 3) := by decide +kernel
theorem dJ3_append_13 : decode cJ3_append 13 = .ok (.istore_n 2, 1) := by decide +kernel
theorem dJ3_append_14 : decode cJ3_append 14 = .ok (.aload_n 0, 1) := by decide +kernel
theorem dJ3_append_15 : decode cJ3_append 15 = .ok (.aload_n 0, 1) := by decide +kernel
theorem dJ3_append_16 : decode cJ3_append 16 = .ok (.getfield 79, 3) := by decide +kernel
theorem dJ3_append_19 : decode cJ3_append 19 = .ok (.iload_n 2, 1) := by decide +kernel
theorem dJ3_append_20 : decode cJ3_append 20 = .ok (.iadd, 1) := by decide +kernel
theorem dJ3_append_21 : decode cJ3_append 21 = .ok (.invokevirtual 100, 3) := by decide +kernel
theorem dJ3_append_24 : decode cJ3_append 24 = .ok (.aload_n 0, 1) := by decide +kernel
theorem dJ3_append_25 : decode cJ3_append 25 = .ok (.aload_n 0, 1) := by decide +kernel
theorem dJ3_append_26 : decode cJ3_append 26 = .ok (.getfield 79, 3) := by decide +kernel
theorem dJ3_append_29 : decode cJ3_append 29 = .ok (.aload_n 1, 1) := by decide +kernel
theorem dJ3_append_30 : decode cJ3_append 30 = .ok (.invokevirtual 208, 3) := by decide +kernel
theorem dJ3_append_33 : decode cJ3_append 33 = .ok (.aload_n 0, 1) := by decide +kernel
theorem dJ3_append_34 : decode cJ3_append 34 = .ok (.dup, 1) := by decide +kernel
theorem dJ3_append_35 : decode cJ3_append 35 = .ok (.getfield 79, 3) := by decide +kernel
theorem dJ3_append_38 : decode cJ3_append 38 = .ok (.iload_n 2, 1) := by decide +kernel
theorem dJ3_append_39 : decode cJ3_append 39 = .ok (.iadd, 1) := by decide +kernel
theorem dJ3_append_40 : decode cJ3_append 40 = .ok (.putfield 79, 3) := by decide +kernel
theorem dJ3_append_43 : decode cJ3_append 43 = .ok (.aload_n 0, 1) := by decide +kernel
theorem dJ3_append_44 : decode cJ3_append 44 = .ok (.areturn, 1) := by decide +kernel
/-- java/lang/AbstractStringBuilder.append(Ljava/lang/String;)Ljava/lang/AbstractStringBuilder; -/
def wJ3_append (x0 : Nat) (x1 : Nat) (σ : Hp) (post : Nat → Hp → Prop) : Prop :=
((¬ x1 = 0 →
  (tg_ σ x1 = 13 ∧ (wJ5_length x1  σ (fun r3 => (tg_ σ x0 = 12 ∧ (wJ3_ensureCapacityInternal x0 ((fI_ σ 11 3 x0) + r3) σ (fun σ5 => (tg_ σ5 x0 = 12 ∧ (wJ3_putStringAt x0 (fI_ σ5 11 3 x0) x1 σ5 (fun σ7 => (tg_ σ7 x0 = 12 ∧ (∀ σ9, σ9 = sI_ σ7 11 3 x0 ((fI_ σ7 11 3 x0) + r3) → post x0 σ9)))))))))))) ∧
 (x1 = 0 →
  False))
set_option maxHeartbeats 4000000 in
theorem sJ3_append {G : GG_} {p : Program} {l : Launch} {e : Env} {R : Room} {s : State} {m : MethodId} {args : Array Value} {below : List Frame} {meth : Method} {c : Code} (Y : MX_ G p R s m args meth c cJ3_append 3 RJ3 (some ((Jvm.ClassFile.FieldType.object "java/lang/AbstractStringBuilder"))) 4 97 0 0 "append") {post : Nat → Hp → Prop} {x0 : Nat} {x1 : Nat} {σ : Hp} (hf : wJ3_append x0 x1 σ post) : WG_ G p l e R s m args below meth c (MQ below (QR_ G post) args s 0 0 (FR_ G)) BN_ 3 0 [(0, rv_ x0), (1, rv_ x1)] [] σ := by
  have ⟨X, hlk, hr, hRf, hRl, hRc, hnm⟩ := Y
  have ⟨⟨hx, hb, _, hown, hts⟩, _, _⟩ := X
  intro H locs cells slots ls hP hL hB hl
  obtain ⟨rfl, rfl⟩ := hB
  unfold wJ3_append at hf
  refine p_aload_n hx hb dJ3_append_0 rfl (lv_at hl 1 rfl) ?_
  refine p_ifnonnull (tgt := 9) hx hb dJ3_append_1 (by decide) (fun c1 => ?_) (fun c1 => ?_)
  · have hf := hf.1 c1
    refine p_aload_n hx hb dJ3_append_9 rfl (lv_at hl 1 rfl) ?_
    obtain ⟨ht2, hf⟩ := hf
    refine p_calli hL (p_runV X cf12_ hP ht2 (metJ5_length l G _ _ _ X.2.2 hf) (cwV 0 hts (lw_V q331 q332 q333 q96 q334) rfl rfl rfl (by decide +kernel) ⟨Nat.le_trans (Nat.le_of_ble_eq_true rfl) hRf, Nat.le_trans (Nat.le_of_ble_eq_true rfl) hRl⟩) rfl hl.1 rfl (by decide) dJ3_append_10 ⟨Nat.zero_le _, Nat.zero_le _⟩) (fun r3 σ₁ H locs hf hP hL => ?_)
    obtain ⟨e₁, hf⟩ := hf
    rw [e₁] at hP
    refine p_istore_n (i := 2) hx hb dJ3_append_13 rfl hl (by decide) ⟨⟨ne_ rfl, Or.inl (ne_ rfl)⟩, ⟨⟨ne_ rfl, Or.inr (rv_cat _)⟩, trivial⟩⟩ (fun ls hl => ?_)
    refine p_aload_n hx hb dJ3_append_14 rfl (lv_at hl 1 rfl) ?_
    refine p_aload_n hx hb dJ3_append_15 rfl (lv_at hl 1 rfl) ?_
    obtain ⟨ht4, hf⟩ := hf
    refine p_gI X cf11_ (k := 3) (by decide) rfl hP ht4 q244 (fun _ h => h) dJ3_append_16 ?_
    refine lv_iload_n hx hb dJ3_append_19 rfl (lv_at hl 0 rfl) ?_
    refine lv_iadd hx hb dJ3_append_20 ?_
    refine p_callv hL (p_runV X cf11_ hP ht4 (metJ3_ensureCapacityInternal l G _ _ _ _ X.2.2 hf) ⟨callB_of 1 hts (lw_meth q268) rfl rfl rfl (hts _ q94) (hts _ q265) (by decide +kernel) ⟨Nat.le_trans (Nat.le_of_ble_eq_true rfl) hRf, Nat.le_trans (Nat.le_of_ble_eq_true rfl) hRl⟩, hts _ q267, (p_selP X ⟨by decide, by decide⟩ q303 rfl q224 q266 q267)⟩ rfl hl.1 rfl (by decide) dJ3_append_21 ⟨Nat.zero_le _, Nat.zero_le _⟩) (fun σ5 H locs hf hP hL => ?_)
    refine p_aload_n hx hb dJ3_append_24 rfl (lv_at hl 1 rfl) ?_
    refine p_aload_n hx hb dJ3_append_25 rfl (lv_at hl 1 rfl) ?_
    obtain ⟨ht6, hf⟩ := hf
    refine p_gI X cf11_ (k := 3) (by decide) rfl hP ht6 q244 (fun _ h => h) dJ3_append_26 ?_
    refine p_aload_n hx hb dJ3_append_29 rfl (lv_at hl 2 rfl) ?_
    refine p_callv hL (p_runV X cf11_ hP ht6 (metJ3_putStringAt l G _ _ _ _ _ X.2.2 hf) ⟨callB_of 2 hts (lw_meth q343) rfl rfl rfl (hts _ q94) (hts _ q340) (by decide +kernel) ⟨Nat.le_trans (Nat.le_of_ble_eq_true rfl) hRf, Nat.le_trans (Nat.le_of_ble_eq_true rfl) hRl⟩, hts _ q342, (p_selP X ⟨by decide, by decide⟩ q303 rfl q224 q341 q342)⟩ rfl hl.1 rfl (by decide) dJ3_append_30 ⟨Nat.zero_le _, Nat.zero_le _⟩) (fun σ7 H locs hf hP hL => ?_)
    refine p_aload_n hx hb dJ3_append_33 rfl (lv_at hl 1 rfl) ?_
    refine lv_dup hx hb dJ3_append_34 (rv_cat _) ?_
    obtain ⟨ht8, hf⟩ := hf
    refine p_gI X cf11_ (k := 3) (by decide) rfl hP ht8 q244 (fun _ h => h) dJ3_append_35 ?_
    refine lv_iload_n hx hb dJ3_append_38 rfl (lv_at hl 0 rfl) ?_
    refine lv_iadd hx hb dJ3_append_39 ?_
    refine p_pI X cf11_ (k := 3) (by decide) rfl hP hL ht8 (p_ow hP ht8 rfl) q244 (fun _ h => h) (Or.inl rfl) rfl rfl dJ3_append_40 (fun H locs hP hL => ?_)
    refine p_nmP hP (fun σ9 hσ9 hP => ?_)
    have hf := hf σ9 hσ9
    have ht8 : tg_ σ9 x0 = 12 := by rw [hσ9]; exact ht8
    refine p_aload_n hx hb dJ3_append_43 rfl (lv_at hl 1 rfl) ?_
    exact p_aret X hlk hP hL (Nat.le_refl _) (Nat.le_refl _) hr (Or.inl ⟨_, rfl⟩) dJ3_append_44 hf
  · have hf := hf.2 c1
    refine p_aload_n hx hb dJ3_append_4 rfl (lv_at hl 0 rfl) ?_
    exact hf.elim
set_option maxHeartbeats 4000000 in
theorem metJ3_append (l : Launch) (G : GG_) (x0 : Nat) (x1 : Nat) (σ : Hp) (post : Nat → Hp → Prop) (hG : GOK_ G) (hf : wJ3_append x0 x1 σ post) : Met l yJ3_append (ws_ yJ3_append cJ3_append 3 (some ((Jvm.ClassFile.FieldType.object "java/lang/AbstractStringBuilder")))) { frames := 4, cells := 0, slots := 0, locals := 97 } (PC_ G [rv_ x0, rv_ x1] σ) (QR_ G post) 0 0 (FR_ G) := by
  refine Met.ofW (cc := cJ3_append) (maxL := 3) (ret := (some ((Jvm.ClassFile.FieldType.object "java/lang/AbstractStringBuilder")))) (by decide) rfl ?_
  intro p e s m args below meth c s₁ B hml hv
  obtain ⟨rfl, hP, hW⟩ := hv
  have hts := atoms_spec (ws := ws_ yJ3_append cJ3_append 3 (some ((Jvm.ClassFile.FieldType.object "java/lang/AbstractStringBuilder")))) B.pre
  have hts : ∀ w ∈ lw_all, w.before _ s = true := fun w h => hts w (List.mem_cons_of_mem _ h)
  rw [lg_entry_eq]
  have hl := en_entry [rv_ x0, rv_ x1] [1, 1] (n := 3) (ca_r (ca_r ca_n)) (by decide)
  exact sJ3_append ⟨⟨⟨B.exec, B.bytes, hml, findClass_of_methodNamed B.named, hts⟩, hW, hG⟩, B.notSynchronized, B.returns, Nat.le_refl _, Nat.le_refl _, ⟨rfl, rfl⟩, (name_of_methodNamed B.named B.method).1⟩ hf _ _ _ _ _ hP (LO_nil G) ⟨rfl, rfl⟩ hl
abbrev cJ4_append : ByteArray := prog_20_method_7_code
def yJ4_append : MethodName := ⟨RJ4, "append", "(Ljava/lang/String;)Ljava/lang/StringBuilder;"⟩
theorem dJ4_append_0 : decode cJ4_append 0 = .ok (.aload_n 0, 1) := by decide +kernel
theorem dJ4_append_1 : decode cJ4_append 1 = .ok (.aload_n 1, 1) := by decide +kernel
theorem dJ4_append_2 : decode cJ4_append 2 = .ok (.invokespecial 29, 3) := by decide +kernel
theorem dJ4_append_5 : decode cJ4_append 5 = .ok (.pop, 1) := by decide +kernel
theorem dJ4_append_6 : decode cJ4_append 6 = .ok (.aload_n 0, 1) := by decide +kernel
theorem dJ4_append_7 : decode cJ4_append 7 = .ok (.areturn, 1) := by decide +kernel
/-- java/lang/StringBuilder.append(Ljava/lang/String;)Ljava/lang/StringBuilder; -/
def wJ4_append (x0 : Nat) (x1 : Nat) (σ : Hp) (post : Nat → Hp → Prop) : Prop :=
(tg_ σ x0 = 12 ∧ (wJ3_append x0 x1 σ (fun r2 σ3 => post x0 σ3)))
set_option maxHeartbeats 4000000 in
theorem sJ4_append {G : GG_} {p : Program} {l : Launch} {e : Env} {R : Room} {s : State} {m : MethodId} {args : Array Value} {below : List Frame} {meth : Method} {c : Code} (Y : MX_ G p R s m args meth c cJ4_append 2 RJ4 (some ((Jvm.ClassFile.FieldType.object "java/lang/StringBuilder"))) 5 119 0 0 "append") {post : Nat → Hp → Prop} {x0 : Nat} {x1 : Nat} {σ : Hp} (hf : wJ4_append x0 x1 σ post) : WG_ G p l e R s m args below meth c (MQ below (QR_ G post) args s 0 0 (FR_ G)) BN_ 2 0 [(0, rv_ x0), (1, rv_ x1)] [] σ := by
  have ⟨X, hlk, hr, hRf, hRl, hRc, hnm⟩ := Y
  have ⟨⟨hx, hb, _, hown, hts⟩, _, _⟩ := X
  intro H locs cells slots ls hP hL hB hl
  obtain ⟨rfl, rfl⟩ := hB
  unfold wJ4_append at hf
  refine p_aload_n hx hb dJ4_append_0 rfl (lv_at hl 0 rfl) ?_
  refine p_aload_n hx hb dJ4_append_1 rfl (lv_at hl 1 rfl) ?_
  obtain ⟨ht1, hf⟩ := hf
  refine p_callr hL (p_runSU X cf11_ hP ht1 (metJ3_append l G _ _ _ _ X.2.2 hf) (va_cwSU 1 hts (lw_app (lw_5 q258 q1703 q253 q259 q94) (lw_meth q260)) rfl rfl rfl (by decide +kernel) ⟨Nat.le_trans (Nat.le_of_ble_eq_true rfl) hRf, Nat.le_trans (Nat.le_of_ble_eq_true rfl) hRl⟩) rfl hl.1 rfl (by decide) dJ4_append_2 ⟨Nat.zero_le _, Nat.zero_le _⟩) (fun r2 σ3 H locs hf hP hL => ?_)
  refine lv_pop hx hb dJ4_append_5 (rv_cat _) ?_
  refine p_aload_n hx hb dJ4_append_6 rfl (lv_at hl 0 rfl) ?_
  exact p_aret X hlk hP hL (Nat.le_refl _) (Nat.le_refl _) hr (Or.inl ⟨_, rfl⟩) dJ4_append_7 hf
set_option maxHeartbeats 4000000 in
theorem metJ4_append (l : Launch) (G : GG_) (x0 : Nat) (x1 : Nat) (σ : Hp) (post : Nat → Hp → Prop) (hG : GOK_ G) (hf : wJ4_append x0 x1 σ post) : Met l yJ4_append (ws_ yJ4_append cJ4_append 2 (some ((Jvm.ClassFile.FieldType.object "java/lang/StringBuilder")))) { frames := 5, cells := 0, slots := 0, locals := 119 } (PC_ G [rv_ x0, rv_ x1] σ) (QR_ G post) 0 0 (FR_ G) := by
  refine Met.ofW (cc := cJ4_append) (maxL := 2) (ret := (some ((Jvm.ClassFile.FieldType.object "java/lang/StringBuilder")))) (by decide) rfl ?_
  intro p e s m args below meth c s₁ B hml hv
  obtain ⟨rfl, hP, hW⟩ := hv
  have hts := atoms_spec (ws := ws_ yJ4_append cJ4_append 2 (some ((Jvm.ClassFile.FieldType.object "java/lang/StringBuilder")))) B.pre
  have hts : ∀ w ∈ lw_all, w.before _ s = true := fun w h => hts w (List.mem_cons_of_mem _ h)
  rw [lg_entry_eq]
  have hl := en_entry [rv_ x0, rv_ x1] [1, 1] (n := 2) (ca_r (ca_r ca_n)) (by decide)
  exact sJ4_append ⟨⟨⟨B.exec, B.bytes, hml, findClass_of_methodNamed B.named, hts⟩, hW, hG⟩, B.notSynchronized, B.returns, Nat.le_refl _, Nat.le_refl _, ⟨rfl, rfl⟩, (name_of_methodNamed B.named B.method).1⟩ hf _ _ _ _ _ hP (LO_nil G) ⟨rfl, rfl⟩ hl
abbrev cJ3_isLatin1 : ByteArray := prog_13_method_68_code
def yJ3_isLatin1 : MethodName := ⟨RJ3, "isLatin1", "()Z"⟩
theorem dJ3_isLatin1_0 : decode cJ3_isLatin1 0 = .ok (.getstatic 18, 3) := by decide +kernel
theorem dJ3_isLatin1_3 : decode cJ3_isLatin1 3 = .ok (.ifCond .eq 14, 3) := by decide +kernel
theorem dJ3_isLatin1_6 : decode cJ3_isLatin1 6 = .ok (.aload_n 0, 1) := by decide +kernel
theorem dJ3_isLatin1_7 : decode cJ3_isLatin1 7 = .ok (.getfield 22, 3) := by decide +kernel
theorem dJ3_isLatin1_10 : decode cJ3_isLatin1 10 = .ok (.ifCond .ne 7, 3) := by decide +kernel
theorem dJ3_isLatin1_13 : decode cJ3_isLatin1 13 = .ok (.iconst 1, 1) := by decide +kernel
theorem dJ3_isLatin1_14 : decode cJ3_isLatin1 14 = .ok (.goto 4, 3) := by decide +kernel
theorem dJ3_isLatin1_17 : decode cJ3_isLatin1 17 = .ok (.iconst 0, 1) := by decide +kernel
theorem dJ3_isLatin1_18 : decode cJ3_isLatin1 18 = .ok (.ireturn, 1) := by decide +kernel
/-- java/lang/AbstractStringBuilder.isLatin1()Z -/
def wJ3_isLatin1 (x0 : Nat) (σ : Hp) (post : Int32 → Prop) : Prop :=
(((1 : Int32) = 0 →
  post (0 : Int32)) ∧
 (¬ (1 : Int32) = 0 →
  (tg_ σ x0 = 12 ∧ ((¬ (fI_ σ 11 1 x0) = 0 →
   post (0 : Int32)) ∧
  ((fI_ σ 11 1 x0) = 0 →
   post (1 : Int32))))))
set_option maxHeartbeats 4000000 in
theorem sJ3_isLatin1 {G : GG_} {p : Program} {l : Launch} {e : Env} {R : Room} {s : State} {m : MethodId} {args : Array Value} {below : List Frame} {meth : Method} {c : Code} (Y : MX_ G p R s m args meth c cJ3_isLatin1 1 RJ3 (some Jvm.ClassFile.FieldType.boolean) 1 20 0 0 "isLatin1") {post : Int32 → Prop} {x0 : Nat} {σ : Hp} (hf : wJ3_isLatin1 x0 σ post) : WG_ G p l e R s m args below meth c (MQ below (QI_ G (fun r τ => τ = σ ∧ post r)) args s 0 0 (FR_ G)) BN_ 1 0 [(0, rv_ x0)] [] σ := by
  have ⟨X, hlk, hr, hRf, hRl, hRc, hnm⟩ := Y
  have ⟨⟨hx, hb, _, hown, hts⟩, _, _⟩ := X
  intro H locs cells slots ls hP hL hB hl
  obtain ⟨rfl, rfl⟩ := hB
  unfold wJ3_isLatin1 at hf
  refine p_gsC X hP q232 dJ3_isLatin1_0 ?_
  refine lv_if_eq (tgt := 17) hx hb dJ3_isLatin1_3 (by decide) (fun c1 => ?_) (fun c1 => ?_)
  · have hf := hf.1 c1
    refine lv_iconst (v := 0) hx hb dJ3_isLatin1_17 (by decide) ?_
    exact p_zret X hlk hP hL (Nat.le_refl _) (Nat.le_refl _) hr nr_0 dJ3_isLatin1_18 ⟨rfl, hf⟩
  · have hf := hf.2 c1
    refine p_aload_n hx hb dJ3_isLatin1_6 rfl (lv_at hl 0 rfl) ?_
    obtain ⟨ht2, hf⟩ := hf
    refine p_gI X cf11_ (k := 1) (by decide) rfl hP ht2 q242 (fun _ h => h) dJ3_isLatin1_7 ?_
    refine lv_if_ne (tgt := 17) hx hb dJ3_isLatin1_10 (by decide) (fun c3 => ?_) (fun c3 => ?_)
    · have hf := hf.1 c3
      refine lv_iconst (v := 0) hx hb dJ3_isLatin1_17 (by decide) ?_
      exact p_zret X hlk hP hL (Nat.le_refl _) (Nat.le_refl _) hr nr_0 dJ3_isLatin1_18 ⟨rfl, hf⟩
    · have hf := hf.2 c3
      refine lv_iconst (v := 1) hx hb dJ3_isLatin1_13 (by decide) ?_
      refine lv_goto (tgt := 18) hx hb dJ3_isLatin1_14 (by decide) ?_
      exact p_zret X hlk hP hL (Nat.le_refl _) (Nat.le_refl _) hr nr_1 dJ3_isLatin1_18 ⟨rfl, hf⟩
set_option maxHeartbeats 4000000 in
theorem metJ3_isLatin1 (l : Launch) (G : GG_) (x0 : Nat) (σ : Hp) (post : Int32 → Prop) (hG : GOK_ G) (hf : wJ3_isLatin1 x0 σ post) : Met l yJ3_isLatin1 (ws_ yJ3_isLatin1 cJ3_isLatin1 1 (some Jvm.ClassFile.FieldType.boolean)) { frames := 1, cells := 0, slots := 0, locals := 20 } (PC_ G [rv_ x0] σ) (QI_ G (fun r τ => τ = σ ∧ post r)) 0 0 (FR_ G) := by
  refine Met.ofW (cc := cJ3_isLatin1) (maxL := 1) (ret := (some Jvm.ClassFile.FieldType.boolean)) (by decide) rfl ?_
  intro p e s m args below meth c s₁ B hml hv
  obtain ⟨rfl, hP, hW⟩ := hv
  have hts := atoms_spec (ws := ws_ yJ3_isLatin1 cJ3_isLatin1 1 (some Jvm.ClassFile.FieldType.boolean)) B.pre
  have hts : ∀ w ∈ lw_all, w.before _ s = true := fun w h => hts w (List.mem_cons_of_mem _ h)
  rw [lg_entry_eq]
  have hl := en_entry [rv_ x0] [1] (n := 1) (ca_r ca_n) (by decide)
  exact sJ3_isLatin1 ⟨⟨⟨B.exec, B.bytes, hml, findClass_of_methodNamed B.named, hts⟩, hW, hG⟩, B.notSynchronized, B.returns, Nat.le_refl _, Nat.le_refl _, ⟨rfl, rfl⟩, (name_of_methodNamed B.named B.method).1⟩ hf _ _ _ _ _ hP (LO_nil G) ⟨rfl, rfl⟩ hl
abbrev cJ11_canEncode : ByteArray := prog_21_method_3_code
def yJ11_canEncode : MethodName := ⟨RJ11, "canEncode", "(C)Z"⟩
theorem dJ11_canEncode_0 : decode cJ11_canEncode 0 = .ok (.iload_n 0, 1) := by decide +kernel
theorem dJ11_canEncode_1 : decode cJ11_canEncode 1 = .ok (.sipush 255, 3) := by decide +kernel
theorem dJ11_canEncode_4 : decode cJ11_canEncode 4 = .ok (.if_icmp .gt 7, 3) := by decide +kernel
theorem dJ11_canEncode_7 : decode cJ11_canEncode 7 = .ok (.iconst 1, 1) := by decide +kernel
theorem dJ11_canEncode_8 : decode cJ11_canEncode 8 = .ok (.goto 4, 3) := by decide +kernel
theorem dJ11_canEncode_11 : decode cJ11_canEncode 11 = .ok (.iconst 0, 1) := by decide +kernel
theorem dJ11_canEncode_12 : decode cJ11_canEncode 12 = .ok (.ireturn, 1) := by decide +kernel
/-- java/lang/StringLatin1.canEncode(C)Z -/
def wJ11_canEncode (x0 : Int32) (σ : Hp) (post : Int32 → Prop) : Prop :=
(((255 : Int32) < x0 →
  post (0 : Int32)) ∧
 (¬ (255 : Int32) < x0 →
  post (1 : Int32)))
set_option maxHeartbeats 4000000 in
theorem sJ11_canEncode {G : GG_} {p : Program} {l : Launch} {e : Env} {R : Room} {s : State} {m : MethodId} {args : Array Value} {below : List Frame} {meth : Method} {c : Code} (Y : MX_ G p R s m args meth c cJ11_canEncode 1 RJ11 (some Jvm.ClassFile.FieldType.boolean) 1 20 0 0 "canEncode") {post : Int32 → Prop} {x0 : Int32} {σ : Hp} (hf : wJ11_canEncode x0 σ post) : WG_ G p l e R s m args below meth c (MQ below (QI_ G (fun r τ => τ = σ ∧ post r)) args s 0 0 (FR_ G)) BN_ 1 0 [(0, .int x0)] [] σ := by
  have ⟨X, hlk, hr, hRf, hRl, hRc, hnm⟩ := Y
  have ⟨⟨hx, hb, _, hown, hts⟩, _, _⟩ := X
  intro H locs cells slots ls hP hL hB hl
  obtain ⟨rfl, rfl⟩ := hB
  unfold wJ11_canEncode at hf
  refine lv_iload_n hx hb dJ11_canEncode_0 rfl (lv_at hl 0 rfl) ?_
  refine lv_sipush (v := 255) hx hb dJ11_canEncode_1 (by decide) ?_
  refine lv_icmp_gt (tgt := 11) hx hb dJ11_canEncode_4 (by decide) (fun c1 => ?_) (fun c1 => ?_)
  · have hf := hf.1 c1
    refine lv_iconst (v := 0) hx hb dJ11_canEncode_11 (by decide) ?_
    exact p_zret X hlk hP hL (Nat.le_refl _) (Nat.le_refl _) hr nr_0 dJ11_canEncode_12 ⟨rfl, hf⟩
  · have hf := hf.2 c1
    refine lv_iconst (v := 1) hx hb dJ11_canEncode_7 (by decide) ?_
    refine lv_goto (tgt := 12) hx hb dJ11_canEncode_8 (by decide) ?_
    exact p_zret X hlk hP hL (Nat.le_refl _) (Nat.le_refl _) hr nr_1 dJ11_canEncode_12 ⟨rfl, hf⟩
set_option maxHeartbeats 4000000 in
theorem metJ11_canEncode (l : Launch) (G : GG_) (x0 : Int32) (σ : Hp) (post : Int32 → Prop) (hG : GOK_ G) (hf : wJ11_canEncode x0 σ post) : Met l yJ11_canEncode (ws_ yJ11_canEncode cJ11_canEncode 1 (some Jvm.ClassFile.FieldType.boolean)) { frames := 1, cells := 0, slots := 0, locals := 20 } (PC_ G [.int x0] σ) (QI_ G (fun r τ => τ = σ ∧ post r)) 0 0 (FR_ G) := by
  refine Met.ofW (cc := cJ11_canEncode) (maxL := 1) (ret := (some Jvm.ClassFile.FieldType.boolean)) (by decide) rfl ?_
  intro p e s m args below meth c s₁ B hml hv
  obtain ⟨rfl, hP, hW⟩ := hv
  have hts := atoms_spec (ws := ws_ yJ11_canEncode cJ11_canEncode 1 (some Jvm.ClassFile.FieldType.boolean)) B.pre
  have hts : ∀ w ∈ lw_all, w.before _ s = true := fun w h => hts w (List.mem_cons_of_mem _ h)
  rw [lg_entry_eq]
  have hl := en_entry [.int x0] [1] (n := 1) (ca_i ca_n) (by decide)
  exact sJ11_canEncode ⟨⟨⟨B.exec, B.bytes, hml, findClass_of_methodNamed B.named, hts⟩, hW, hG⟩, B.notSynchronized, B.returns, Nat.le_refl _, Nat.le_refl _, ⟨rfl, rfl⟩, (name_of_methodNamed B.named B.method).1⟩ hf _ _ _ _ _ hP (LO_nil G) ⟨rfl, rfl⟩ hl
