set_option maxRecDepth 100000
abbrev cX1_need : ByteArray := prog_1_method_27_code
def yX1_need : MethodName := ⟨RX1, "need", "(Z)V"⟩
theorem dX1_need_0 : decode cX1_need 0 = .ok (.iload_n 0, 1) := by decide +kernel
theorem dX1_need_1 : decode cX1_need 1 = .ok (.ifCond .ne 11, 3) := by decide +kernel
theorem dX1_need_4 : decode cX1_need 4 = .ok (.new 274, 3) := by decide +kernel
theorem dX1_need_7 : decode cX1_need 7 = .ok (.dup, 1) := by decide +kernel
theorem dX1_need_8 : decode cX1_need 8 = .ok (.invokespecial 276, 3) := by decide +kernel
theorem dX1_need_11 : decode cX1_need 11 = .ok (.athrow, 1) := by decide +kernel
theorem dX1_need_12 : decode cX1_need 12 = .ok (.return_, 1) := by decide +kernel
/-- WriteOnceDisc.need(Z)V -/
def wX1_need (x0 : Int32) (σ : Hp) (post : Prop) : Prop :=
((¬ x0 = 0 →
  post) ∧
 (x0 = 0 →
  False))
set_option maxHeartbeats 4000000 in
theorem sX1_need {G : GG_} {p : Program} {l : Launch} {e : Env} {R : Room} {s : State} {m : MethodId} {args : Array Value} {below : List Frame} {meth : Method} {c : Code} (Y : MX_ G p R s m args meth c cX1_need 1 RX1 none 1 28 0 0 "need") {post : Prop} {x0 : Int32} {σ : Hp} (hf : wX1_need x0 σ post) : WG_ G p l e R s m args below meth c (MQ below (QV_ G (fun τ => τ = σ ∧ post)) args s 0 0 (FR_ G)) BN_ 1 0 [(0, .int x0)] [] σ := by
  have ⟨X, hlk, hr, hRf, hRl, hRc, hnm⟩ := Y
  have ⟨⟨hx, hb, _, hown, hts⟩, _, _⟩ := X
  intro H locs cells slots ls hP hL hB hl
  obtain ⟨rfl, rfl⟩ := hB
  unfold wX1_need at hf
  refine lv_iload_n hx hb dX1_need_0 rfl (lv_at hl 0 rfl) ?_
  refine lv_if_ne (tgt := 12) hx hb dX1_need_1 (by decide) (fun c1 => ?_) (fun c1 => ?_)
  · have hf := hf.1 c1
    exact p_vret X hlk hP hL (Nat.le_refl _) (Nat.le_refl _) hr dX1_need_12 ⟨rfl, hf⟩
  · have hf := hf.2 c1
    exact hf.elim
set_option maxHeartbeats 4000000 in
theorem metX1_need (l : Launch) (G : GG_) (x0 : Int32) (σ : Hp) (post : Prop) (hG : GOK_ G) (hf : wX1_need x0 σ post) : Met l yX1_need (ws_ yX1_need cX1_need 1 none) { frames := 1, cells := 0, slots := 0, locals := 28 } (PC_ G [.int x0] σ) (QV_ G (fun τ => τ = σ ∧ post)) 0 0 (FR_ G) := by
  refine Met.ofW (cc := cX1_need) (maxL := 1) (ret := none) (by decide) rfl ?_
  intro p e s m args below meth c s₁ B hml hv
  obtain ⟨rfl, hP, hW⟩ := hv
  have hts := atoms_spec (ws := ws_ yX1_need cX1_need 1 none) B.pre
  have hts : ∀ w ∈ lw_all, w.before _ s = true := fun w h => hts w (List.mem_cons_of_mem _ h)
  rw [lg_entry_eq]
  have hl := en_entry [.int x0] [1] (n := 1) (ca_i ca_n) (by decide)
  exact sX1_need ⟨⟨⟨B.exec, B.bytes, hml, findClass_of_methodNamed B.named, hts⟩, hW, hG⟩, B.notSynchronized, B.returns, Nat.le_refl _, Nat.le_refl _, ⟨rfl, rfl⟩, (name_of_methodNamed B.named B.method).1⟩ hf _ _ _ _ _ hP (LO_nil G) ⟨rfl, rfl⟩ hl
abbrev cX1_openNode : ByteArray := prog_1_method_31_code
def yX1_openNode : MethodName := ⟨RX1, "openNode", "(I)LWriteOnceDisc$Found;"⟩
theorem dX1_openNode_0 : decode cX1_openNode 0 = .ok (.iload_n 1, 1) := by decide +kernel
theorem dX1_openNode_1 : decode cX1_openNode 1 = .ok (.iconst 0, 1) := by decide +kernel
theorem dX1_openNode_2 : decode cX1_openNode 2 = .ok (.aload_n 0, 1) := by decide +kernel
theorem dX1_openNode_3 : decode cX1_openNode 3 = .ok (.getfield 76, 3) := by decide +kernel
theorem dX1_openNode_6 : decode cX1_openNode 6 = .ok (.getfield 226, 3) := by decide +kernel
theorem dX1_openNode_9 : decode cX1_openNode 9 = .ok (.invokevirtual 133, 3) := by decide +kernel
theorem dX1_openNode_12 : decode cX1_openNode 12 = .ok (.iconst 1, 1) := by decide +kernel
theorem dX1_openNode_13 : decode cX1_openNode 13 = .ok (.isub, 1) := by decide +kernel
theorem dX1_openNode_14 : decode cX1_openNode 14 = .ok (.invokestatic 94, 3) := by decide +kernel
theorem dX1_openNode_17 : decode cX1_openNode 17 = .ok (.invokestatic 280, 3) := by decide +kernel
theorem dX1_openNode_20 : decode cX1_openNode 20 = .ok (.aload_n 0, 1) := by decide +kernel
theorem dX1_openNode_21 : decode cX1_openNode 21 = .ok (.getfield 76, 3) := by decide +kernel
theorem dX1_openNode_24 : decode cX1_openNode 24 = .ok (.getfield 226, 3) := by decide +kernel
theorem dX1_openNode_27 : decode cX1_openNode 27 = .ok (.iload_n 1, 1) := by decide +kernel
theorem dX1_openNode_28 : decode cX1_openNode 28 = .ok (.invokevirtual 177, 3) := by decide +kernel
theorem dX1_openNode_31 : decode cX1_openNode 31 = .ok (.checkcast 227, 3) := by decide +kernel
theorem dX1_openNode_34 : decode cX1_openNode 34 = .ok (.areturn, 1) := by decide +kernel
/-- WriteOnceDisc.openNode(I)LWriteOnceDisc$Found; -/
def wX1_openNode (x0 : Nat) (x1 : Int32) (σ : Hp) (post : Nat → Prop) : Prop :=
(tg_ σ x0 = 1 ∧ (tg_ σ (fR_ σ 0 5 x0) = 8 ∧ (tg_ σ (fR_ σ 7 0 (fR_ σ 0 5 x0)) = 11 ∧ (wJ2_size (fR_ σ 7 0 (fR_ σ 0 5 x0))  σ (fun r4 => (wX1_in x1 (0 : Int32) (r4 - (1 : Int32)) σ (fun r5 => (wX1_need r5 σ ((wJ2_get (fR_ σ 7 0 (fR_ σ 0 5 x0)) x1 σ (fun r6 => ((r6 = 0 ∨ tg_ σ r6 = 10) ∧ post r6))))))))))))
set_option maxHeartbeats 4000000 in
theorem sX1_openNode {G : GG_} {p : Program} {l : Launch} {e : Env} {R : Room} {s : State} {m : MethodId} {args : Array Value} {below : List Frame} {meth : Method} {c : Code} (Y : MX_ G p R s m args meth c cX1_openNode 2 RX1 (some ((Jvm.ClassFile.FieldType.object "WriteOnceDisc$Found"))) 4 84 0 0 "openNode") {post : Nat → Prop} {x0 : Nat} {x1 : Int32} {σ : Hp} (hf : wX1_openNode x0 x1 σ post) : WG_ G p l e R s m args below meth c (MQ below (QR_ G (fun r τ => τ = σ ∧ post r)) args s 0 0 (FR_ G)) BN_ 2 0 [(0, rv_ x0), (1, .int x1)] [] σ := by
  have ⟨X, hlk, hr, hRf, hRl, hRc, hnm⟩ := Y
  have ⟨⟨hx, hb, _, hown, hts⟩, _, _⟩ := X
  intro H locs cells slots ls hP hL hB hl
  obtain ⟨rfl, rfl⟩ := hB
  unfold wX1_openNode at hf
  refine lv_iload_n hx hb dX1_openNode_0 rfl (lv_at hl 1 rfl) ?_
  refine lv_iconst (v := 0) hx hb dX1_openNode_1 (by decide) ?_
  refine p_aload_n hx hb dX1_openNode_2 rfl (lv_at hl 0 rfl) ?_
  obtain ⟨ht1, hf⟩ := hf
  refine p_gR X cf0_ (k := 5) (by decide) rfl hP ht1 q631 (fun _ h => h) dX1_openNode_3 ?_
  obtain ⟨ht2, hf⟩ := hf
  refine p_gR X cf7_ (k := 0) (by decide) rfl hP ht2 q591 (fun _ h => h) dX1_openNode_6 ?_
  obtain ⟨ht3, hf⟩ := hf
  refine p_calli hL (p_runV X cf10_ hP ht3 (metJ2_size l G _ _ _ X.2.2 hf) (cwV 0 hts (lw_V q753 q720 q721 q90 q722) rfl rfl rfl (by decide +kernel) ⟨Nat.le_trans (Nat.le_of_ble_eq_true rfl) hRf, Nat.le_trans (Nat.le_of_ble_eq_true rfl) hRl⟩) rfl hl.1 rfl (by rw [(ca_i (ca_i ca_n))]; decide) dX1_openNode_9 ⟨Nat.zero_le _, Nat.zero_le _⟩) (fun r4 σ₁ H locs hf hP hL => ?_)
  obtain ⟨e₁, hf⟩ := hf
  rw [e₁] at hP
  refine lv_iconst (v := 1) hx hb dX1_openNode_12 (by decide) ?_
  refine lv_isub hx hb dX1_openNode_13 ?_
  refine p_calli hL (p_runS X hP (metX1_in l G _ _ _ _ _ X.2.2 hf) (va_cwS 3 hts (lw_S q664 q665 q85 q666) rfl rfl rfl (by decide +kernel) ⟨Nat.le_trans (Nat.le_of_ble_eq_true rfl) hRf, Nat.le_trans (Nat.le_of_ble_eq_true rfl) hRl⟩) rfl hl.1 rfl (by decide) dX1_openNode_14 ⟨Nat.zero_le _, Nat.zero_le _⟩) (fun r5 σ₁ H locs hf hP hL => ?_)
  obtain ⟨e₁, hf⟩ := hf
  rw [e₁] at hP
  refine p_callv hL (p_runS X hP (metX1_need l G _ _ _ X.2.2 hf) (va_cwS 1 hts (lw_S q1187 q1188 q85 q1189) rfl rfl rfl (by decide +kernel) ⟨Nat.le_trans (Nat.le_of_ble_eq_true rfl) hRf, Nat.le_trans (Nat.le_of_ble_eq_true rfl) hRl⟩) rfl hl.1 rfl (by decide) dX1_openNode_17 ⟨Nat.zero_le _, Nat.zero_le _⟩) (fun σ₁ H locs hf hP hL => ?_)
  obtain ⟨e₁, hf⟩ := hf
  rw [e₁] at hP
  refine p_aload_n hx hb dX1_openNode_20 rfl (lv_at hl 0 rfl) ?_
  refine p_gR X cf0_ (k := 5) (by decide) rfl hP ht1 q631 (fun _ h => h) dX1_openNode_21 ?_
  refine p_gR X cf7_ (k := 0) (by decide) rfl hP ht2 q591 (fun _ h => h) dX1_openNode_24 ?_
  refine lv_iload_n hx hb dX1_openNode_27 rfl (lv_at hl 1 rfl) ?_
  refine p_callr hL (p_runV X cf10_ hP ht3 (metJ2_get l G _ _ _ _ X.2.2 hf) (cwV 1 hts (lw_V q776 q724 q725 q90 q726) rfl rfl rfl (by decide +kernel) ⟨Nat.le_trans (Nat.le_of_ble_eq_true rfl) hRf, Nat.le_trans (Nat.le_of_ble_eq_true rfl) hRl⟩) rfl hl.1 rfl (by decide) dX1_openNode_28 ⟨Nat.zero_le _, Nat.zero_le _⟩) (fun r6 σ₁ H locs hf hP hL => ?_)
  obtain ⟨e₁, hf⟩ := hf
  rw [e₁] at hP
  obtain ⟨hc7, hf⟩ := hf
  refine p_cast X cf9_ hP hc7 q1137 dX1_openNode_31 ?_
  exact p_aret X hlk hP hL (Nat.le_refl _) (Nat.le_refl _) hr (Or.inl ⟨_, rfl⟩) dX1_openNode_34 ⟨rfl, hf⟩
set_option maxHeartbeats 4000000 in
theorem metX1_openNode (l : Launch) (G : GG_) (x0 : Nat) (x1 : Int32) (σ : Hp) (post : Nat → Prop) (hG : GOK_ G) (hf : wX1_openNode x0 x1 σ post) : Met l yX1_openNode (ws_ yX1_openNode cX1_openNode 2 (some ((Jvm.ClassFile.FieldType.object "WriteOnceDisc$Found")))) { frames := 4, cells := 0, slots := 0, locals := 84 } (PC_ G [rv_ x0, .int x1] σ) (QR_ G (fun r τ => τ = σ ∧ post r)) 0 0 (FR_ G) := by
  refine Met.ofW (cc := cX1_openNode) (maxL := 2) (ret := (some ((Jvm.ClassFile.FieldType.object "WriteOnceDisc$Found")))) (by decide) rfl ?_
  intro p e s m args below meth c s₁ B hml hv
  obtain ⟨rfl, hP, hW⟩ := hv
  have hts := atoms_spec (ws := ws_ yX1_openNode cX1_openNode 2 (some ((Jvm.ClassFile.FieldType.object "WriteOnceDisc$Found")))) B.pre
  have hts : ∀ w ∈ lw_all, w.before _ s = true := fun w h => hts w (List.mem_cons_of_mem _ h)
  rw [lg_entry_eq]
  have hl := en_entry [rv_ x0, .int x1] [1, 1] (n := 2) (ca_r (ca_i ca_n)) (by decide)
  exact sX1_openNode ⟨⟨⟨B.exec, B.bytes, hml, findClass_of_methodNamed B.named, hts⟩, hW, hG⟩, B.notSynchronized, B.returns, Nat.le_refl _, Nat.le_refl _, ⟨rfl, rfl⟩, (name_of_methodNamed B.named B.method).1⟩ hf _ _ _ _ _ hP (LO_nil G) ⟨rfl, rfl⟩ hl
abbrev cX1_mark : ByteArray := prog_1_method_29_code
def yX1_mark : MethodName := ⟨RX1, "mark", "(II)I"⟩
theorem dX1_mark_0 : decode cX1_mark 0 = .ok (.aload_n 0, 1) := by decide +kernel
theorem dX1_mark_1 : decode cX1_mark 1 = .ok (.invokevirtual 237, 3) := by decide +kernel
theorem dX1_mark_4 : decode cX1_mark 4 = .ok (.astore_n 3, 1) := by decide +kernel
theorem dX1_mark_5 : decode cX1_mark 5 = .ok (.iload_n 1, 1) := by decide +kernel
theorem dX1_mark_6 : decode cX1_mark 6 = .ok (.iconst 0, 1) := by decide +kernel
theorem dX1_mark_7 : decode cX1_mark 7 = .ok (.aload_n 0, 1) := by decide +kernel
theorem dX1_mark_8 : decode cX1_mark 8 = .ok (.getfield 223, 3) := by decide +kernel
theorem dX1_mark_11 : decode cX1_mark 11 = .ok (.iconst 1, 1) := by decide +kernel
theorem dX1_mark_12 : decode cX1_mark 12 = .ok (.isub, 1) := by decide +kernel
theorem dX1_mark_13 : decode cX1_mark 13 = .ok (.invokestatic 94, 3) := by decide +kernel
theorem dX1_mark_16 : decode cX1_mark 16 = .ok (.ifCond .eq 16, 3) := by decide +kernel
theorem dX1_mark_19 : decode cX1_mark 19 = .ok (.iload_n 2, 1) := by decide +kernel
theorem dX1_mark_20 : decode cX1_mark 20 = .ok (.iconst 0, 1) := by decide +kernel
theorem dX1_mark_21 : decode cX1_mark 21 = .ok (.iconst 3, 1) := by decide +kernel
theorem dX1_mark_22 : decode cX1_mark 22 = .ok (.invokestatic 94, 3) := by decide +kernel
theorem dX1_mark_25 : decode cX1_mark 25 = .ok (.ifCond .eq 7, 3) := by decide +kernel
theorem dX1_mark_28 : decode cX1_mark 28 = .ok (.iconst 1, 1) := by decide +kernel
theorem dX1_mark_29 : decode cX1_mark 29 = .ok (.goto 4, 3) := by decide +kernel
theorem dX1_mark_32 : decode cX1_mark 32 = .ok (.iconst 0, 1) := by decide +kernel
theorem dX1_mark_33 : decode cX1_mark 33 = .ok (.invokestatic 280, 3) := by decide +kernel
theorem dX1_mark_36 : decode cX1_mark 36 = .ok (.aload_n 3, 1) := by decide +kernel
theorem dX1_mark_37 : decode cX1_mark 37 = .ok (.iload_n 1, 1) := by decide +kernel
theorem dX1_mark_38 : decode cX1_mark 38 = .ok (.iaload, 1) := by decide +kernel
theorem dX1_mark_39 : decode cX1_mark 39 = .ok (.istore 4, 2) := by decide +kernel
theorem dX1_mark_41 : decode cX1_mark 41 = .ok (.iload_n 2, 1) := by decide +kernel
theorem dX1_mark_42 : decode cX1_mark 42 = .ok (.iconst 3, 1) := by decide +kernel
theorem dX1_mark_43 : decode cX1_mark 43 = .ok (.if_icmp .ge 35, 3) := by decide +kernel
theorem dX1_mark_46 : decode cX1_mark 46 = .ok (.iload_n 2, 1) := by decide +kernel
theorem dX1_mark_47 : decode cX1_mark 47 = .ok (.ifCond .ne 8, 3) := by decide +kernel
theorem dX1_mark_50 : decode cX1_mark 50 = .ok (.iload 4, 2) := by decide +kernel
theorem dX1_mark_52 : decode cX1_mark 52 = .ok (.goto 25, 3) := by decide +kernel
theorem dX1_mark_55 : decode cX1_mark 55 = .ok (.aload_n 0, 1) := by decide +kernel
theorem dX1_mark_56 : decode cX1_mark 56 = .ok (.getfield 64, 3) := by decide +kernel
theorem dX1_mark_59 : decode cX1_mark 59 = .ok (.iload 4, 2) := by decide +kernel
theorem dX1_mark_61 : decode cX1_mark 61 = .ok (.i2l, 1) := by decide +kernel
theorem dX1_mark_62 : decode cX1_mark 62 = .ok (.ldc2_w 204, 3) := by decide +kernel
theorem dX1_mark_65 : decode cX1_mark 65 = .ok (.lmul, 1) := by decide +kernel
theorem dX1_mark_66 : decode cX1_mark 66 = .ok (.ldc2_w 215, 3) := by decide +kernel
theorem dX1_mark_69 : decode cX1_mark 69 = .ok (.iload_n 2, 1) := by decide +kernel
theorem dX1_mark_70 : decode cX1_mark 70 = .ok (.i2l, 1) := by decide +kernel
theorem dX1_mark_71 : decode cX1_mark 71 = .ok (.lmul, 1) := by decide +kernel
theorem dX1_mark_72 : decode cX1_mark 72 = .ok (.ladd, 1) := by decide +kernel
theorem dX1_mark_73 : decode cX1_mark 73 = .ok (.iconst 4, 1) := by decide +kernel
theorem dX1_mark_74 : decode cX1_mark 74 = .ok (.invokevirtual 217, 3) := by decide +kernel
theorem dX1_mark_77 : decode cX1_mark 77 = .ok (.ireturn, 1) := by decide +kernel
theorem dX1_mark_78 : decode cX1_mark 78 = .ok (.aload_n 0, 1) := by decide +kernel
theorem dX1_mark_79 : decode cX1_mark 79 = .ok (.getfield 80, 3) := by decide +kernel
theorem dX1_mark_82 : decode cX1_mark 82 = .ok (.aload_n 0, 1) := by decide +kernel
theorem dX1_mark_83 : decode cX1_mark 83 = .ok (.getfield 64, 3) := by decide +kernel
theorem dX1_mark_86 : decode cX1_mark 86 = .ok (.invokevirtual 241, 3) := by decide +kernel
theorem dX1_mark_89 : decode cX1_mark 89 = .ok (.aload_n 0, 1) := by decide +kernel
theorem dX1_mark_90 : decode cX1_mark 90 = .ok (.getfield 80, 3) := by decide +kernel
theorem dX1_mark_93 : decode cX1_mark 93 = .ok (.aload_n 0, 1) := by decide +kernel
theorem dX1_mark_94 : decode cX1_mark 94 = .ok (.iload 4, 2) := by decide +kernel
theorem dX1_mark_96 : decode cX1_mark 96 = .ok (.invokevirtual 244, 3) := by decide +kernel
theorem dX1_mark_99 : decode cX1_mark 99 = .ok (.invokestatic 284, 3) := by decide +kernel
theorem dX1_mark_102 : decode cX1_mark 102 = .ok (.ireturn, 1) := by decide +kernel
/-- WriteOnceDisc.mark(II)I -/
def wX1_mark_L33 (post : Int32 → Hp → Prop) (x0 : Nat) (x1 : Int32) (x2 : Int32) (x3 : Nat) (s0 : Int32) (σ : Hp) : Prop :=
(wX1_need s0 σ ((tg_ σ x3 = 102 ∧ (vp_in x1 (ln_ σ x3) ∧ (∀ y3 : Int32, y3 = (aI_ σ x3 (x1).toNatClampNeg) → (((3 : Int32) ≤ x2 →
  (tg_ σ x0 = 1 ∧ (tg_ σ (fR_ σ 0 6 x0) = 8 ∧ (wX8_begin (fR_ σ 0 6 x0) (fR_ σ 0 2 x0) σ (fun σ7 => (∀ σ8, σ8 = bu_ σ7 (bc_ σ) (bs_ σ) → (tg_ σ8 x0 = 1 ∧ (wX1_base x0 y3 σ8 (fun r10 => (∃ mc11 ms12 : Nat, (mc11 ≤ bc_ σ8 ∧ (ms12 ≤ bs_ σ8 ∧ (wX1_says (fR_ σ8 0 6 x0) r10 (bu_ σ8 mc11 ms12) (fun r15 σ16 => (∀ σ17, σ17 = bu_ σ16 (bc_ σ8 - mc11) (bs_ σ8 - ms12) → post r15 σ17))))))))))))))) ∧
 (¬ (3 : Int32) ≤ x2 →
  ((¬ x2 = 0 →
   (tg_ σ x0 = 1 ∧ (tg_ σ (fR_ σ 0 2 x0) = 7 ∧ (wX7_low (fR_ σ 0 2 x0) (((y3).toInt64 * (2048 : Int64)) + ((4 : Int64) * (x2).toInt64)) (4 : Int32) σ (fun r21 => post r21 σ))))) ∧
  (x2 = 0 →
   post y3 σ)))))))))
def wX1_mark_L32 (post : Int32 → Hp → Prop) (x0 : Nat) (x1 : Int32) (x2 : Int32) (x3 : Nat) (σ : Hp) : Prop :=
wX1_mark_L33 post x0 x1 x2 x3 (0 : Int32) σ
def wX1_mark (x0 : Nat) (x1 : Int32) (x2 : Int32) (σ : Hp) (post : Int32 → Hp → Prop) : Prop :=
(tg_ σ x0 = 1 ∧ (wX1_marks x0  σ (fun r23 σ24 => (∀ σ25, σ25 = bu_ σ24 (bc_ σ) (bs_ σ) → (tg_ σ25 x0 = 1 ∧ (wX1_in x1 (0 : Int32) ((fI_ σ25 0 10 x0) - (1 : Int32)) σ25 (fun r27 => ((r27 = 0 →
  wX1_mark_L32 post x0 x1 x2 r23 σ25) ∧
 (¬ r27 = 0 →
  (wX1_in x2 (0 : Int32) (3 : Int32) σ25 (fun r29 => ((r29 = 0 →
   wX1_mark_L32 post x0 x1 x2 r23 σ25) ∧
  (¬ r29 = 0 →
   wX1_mark_L33 post x0 x1 x2 r23 (1 : Int32) σ25)))))))))))))
set_option maxHeartbeats 4000000 in
theorem sX1_mark_L33 {G : GG_} {p : Program} {l : Launch} {e : Env} {R : Room} {s : State} {m : MethodId} {args : Array Value} {below : List Frame} {meth : Method} {c : Code} {mc ms : Nat} (Y : MX_ G p R s m args meth c cX1_mark 5 RX1 (some Jvm.ClassFile.FieldType.int) 11 278 mc ms "mark") {post : Int32 → Hp → Prop} {x0 : Nat} {x1 : Int32} {x2 : Int32} {x3 : Nat} {s0 : Int32} {σ : Hp} (hf : wX1_mark_L33 post x0 x1 x2 x3 s0 σ) : WG_ G p l e R s m args below meth c (MQ below (QI_ G post) args s mc ms (FR_ G)) (BU_ R) 5 33 [(0, rv_ x0), (1, .int x1), (2, .int x2), (3, rv_ x3)] [.int s0] σ := by
  have ⟨X, hlk, hr, hRf, hRl, hRc, hnm⟩ := Y
  have ⟨⟨hx, hb, _, hown, hts⟩, _, _⟩ := X
  intro H locs cells slots ls hP hL hB hl
  unfold wX1_mark_L33 at hf
  refine p_callv hL (p_runS X hP (metX1_need l G _ _ _ X.2.2 hf) (va_cwS 1 hts (lw_S q1187 q1188 q85 q1189) rfl rfl rfl (by decide +kernel) ⟨Nat.le_trans (Nat.le_of_ble_eq_true rfl) hRf, Nat.le_trans (Nat.le_of_ble_eq_true rfl) hRl⟩) rfl hl.1 rfl (by decide) dX1_mark_33 (BU_call hB (Nat.zero_le _) (Nat.zero_le _))) (fun σ₁ H locs hf hP hL => ?_)
  obtain ⟨e₁, hf⟩ := hf
  rw [e₁] at hP
  refine p_aload_n hx hb dX1_mark_36 rfl (lv_at hl 3 rfl) ?_
  refine lv_iload_n hx hb dX1_mark_37 rfl (lv_at hl 1 rfl) ?_
  obtain ⟨ht1, hf⟩ := hf
  obtain ⟨hi2, hf⟩ := hf
  refine p_iald X hP ht1 hi2 dX1_mark_38 ?_
  have hl := lv_sub hl [0, 2] rfl
  refine lv_topi (fun y3 hy3 => ?_)
  have hf := hf y3 hy3
  refine p_istore (i := 4) hx hb dX1_mark_39 hl (by decide) ⟨⟨ne_ rfl, Or.inl (ne_ rfl)⟩, ⟨⟨ne_ rfl, Or.inl (ne_ rfl)⟩, trivial⟩⟩ (fun ls hl => ?_)
  refine lv_iload_n hx hb dX1_mark_41 rfl (lv_at hl 2 rfl) ?_
  refine lv_iconst (v := 3) hx hb dX1_mark_42 (by decide) ?_
  refine lv_icmp_ge (tgt := 78) hx hb dX1_mark_43 (by decide) (fun c4 => ?_) (fun c4 => ?_)
  · have hf := hf.1 c4
    refine p_aload_n hx hb dX1_mark_78 rfl (lv_at hl 1 rfl) ?_
    obtain ⟨ht5, hf⟩ := hf
    refine p_gR X cf0_ (k := 6) (by decide) rfl hP ht5 q632 (fun _ h => h) dX1_mark_79 ?_
    refine p_aload_n hx hb dX1_mark_82 rfl (lv_at hl 1 rfl) ?_
    refine p_gR X cf0_ (k := 2) (by decide) rfl hP ht5 q628 (fun _ h => h) dX1_mark_83 ?_
    obtain ⟨ht6, hf⟩ := hf
    refine p_callv hL (p_runV X cf7_ hP ht6 (metX8_begin l G _ _ _ _ X.2.2 hf) (cwV 1 hts (lw_V q977 q978 q979 q105 q980) rfl rfl rfl (by decide +kernel) ⟨Nat.le_trans (Nat.le_of_ble_eq_true rfl) hRf, Nat.le_trans (Nat.le_of_ble_eq_true rfl) hRl⟩) rfl hl.1 rfl (by decide) dX1_mark_86 (BU_call hB (Nat.zero_le _) (Nat.zero_le _))) (fun σ7 H locs hf hP hL => ?_)
    have hB := BU_keep (τ := σ7) hB
    have hP := Pic_bu hP (bc_ σ) (bs_ σ)
    refine p_nmPB hP hB (fun σ8 hσ8 hP hB => ?_)
    have hf := hf σ8 hσ8
    refine p_aload_n hx hb dX1_mark_89 rfl (lv_at hl 1 rfl) ?_
    obtain ⟨ht9, hf⟩ := hf
    refine p_gR X cf0_ (k := 6) (by decide) rfl hP ht9 q632 (fun _ h => h) dX1_mark_90 ?_
    refine p_aload_n hx hb dX1_mark_93 rfl (lv_at hl 1 rfl) ?_
    refine lv_iload hx hb dX1_mark_94 (lv_at hl 0 rfl) ?_
    refine p_calli hL (p_runV X cf0_ hP ht9 (metX1_base l G _ _ _ _ X.2.2 hf) (cwV 1 hts (lw_V q982 q984 qs20 q85 q985) rfl rfl rfl (by decide +kernel) ⟨Nat.le_trans (Nat.le_of_ble_eq_true rfl) hRf, Nat.le_trans (Nat.le_of_ble_eq_true rfl) hRl⟩) rfl hl.1 rfl (by rw [(ca_r ca_n)]; decide) dX1_mark_96 (BU_call hB (Nat.zero_le _) (Nat.zero_le _))) (fun r10 σ₁ H locs hf hP hL => ?_)
    obtain ⟨e₁, hf⟩ := hf
    rw [e₁] at hP
    obtain ⟨mc11, ms12, hf⟩ := hf
    obtain ⟨hb13, hf⟩ := hf
    obtain ⟨hb14, hf⟩ := hf
    refine p_calli hL (p_runS X (Pic_bu hP mc11 ms12) (metX1_says l G _ _ _ _ _ _ X.2.2 hf) (va_cwS 2 hts (lw_S q1172 q1173 q85 q1174) rfl rfl rfl (by decide +kernel) ⟨Nat.le_trans (Nat.le_of_ble_eq_true rfl) hRf, Nat.le_trans (Nat.le_of_ble_eq_true rfl) hRl⟩) rfl hl.1 rfl (by decide) dX1_mark_99 (BU_call hB hb13 hb14)) (fun r15 σ16 H locs hf hP hL => ?_)
    have hB := BU_back (τ := σ16) hB hb13 hb14
    have hP := Pic_bu hP (bc_ σ8 - mc11) (bs_ σ8 - ms12)
    refine p_nmPB hP hB (fun σ17 hσ17 hP hB => ?_)
    have hf := hf σ17 hσ17
    exact p_iret X hlk hP hL (BU_le hB hRc).1 (BU_le hB hRc).2 hr dX1_mark_102 hf
  · have hf := hf.2 c4
    refine lv_iload_n hx hb dX1_mark_46 rfl (lv_at hl 2 rfl) ?_
    refine lv_if_ne (tgt := 55) hx hb dX1_mark_47 (by decide) (fun c18 => ?_) (fun c18 => ?_)
    · have hf := hf.1 c18
      refine p_aload_n hx hb dX1_mark_55 rfl (lv_at hl 1 rfl) ?_
      obtain ⟨ht19, hf⟩ := hf
      refine p_gR X cf0_ (k := 2) (by decide) rfl hP ht19 q628 (fun _ h => h) dX1_mark_56 ?_
      refine lv_iload hx hb dX1_mark_59 (lv_at hl 0 rfl) ?_
      refine lv_i2l hx hb dX1_mark_61 rfl ?_
      refine lv_ldc2 hx hb hown (hts _ q959) dX1_mark_62 ?_
      refine lv_lmul hx hb dX1_mark_65 ?_
      refine lv_ldc2 hx hb hown (hts _ q971) dX1_mark_66 ?_
      refine lv_iload_n hx hb dX1_mark_69 rfl (lv_at hl 2 rfl) ?_
      refine lv_i2l hx hb dX1_mark_70 rfl ?_
      refine lv_lmul hx hb dX1_mark_71 ?_
      refine lv_ladd hx hb dX1_mark_72 ?_
      refine lv_iconst (v := 4) hx hb dX1_mark_73 (by decide) ?_
      obtain ⟨ht20, hf⟩ := hf
      refine p_calli hL (p_runV X cf6_ hP ht20 (metX7_low l G _ _ _ _ _ X.2.2 hf) (cwV 2 hts (lw_V q972 q973 q974 q104 q975) rfl rfl rfl (by decide +kernel) ⟨Nat.le_trans (Nat.le_of_ble_eq_true rfl) hRf, Nat.le_trans (Nat.le_of_ble_eq_true rfl) hRl⟩) rfl hl.1 rfl (by decide) dX1_mark_74 (BU_call hB (Nat.zero_le _) (Nat.zero_le _))) (fun r21 σ₁ H locs hf hP hL => ?_)
      obtain ⟨e₁, hf⟩ := hf
      rw [e₁] at hP
      exact p_iret X hlk hP hL (BU_le hB hRc).1 (BU_le hB hRc).2 hr dX1_mark_77 hf
    · have hf := hf.2 c18
      refine lv_iload hx hb dX1_mark_50 (lv_at hl 0 rfl) ?_
      refine lv_goto (tgt := 77) hx hb dX1_mark_52 (by decide) ?_
      exact p_iret X hlk hP hL (BU_le hB hRc).1 (BU_le hB hRc).2 hr dX1_mark_77 hf
set_option maxHeartbeats 4000000 in
theorem sX1_mark_L32 {G : GG_} {p : Program} {l : Launch} {e : Env} {R : Room} {s : State} {m : MethodId} {args : Array Value} {below : List Frame} {meth : Method} {c : Code} {mc ms : Nat} (Y : MX_ G p R s m args meth c cX1_mark 5 RX1 (some Jvm.ClassFile.FieldType.int) 11 278 mc ms "mark") {post : Int32 → Hp → Prop} {x0 : Nat} {x1 : Int32} {x2 : Int32} {x3 : Nat} {σ : Hp} (hf : wX1_mark_L32 post x0 x1 x2 x3 σ) : WG_ G p l e R s m args below meth c (MQ below (QI_ G post) args s mc ms (FR_ G)) (BU_ R) 5 32 [(0, rv_ x0), (1, .int x1), (2, .int x2), (3, rv_ x3)] [] σ := by
  have ⟨X, hlk, hr, hRf, hRl, hRc, hnm⟩ := Y
  have ⟨⟨hx, hb, _, hown, hts⟩, _, _⟩ := X
  intro H locs cells slots ls hP hL hB hl
  unfold wX1_mark_L32 at hf
  refine lv_iconst (v := 0) hx hb dX1_mark_32 (by decide) ?_
  exact sX1_mark_L33 Y hf _ _ _ _ _ hP hL hB (lv_sub hl [0, 1, 2, 3] rfl)
set_option maxHeartbeats 4000000 in
theorem sX1_mark {G : GG_} {p : Program} {l : Launch} {e : Env} {R : Room} {s : State} {m : MethodId} {args : Array Value} {below : List Frame} {meth : Method} {c : Code} {mc ms : Nat} (Y : MX_ G p R s m args meth c cX1_mark 5 RX1 (some Jvm.ClassFile.FieldType.int) 11 278 mc ms "mark") {post : Int32 → Hp → Prop} {x0 : Nat} {x1 : Int32} {x2 : Int32} {σ : Hp} (hf : wX1_mark x0 x1 x2 σ post) : WG_ G p l e R s m args below meth c (MQ below (QI_ G post) args s mc ms (FR_ G)) (BU_ R) 5 0 [(0, rv_ x0), (1, .int x1), (2, .int x2)] [] σ := by
  have ⟨X, hlk, hr, hRf, hRl, hRc, hnm⟩ := Y
  have ⟨⟨hx, hb, _, hown, hts⟩, _, _⟩ := X
  intro H locs cells slots ls hP hL hB hl
  unfold wX1_mark at hf
  refine p_aload_n hx hb dX1_mark_0 rfl (lv_at hl 0 rfl) ?_
  obtain ⟨ht22, hf⟩ := hf
  refine p_callr hL (p_runV X cf0_ hP ht22 (metX1_marks l G _ _ _ X.2.2 hf) (cwV 0 hts (lw_V q955 q957 qs19 q85 q958) rfl rfl rfl (by decide +kernel) ⟨Nat.le_trans (Nat.le_of_ble_eq_true rfl) hRf, Nat.le_trans (Nat.le_of_ble_eq_true rfl) hRl⟩) rfl hl.1 rfl (by decide) dX1_mark_1 (BU_call hB (Nat.zero_le _) (Nat.zero_le _))) (fun r23 σ24 H locs hf hP hL => ?_)
  have hB := BU_keep (τ := σ24) hB
  have hP := Pic_bu hP (bc_ σ) (bs_ σ)
  refine p_nmPB hP hB (fun σ25 hσ25 hP hB => ?_)
  have hf := hf σ25 hσ25
  refine p_astore_n (i := 3) hx hb dX1_mark_4 rfl hl (by decide) ⟨⟨ne_ rfl, Or.inl (ne_ rfl)⟩, ⟨⟨ne_ rfl, Or.inl (ne_ rfl)⟩, ⟨⟨ne_ rfl, Or.inr rfl⟩, trivial⟩⟩⟩ (fun ls hl => ?_)
  refine lv_iload_n hx hb dX1_mark_5 rfl (lv_at hl 2 rfl) ?_
  refine lv_iconst (v := 0) hx hb dX1_mark_6 (by decide) ?_
  refine p_aload_n hx hb dX1_mark_7 rfl (lv_at hl 1 rfl) ?_
  obtain ⟨ht26, hf⟩ := hf
  refine p_gI X cf0_ (k := 10) (by decide) rfl hP ht26 q636 (fun _ h => h) dX1_mark_8 ?_
  refine lv_iconst (v := 1) hx hb dX1_mark_11 (by decide) ?_
  refine lv_isub hx hb dX1_mark_12 ?_
  refine p_calli hL (p_runS X hP (metX1_in l G _ _ _ _ _ X.2.2 hf) (va_cwS 3 hts (lw_S q664 q665 q85 q666) rfl rfl rfl (by decide +kernel) ⟨Nat.le_trans (Nat.le_of_ble_eq_true rfl) hRf, Nat.le_trans (Nat.le_of_ble_eq_true rfl) hRl⟩) rfl hl.1 rfl (by decide) dX1_mark_13 (BU_call hB (Nat.zero_le _) (Nat.zero_le _))) (fun r27 σ₁ H locs hf hP hL => ?_)
  obtain ⟨e₁, hf⟩ := hf
  rw [e₁] at hP
  refine lv_if_eq (tgt := 32) hx hb dX1_mark_16 (by decide) (fun c28 => ?_) (fun c28 => ?_)
  · have hf := hf.1 c28
    exact sX1_mark_L32 Y hf _ _ _ _ _ hP hL hB (lv_sub hl [1, 2, 3, 0] rfl)
  · have hf := hf.2 c28
    refine lv_iload_n hx hb dX1_mark_19 rfl (lv_at hl 3 rfl) ?_
    refine lv_iconst (v := 0) hx hb dX1_mark_20 (by decide) ?_
    refine lv_iconst (v := 3) hx hb dX1_mark_21 (by decide) ?_
    refine p_calli hL (p_runS X hP (metX1_in l G _ _ _ _ _ X.2.2 hf) (va_cwS 3 hts (lw_S q664 q665 q85 q666) rfl rfl rfl (by decide +kernel) ⟨Nat.le_trans (Nat.le_of_ble_eq_true rfl) hRf, Nat.le_trans (Nat.le_of_ble_eq_true rfl) hRl⟩) rfl hl.1 rfl (by decide) dX1_mark_22 (BU_call hB (Nat.zero_le _) (Nat.zero_le _))) (fun r29 σ₁ H locs hf hP hL => ?_)
    obtain ⟨e₁, hf⟩ := hf
    rw [e₁] at hP
    refine lv_if_eq (tgt := 32) hx hb dX1_mark_25 (by decide) (fun c30 => ?_) (fun c30 => ?_)
    · have hf := hf.1 c30
      exact sX1_mark_L32 Y hf _ _ _ _ _ hP hL hB (lv_sub hl [1, 2, 3, 0] rfl)
    · have hf := hf.2 c30
      refine lv_iconst (v := 1) hx hb dX1_mark_28 (by decide) ?_
      refine lv_goto (tgt := 33) hx hb dX1_mark_29 (by decide) ?_
      exact sX1_mark_L33 Y hf _ _ _ _ _ hP hL hB (lv_sub hl [1, 2, 3, 0] rfl)
set_option maxHeartbeats 4000000 in
theorem metX1_mark (l : Launch) (G : GG_) (mc ms : Nat) (x0 : Nat) (x1 : Int32) (x2 : Int32) (σ : Hp) (post : Int32 → Hp → Prop) (hG : GOK_ G) (hf : wX1_mark x0 x1 x2 (bu_ σ mc ms) post) : Met l yX1_mark (ws_ yX1_mark cX1_mark 5 (some Jvm.ClassFile.FieldType.int)) { frames := 11, cells := mc, slots := ms, locals := 278 } (PC_ G [rv_ x0, .int x1, .int x2] (bu_ σ mc ms)) (QI_ G post) mc ms (FR_ G) := by
  refine Met.ofW (cc := cX1_mark) (maxL := 5) (ret := (some Jvm.ClassFile.FieldType.int)) (by decide) rfl ?_
  intro p e s m args below meth c s₁ B hml hv
  obtain ⟨rfl, hP, hW⟩ := hv
  have hts := atoms_spec (ws := ws_ yX1_mark cX1_mark 5 (some Jvm.ClassFile.FieldType.int)) B.pre
  have hts : ∀ w ∈ lw_all, w.before _ s = true := fun w h => hts w (List.mem_cons_of_mem _ h)
  rw [lg_entry_eq]
  have hl := en_entry [rv_ x0, .int x1, .int x2] [1, 1, 1] (n := 5) (ca_r (ca_i (ca_i ca_n))) (by decide)
  exact sX1_mark ⟨⟨⟨B.exec, B.bytes, hml, findClass_of_methodNamed B.named, hts⟩, hW, hG⟩, B.notSynchronized, B.returns, Nat.le_refl _, Nat.le_refl _, ⟨rfl, rfl⟩, (name_of_methodNamed B.named B.method).1⟩ hf _ _ _ _ _ hP (LO_nil G) (BU_in ⟨rfl, rfl⟩) hl
abbrev cX1_node : ByteArray := prog_1_method_32_code
def yX1_node : MethodName := ⟨RX1, "node", "(II)I"⟩
theorem dX1_node_0 : decode cX1_node 0 = .ok (.aload_n 0, 1) := by decide +kernel
theorem dX1_node_1 : decode cX1_node 1 = .ok (.iload_n 1, 1) := by decide +kernel
theorem dX1_node_2 : decode cX1_node 2 = .ok (.invokevirtual 291, 3) := by decide +kernel
theorem dX1_node_5 : decode cX1_node 5 = .ok (.astore_n 3, 1) := by decide +kernel
theorem dX1_node_6 : decode cX1_node 6 = .ok (.iload_n 2, 1) := by decide +kernel
theorem dX1_node_7 : decode cX1_node 7 = .ok (.iconst 0, 1) := by decide +kernel
theorem dX1_node_8 : decode cX1_node 8 = .ok (.iconst 3, 1) := by decide +kernel
theorem dX1_node_9 : decode cX1_node 9 = .ok (.invokestatic 94, 3) := by decide +kernel
theorem dX1_node_12 : decode cX1_node 12 = .ok (.invokestatic 280, 3) := by decide +kernel
theorem dX1_node_15 : decode cX1_node 15 = .ok (.iload_n 2, 1) := by decide +kernel
theorem dX1_node_16 : decode cX1_node 16 = .ok (.ifCond .ne 10, 3) := by decide +kernel
theorem dX1_node_19 : decode cX1_node 19 = .ok (.aload_n 3, 1) := by decide +kernel
theorem dX1_node_20 : decode cX1_node 20 = .ok (.getfield 229, 3) := by decide +kernel
theorem dX1_node_23 : decode cX1_node 23 = .ok (.goto 39, 3) := by decide +kernel
theorem dX1_node_26 : decode cX1_node 26 = .ok (.iload_n 2, 1) := by decide +kernel
theorem dX1_node_27 : decode cX1_node 27 = .ok (.iconst 1, 1) := by decide +kernel
theorem dX1_node_28 : decode cX1_node 28 = .ok (.if_icmp .ne 18, 3) := by decide +kernel
theorem dX1_node_31 : decode cX1_node 31 = .ok (.aload_n 3, 1) := by decide +kernel
theorem dX1_node_32 : decode cX1_node 32 = .ok (.getfield 230, 3) := by decide +kernel
theorem dX1_node_35 : decode cX1_node 35 = .ok (.ifCond .eq 7, 3) := by decide +kernel
theorem dX1_node_38 : decode cX1_node 38 = .ok (.iconst 0, 1) := by decide +kernel
theorem dX1_node_39 : decode cX1_node 39 = .ok (.goto 23, 3) := by decide +kernel
theorem dX1_node_42 : decode cX1_node 42 = .ok (.iconst 1, 1) := by decide +kernel
theorem dX1_node_43 : decode cX1_node 43 = .ok (.goto 19, 3) := by decide +kernel
theorem dX1_node_46 : decode cX1_node 46 = .ok (.iload_n 2, 1) := by decide +kernel
theorem dX1_node_47 : decode cX1_node 47 = .ok (.iconst 2, 1) := by decide +kernel
theorem dX1_node_48 : decode cX1_node 48 = .ok (.if_icmp .ne 10, 3) := by decide +kernel
theorem dX1_node_51 : decode cX1_node 51 = .ok (.aload_n 3, 1) := by decide +kernel
theorem dX1_node_52 : decode cX1_node 52 = .ok (.getfield 235, 3) := by decide +kernel
theorem dX1_node_55 : decode cX1_node 55 = .ok (.goto 7, 3) := by decide +kernel
theorem dX1_node_58 : decode cX1_node 58 = .ok (.aload_n 3, 1) := by decide +kernel
theorem dX1_node_59 : decode cX1_node 59 = .ok (.getfield 236, 3) := by decide +kernel
theorem dX1_node_62 : decode cX1_node 62 = .ok (.ireturn, 1) := by decide +kernel
/-- WriteOnceDisc.node(II)I -/
def wX1_node (x0 : Nat) (x1 : Int32) (x2 : Int32) (σ : Hp) (post : Int32 → Prop) : Prop :=
(tg_ σ x0 = 1 ∧ (wX1_openNode x0 x1 σ (fun r2 => (wX1_in x2 (0 : Int32) (3 : Int32) σ (fun r3 => (wX1_need r3 σ (((¬ x2 = 0 →
  ((¬ x2 = (1 : Int32) →
   ((¬ x2 = (2 : Int32) →
    (tg_ σ r2 = 10 ∧ post (fI_ σ 9 2 r2))) ∧
   (x2 = (2 : Int32) →
    (tg_ σ r2 = 10 ∧ post (fI_ σ 9 3 r2))))) ∧
  (x2 = (1 : Int32) →
   (tg_ σ r2 = 10 ∧ (((fI_ σ 9 4 r2) = 0 →
    post (1 : Int32)) ∧
   (¬ (fI_ σ 9 4 r2) = 0 →
    post (0 : Int32))))))) ∧
 (x2 = 0 →
  (tg_ σ r2 = 10 ∧ post (fI_ σ 9 0 r2)))))))))))
set_option maxHeartbeats 4000000 in
theorem sX1_node {G : GG_} {p : Program} {l : Launch} {e : Env} {R : Room} {s : State} {m : MethodId} {args : Array Value} {below : List Frame} {meth : Method} {c : Code} (Y : MX_ G p R s m args meth c cX1_node 4 RX1 (some Jvm.ClassFile.FieldType.int) 5 105 0 0 "node") {post : Int32 → Prop} {x0 : Nat} {x1 : Int32} {x2 : Int32} {σ : Hp} (hf : wX1_node x0 x1 x2 σ post) : WG_ G p l e R s m args below meth c (MQ below (QI_ G (fun r τ => τ = σ ∧ post r)) args s 0 0 (FR_ G)) BN_ 4 0 [(0, rv_ x0), (1, .int x1), (2, .int x2)] [] σ := by
  have ⟨X, hlk, hr, hRf, hRl, hRc, hnm⟩ := Y
  have ⟨⟨hx, hb, _, hown, hts⟩, _, _⟩ := X
  intro H locs cells slots ls hP hL hB hl
  obtain ⟨rfl, rfl⟩ := hB
  unfold wX1_node at hf
  refine p_aload_n hx hb dX1_node_0 rfl (lv_at hl 0 rfl) ?_
  refine lv_iload_n hx hb dX1_node_1 rfl (lv_at hl 1 rfl) ?_
  obtain ⟨ht1, hf⟩ := hf
  refine p_callr hL (p_runV X cf0_ hP ht1 (metX1_openNode l G _ _ _ _ X.2.2 hf) (cwV 1 hts (lw_V q1258 q1260 qs41 q85 q1261) rfl rfl rfl (by decide +kernel) ⟨Nat.le_trans (Nat.le_of_ble_eq_true rfl) hRf, Nat.le_trans (Nat.le_of_ble_eq_true rfl) hRl⟩) rfl hl.1 rfl (by decide) dX1_node_2 ⟨Nat.zero_le _, Nat.zero_le _⟩) (fun r2 σ₁ H locs hf hP hL => ?_)
  obtain ⟨e₁, hf⟩ := hf
  rw [e₁] at hP
  have hl := lv_sub hl [2] rfl
  refine p_astore_n (i := 3) hx hb dX1_node_5 rfl hl (by decide) ⟨⟨ne_ rfl, Or.inr rfl⟩, trivial⟩ (fun ls hl => ?_)
  refine lv_iload_n hx hb dX1_node_6 rfl (lv_at hl 1 rfl) ?_
  refine lv_iconst (v := 0) hx hb dX1_node_7 (by decide) ?_
  refine lv_iconst (v := 3) hx hb dX1_node_8 (by decide) ?_
  refine p_calli hL (p_runS X hP (metX1_in l G _ _ _ _ _ X.2.2 hf) (va_cwS 3 hts (lw_S q664 q665 q85 q666) rfl rfl rfl (by decide +kernel) ⟨Nat.le_trans (Nat.le_of_ble_eq_true rfl) hRf, Nat.le_trans (Nat.le_of_ble_eq_true rfl) hRl⟩) rfl hl.1 rfl (by decide) dX1_node_9 ⟨Nat.zero_le _, Nat.zero_le _⟩) (fun r3 σ₁ H locs hf hP hL => ?_)
  obtain ⟨e₁, hf⟩ := hf
  rw [e₁] at hP
  refine p_callv hL (p_runS X hP (metX1_need l G _ _ _ X.2.2 hf) (va_cwS 1 hts (lw_S q1187 q1188 q85 q1189) rfl rfl rfl (by decide +kernel) ⟨Nat.le_trans (Nat.le_of_ble_eq_true rfl) hRf, Nat.le_trans (Nat.le_of_ble_eq_true rfl) hRl⟩) rfl hl.1 rfl (by decide) dX1_node_12 ⟨Nat.zero_le _, Nat.zero_le _⟩) (fun σ₁ H locs hf hP hL => ?_)
  obtain ⟨e₁, hf⟩ := hf
  rw [e₁] at hP
  refine lv_iload_n hx hb dX1_node_15 rfl (lv_at hl 1 rfl) ?_
  refine lv_if_ne (tgt := 26) hx hb dX1_node_16 (by decide) (fun c4 => ?_) (fun c4 => ?_)
  · have hf := hf.1 c4
    refine lv_iload_n hx hb dX1_node_26 rfl (lv_at hl 1 rfl) ?_
    refine lv_iconst (v := 1) hx hb dX1_node_27 (by decide) ?_
    refine lv_icmp_ne (tgt := 46) hx hb dX1_node_28 (by decide) (fun c5 => ?_) (fun c5 => ?_)
    · have hf := hf.1 c5
      refine lv_iload_n hx hb dX1_node_46 rfl (lv_at hl 1 rfl) ?_
      refine lv_iconst (v := 2) hx hb dX1_node_47 (by decide) ?_
      refine lv_icmp_ne (tgt := 58) hx hb dX1_node_48 (by decide) (fun c6 => ?_) (fun c6 => ?_)
      · have hf := hf.1 c6
        refine p_aload_n hx hb dX1_node_58 rfl (lv_at hl 0 rfl) ?_
        obtain ⟨ht7, hf⟩ := hf
        refine p_gI X cf9_ (k := 2) (by decide) rfl hP ht7 q1063 (fun _ h => h) dX1_node_59 ?_
        exact p_iret X hlk hP hL (Nat.le_refl _) (Nat.le_refl _) hr dX1_node_62 ⟨rfl, hf⟩
      · have hf := hf.2 c6
        refine p_aload_n hx hb dX1_node_51 rfl (lv_at hl 0 rfl) ?_
        obtain ⟨ht8, hf⟩ := hf
        refine p_gI X cf9_ (k := 3) (by decide) rfl hP ht8 q1066 (fun _ h => h) dX1_node_52 ?_
        refine lv_goto (tgt := 62) hx hb dX1_node_55 (by decide) ?_
        exact p_iret X hlk hP hL (Nat.le_refl _) (Nat.le_refl _) hr dX1_node_62 ⟨rfl, hf⟩
    · have hf := hf.2 c5
      refine p_aload_n hx hb dX1_node_31 rfl (lv_at hl 0 rfl) ?_
      obtain ⟨ht9, hf⟩ := hf
      refine p_gI X cf9_ (k := 4) (by decide) rfl hP ht9 q1068 (fun _ h => h) dX1_node_32 ?_
      refine lv_if_eq (tgt := 42) hx hb dX1_node_35 (by decide) (fun c10 => ?_) (fun c10 => ?_)
      · have hf := hf.1 c10
        refine lv_iconst (v := 1) hx hb dX1_node_42 (by decide) ?_
        refine lv_goto (tgt := 62) hx hb dX1_node_43 (by decide) ?_
        exact p_iret X hlk hP hL (Nat.le_refl _) (Nat.le_refl _) hr dX1_node_62 ⟨rfl, hf⟩
      · have hf := hf.2 c10
        refine lv_iconst (v := 0) hx hb dX1_node_38 (by decide) ?_
        refine lv_goto (tgt := 62) hx hb dX1_node_39 (by decide) ?_
        exact p_iret X hlk hP hL (Nat.le_refl _) (Nat.le_refl _) hr dX1_node_62 ⟨rfl, hf⟩
  · have hf := hf.2 c4
    refine p_aload_n hx hb dX1_node_19 rfl (lv_at hl 0 rfl) ?_
    obtain ⟨ht11, hf⟩ := hf
    refine p_gI X cf9_ (k := 0) (by decide) rfl hP ht11 q1060 (fun _ h => h) dX1_node_20 ?_
    refine lv_goto (tgt := 62) hx hb dX1_node_23 (by decide) ?_
    exact p_iret X hlk hP hL (Nat.le_refl _) (Nat.le_refl _) hr dX1_node_62 ⟨rfl, hf⟩
set_option maxHeartbeats 4000000 in
theorem metX1_node (l : Launch) (G : GG_) (x0 : Nat) (x1 : Int32) (x2 : Int32) (σ : Hp) (post : Int32 → Prop) (hG : GOK_ G) (hf : wX1_node x0 x1 x2 σ post) : Met l yX1_node (ws_ yX1_node cX1_node 4 (some Jvm.ClassFile.FieldType.int)) { frames := 5, cells := 0, slots := 0, locals := 105 } (PC_ G [rv_ x0, .int x1, .int x2] σ) (QI_ G (fun r τ => τ = σ ∧ post r)) 0 0 (FR_ G) := by
  refine Met.ofW (cc := cX1_node) (maxL := 4) (ret := (some Jvm.ClassFile.FieldType.int)) (by decide) rfl ?_
  intro p e s m args below meth c s₁ B hml hv
  obtain ⟨rfl, hP, hW⟩ := hv
  have hts := atoms_spec (ws := ws_ yX1_node cX1_node 4 (some Jvm.ClassFile.FieldType.int)) B.pre
  have hts : ∀ w ∈ lw_all, w.before _ s = true := fun w h => hts w (List.mem_cons_of_mem _ h)
  rw [lg_entry_eq]
  have hl := en_entry [rv_ x0, .int x1, .int x2] [1, 1, 1] (n := 4) (ca_r (ca_i (ca_i ca_n))) (by decide)
  exact sX1_node ⟨⟨⟨B.exec, B.bytes, hml, findClass_of_methodNamed B.named, hts⟩, hW, hG⟩, B.notSynchronized, B.returns, Nat.le_refl _, Nat.le_refl _, ⟨rfl, rfl⟩, (name_of_methodNamed B.named B.method).1⟩ hf _ _ _ _ _ hP (LO_nil G) ⟨rfl, rfl⟩ hl
abbrev cX1_name : ByteArray := prog_1_method_33_code
def yX1_name : MethodName := ⟨RX1, "name", "(I)J"⟩
theorem dX1_name_0 : decode cX1_name 0 = .ok (.aload_n 0, 1) := by decide +kernel
theorem dX1_name_1 : decode cX1_name 1 = .ok (.iload_n 1, 1) := by decide +kernel
theorem dX1_name_2 : decode cX1_name 2 = .ok (.invokevirtual 291, 3) := by decide +kernel
theorem dX1_name_5 : decode cX1_name 5 = .ok (.getfield 231, 3) := by decide +kernel
theorem dX1_name_8 : decode cX1_name 8 = .ok (.lreturn, 1) := by decide +kernel
/-- WriteOnceDisc.name(I)J -/
def wX1_name (x0 : Nat) (x1 : Int32) (σ : Hp) (post : Int64 → Prop) : Prop :=
(tg_ σ x0 = 1 ∧ (wX1_openNode x0 x1 σ (fun r2 => (tg_ σ r2 = 10 ∧ post (fL_ σ 9 5 r2)))))
set_option maxHeartbeats 4000000 in
theorem sX1_name {G : GG_} {p : Program} {l : Launch} {e : Env} {R : Room} {s : State} {m : MethodId} {args : Array Value} {below : List Frame} {meth : Method} {c : Code} (Y : MX_ G p R s m args meth c cX1_name 2 RX1 (some Jvm.ClassFile.FieldType.long) 5 105 0 0 "name") {post : Int64 → Prop} {x0 : Nat} {x1 : Int32} {σ : Hp} (hf : wX1_name x0 x1 σ post) : WG_ G p l e R s m args below meth c (MQ below (QL_ G (fun r τ => τ = σ ∧ post r)) args s 0 0 (FR_ G)) BN_ 2 0 [(0, rv_ x0), (1, .int x1)] [] σ := by
  have ⟨X, hlk, hr, hRf, hRl, hRc, hnm⟩ := Y
  have ⟨⟨hx, hb, _, hown, hts⟩, _, _⟩ := X
  intro H locs cells slots ls hP hL hB hl
  obtain ⟨rfl, rfl⟩ := hB
  unfold wX1_name at hf
  refine p_aload_n hx hb dX1_name_0 rfl (lv_at hl 0 rfl) ?_
  refine lv_iload_n hx hb dX1_name_1 rfl (lv_at hl 1 rfl) ?_
  obtain ⟨ht1, hf⟩ := hf
  refine p_callr hL (p_runV X cf0_ hP ht1 (metX1_openNode l G _ _ _ _ X.2.2 hf) (cwV 1 hts (lw_V q1258 q1260 qs41 q85 q1261) rfl rfl rfl (by decide +kernel) ⟨Nat.le_trans (Nat.le_of_ble_eq_true rfl) hRf, Nat.le_trans (Nat.le_of_ble_eq_true rfl) hRl⟩) rfl hl.1 rfl (by decide) dX1_name_2 ⟨Nat.zero_le _, Nat.zero_le _⟩) (fun r2 σ₁ H locs hf hP hL => ?_)
  obtain ⟨e₁, hf⟩ := hf
  rw [e₁] at hP
  obtain ⟨ht3, hf⟩ := hf
  refine p_gL X cf9_ (k := 5) (by decide) rfl hP ht3 q1070 (fun _ h => h) dX1_name_5 ?_
  exact p_lret X hlk hP hL (Nat.le_refl _) (Nat.le_refl _) hr dX1_name_8 ⟨rfl, hf⟩
set_option maxHeartbeats 4000000 in
theorem metX1_name (l : Launch) (G : GG_) (x0 : Nat) (x1 : Int32) (σ : Hp) (post : Int64 → Prop) (hG : GOK_ G) (hf : wX1_name x0 x1 σ post) : Met l yX1_name (ws_ yX1_name cX1_name 2 (some Jvm.ClassFile.FieldType.long)) { frames := 5, cells := 0, slots := 0, locals := 105 } (PC_ G [rv_ x0, .int x1] σ) (QL_ G (fun r τ => τ = σ ∧ post r)) 0 0 (FR_ G) := by
  refine Met.ofW (cc := cX1_name) (maxL := 2) (ret := (some Jvm.ClassFile.FieldType.long)) (by decide) rfl ?_
  intro p e s m args below meth c s₁ B hml hv
  obtain ⟨rfl, hP, hW⟩ := hv
  have hts := atoms_spec (ws := ws_ yX1_name cX1_name 2 (some Jvm.ClassFile.FieldType.long)) B.pre
  have hts : ∀ w ∈ lw_all, w.before _ s = true := fun w h => hts w (List.mem_cons_of_mem _ h)
  rw [lg_entry_eq]
  have hl := en_entry [rv_ x0, .int x1] [1, 1] (n := 2) (ca_r (ca_i ca_n)) (by decide)
  exact sX1_name ⟨⟨⟨B.exec, B.bytes, hml, findClass_of_methodNamed B.named, hts⟩, hW, hG⟩, B.notSynchronized, B.returns, Nat.le_refl _, Nat.le_refl _, ⟨rfl, rfl⟩, (name_of_methodNamed B.named B.method).1⟩ hf _ _ _ _ _ hP (LO_nil G) ⟨rfl, rfl⟩ hl
abbrev cX1_read : ByteArray := prog_1_method_34_code
def yX1_read : MethodName := ⟨RX1, "read", "(II)I"⟩
theorem dX1_read_0 : decode cX1_read 0 = .ok (.aload_n 0, 1) := by decide +kernel
theorem dX1_read_1 : decode cX1_read 1 = .ok (.iload_n 1, 1) := by decide +kernel
theorem dX1_read_2 : decode cX1_read 2 = .ok (.invokevirtual 291, 3) := by decide +kernel
theorem dX1_read_5 : decode cX1_read 5 = .ok (.astore_n 3, 1) := by decide +kernel
theorem dX1_read_6 : decode cX1_read 6 = .ok (.aload_n 3, 1) := by decide +kernel
theorem dX1_read_7 : decode cX1_read 7 = .ok (.getfield 230, 3) := by decide +kernel
theorem dX1_read_10 : decode cX1_read 10 = .ok (.ifCond .ne 21, 3) := by decide +kernel
theorem dX1_read_13 : decode cX1_read 13 = .ok (.iload_n 2, 1) := by decide +kernel
theorem dX1_read_14 : decode cX1_read 14 = .ok (.iconst 0, 1) := by decide +kernel
theorem dX1_read_15 : decode cX1_read 15 = .ok (.aload_n 3, 1) := by decide +kernel
theorem dX1_read_16 : decode cX1_read 16 = .ok (.getfield 235, 3) := by decide +kernel
theorem dX1_read_19 : decode cX1_read 19 = .ok (.iconst 1, 1) := by decide +kernel
theorem dX1_read_20 : decode cX1_read 20 = .ok (.isub, 1) := by decide +kernel
theorem dX1_read_21 : decode cX1_read 21 = .ok (.invokestatic 94, 3) := by decide +kernel
theorem dX1_read_24 : decode cX1_read 24 = .ok (.ifCond .eq 7, 3) := by decide +kernel
theorem dX1_read_27 : decode cX1_read 27 = .ok (.iconst 1, 1) := by decide +kernel
theorem dX1_read_28 : decode cX1_read 28 = .ok (.goto 4, 3) := by decide +kernel
theorem dX1_read_31 : decode cX1_read 31 = .ok (.iconst 0, 1) := by decide +kernel
theorem dX1_read_32 : decode cX1_read 32 = .ok (.invokestatic 280, 3) := by decide +kernel
theorem dX1_read_35 : decode cX1_read 35 = .ok (.aload_n 0, 1) := by decide +kernel
theorem dX1_read_36 : decode cX1_read 36 = .ok (.getfield 64, 3) := by decide +kernel
theorem dX1_read_39 : decode cX1_read 39 = .ok (.aload_n 3, 1) := by decide +kernel
theorem dX1_read_40 : decode cX1_read 40 = .ok (.getfield 236, 3) := by decide +kernel
theorem dX1_read_43 : decode cX1_read 43 = .ok (.i2l, 1) := by decide +kernel
theorem dX1_read_44 : decode cX1_read 44 = .ok (.ldc2_w 204, 3) := by decide +kernel
theorem dX1_read_47 : decode cX1_read 47 = .ok (.lmul, 1) := by decide +kernel
theorem dX1_read_48 : decode cX1_read 48 = .ok (.iload_n 2, 1) := by decide +kernel
theorem dX1_read_49 : decode cX1_read 49 = .ok (.i2l, 1) := by decide +kernel
theorem dX1_read_50 : decode cX1_read 50 = .ok (.ladd, 1) := by decide +kernel
theorem dX1_read_51 : decode cX1_read 51 = .ok (.invokevirtual 263, 3) := by decide +kernel
theorem dX1_read_54 : decode cX1_read 54 = .ok (.ireturn, 1) := by decide +kernel
/-- WriteOnceDisc.read(II)I -/
def wX1_read_L32 (post : Int32 → Prop) (x0 : Nat) (x2 : Int32) (x3 : Nat) (s0 : Int32) (σ : Hp) : Prop :=
(wX1_need s0 σ ((tg_ σ x0 = 1 ∧ (tg_ σ x3 = 10 ∧ (tg_ σ (fR_ σ 0 2 x0) = 7 ∧ (wX7_at (fR_ σ 0 2 x0) ((((fI_ σ 9 2 x3)).toInt64 * (2048 : Int64)) + (x2).toInt64) σ (fun r4 => post r4)))))))
def wX1_read_L31 (post : Int32 → Prop) (x0 : Nat) (x2 : Int32) (x3 : Nat) (σ : Hp) : Prop :=
wX1_read_L32 post x0 x2 x3 (0 : Int32) σ
def wX1_read (x0 : Nat) (x1 : Int32) (x2 : Int32) (σ : Hp) (post : Int32 → Prop) : Prop :=
(tg_ σ x0 = 1 ∧ (wX1_openNode x0 x1 σ (fun r6 => (tg_ σ r6 = 10 ∧ ((¬ (fI_ σ 9 4 r6) = 0 →
  wX1_read_L31 post x0 x2 r6 σ) ∧
 ((fI_ σ 9 4 r6) = 0 →
  (wX1_in x2 (0 : Int32) ((fI_ σ 9 3 r6) - (1 : Int32)) σ (fun r9 => ((r9 = 0 →
   wX1_read_L31 post x0 x2 r6 σ) ∧
  (¬ r9 = 0 →
   wX1_read_L32 post x0 x2 r6 (1 : Int32) σ))))))))))
set_option maxHeartbeats 4000000 in
theorem sX1_read_L32 {G : GG_} {p : Program} {l : Launch} {e : Env} {R : Room} {s : State} {m : MethodId} {args : Array Value} {below : List Frame} {meth : Method} {c : Code} (Y : MX_ G p R s m args meth c cX1_read 4 RX1 (some Jvm.ClassFile.FieldType.int) 5 105 0 0 "read") {post : Int32 → Prop} {x0 : Nat} {x2 : Int32} {x3 : Nat} {s0 : Int32} {σ : Hp} (hf : wX1_read_L32 post x0 x2 x3 s0 σ) : WG_ G p l e R s m args below meth c (MQ below (QI_ G (fun r τ => τ = σ ∧ post r)) args s 0 0 (FR_ G)) BN_ 4 32 [(0, rv_ x0), (2, .int x2), (3, rv_ x3)] [.int s0] σ := by
  have ⟨X, hlk, hr, hRf, hRl, hRc, hnm⟩ := Y
  have ⟨⟨hx, hb, _, hown, hts⟩, _, _⟩ := X
  intro H locs cells slots ls hP hL hB hl
  obtain ⟨rfl, rfl⟩ := hB
  unfold wX1_read_L32 at hf
  refine p_callv hL (p_runS X hP (metX1_need l G _ _ _ X.2.2 hf) (va_cwS 1 hts (lw_S q1187 q1188 q85 q1189) rfl rfl rfl (by decide +kernel) ⟨Nat.le_trans (Nat.le_of_ble_eq_true rfl) hRf, Nat.le_trans (Nat.le_of_ble_eq_true rfl) hRl⟩) rfl hl.1 rfl (by decide) dX1_read_32 ⟨Nat.zero_le _, Nat.zero_le _⟩) (fun σ₁ H locs hf hP hL => ?_)
  obtain ⟨e₁, hf⟩ := hf
  rw [e₁] at hP
  refine p_aload_n hx hb dX1_read_35 rfl (lv_at hl 0 rfl) ?_
  obtain ⟨ht1, hf⟩ := hf
  refine p_gR X cf0_ (k := 2) (by decide) rfl hP ht1 q628 (fun _ h => h) dX1_read_36 ?_
  refine p_aload_n hx hb dX1_read_39 rfl (lv_at hl 2 rfl) ?_
  obtain ⟨ht2, hf⟩ := hf
  refine p_gI X cf9_ (k := 2) (by decide) rfl hP ht2 q1063 (fun _ h => h) dX1_read_40 ?_
  refine lv_i2l hx hb dX1_read_43 rfl ?_
  refine lv_ldc2 hx hb hown (hts _ q959) dX1_read_44 ?_
  refine lv_lmul hx hb dX1_read_47 ?_
  refine lv_iload_n hx hb dX1_read_48 rfl (lv_at hl 1 rfl) ?_
  refine lv_i2l hx hb dX1_read_49 rfl ?_
  refine lv_ladd hx hb dX1_read_50 ?_
  obtain ⟨ht3, hf⟩ := hf
  refine p_calli hL (p_runV X cf6_ hP ht3 (metX7_at l G _ _ _ _ X.2.2 hf) (cwV 1 hts (lw_V q1158 q967 q968 q104 q969) rfl rfl rfl (by decide +kernel) ⟨Nat.le_trans (Nat.le_of_ble_eq_true rfl) hRf, Nat.le_trans (Nat.le_of_ble_eq_true rfl) hRl⟩) rfl hl.1 rfl (by decide) dX1_read_51 ⟨Nat.zero_le _, Nat.zero_le _⟩) (fun r4 σ₁ H locs hf hP hL => ?_)
  obtain ⟨e₁, hf⟩ := hf
  rw [e₁] at hP
  exact p_iret X hlk hP hL (Nat.le_refl _) (Nat.le_refl _) hr dX1_read_54 ⟨rfl, hf⟩
set_option maxHeartbeats 4000000 in
theorem sX1_read_L31 {G : GG_} {p : Program} {l : Launch} {e : Env} {R : Room} {s : State} {m : MethodId} {args : Array Value} {below : List Frame} {meth : Method} {c : Code} (Y : MX_ G p R s m args meth c cX1_read 4 RX1 (some Jvm.ClassFile.FieldType.int) 5 105 0 0 "read") {post : Int32 → Prop} {x0 : Nat} {x2 : Int32} {x3 : Nat} {σ : Hp} (hf : wX1_read_L31 post x0 x2 x3 σ) : WG_ G p l e R s m args below meth c (MQ below (QI_ G (fun r τ => τ = σ ∧ post r)) args s 0 0 (FR_ G)) BN_ 4 31 [(0, rv_ x0), (2, .int x2), (3, rv_ x3)] [] σ := by
  have ⟨X, hlk, hr, hRf, hRl, hRc, hnm⟩ := Y
  have ⟨⟨hx, hb, _, hown, hts⟩, _, _⟩ := X
  intro H locs cells slots ls hP hL hB hl
  obtain ⟨rfl, rfl⟩ := hB
  unfold wX1_read_L31 at hf
  refine lv_iconst (v := 0) hx hb dX1_read_31 (by decide) ?_
  exact sX1_read_L32 Y hf _ _ _ _ _ hP hL ⟨rfl, rfl⟩ (lv_sub hl [0, 1, 2] rfl)
set_option maxHeartbeats 4000000 in
theorem sX1_read {G : GG_} {p : Program} {l : Launch} {e : Env} {R : Room} {s : State} {m : MethodId} {args : Array Value} {below : List Frame} {meth : Method} {c : Code} (Y : MX_ G p R s m args meth c cX1_read 4 RX1 (some Jvm.ClassFile.FieldType.int) 5 105 0 0 "read") {post : Int32 → Prop} {x0 : Nat} {x1 : Int32} {x2 : Int32} {σ : Hp} (hf : wX1_read x0 x1 x2 σ post) : WG_ G p l e R s m args below meth c (MQ below (QI_ G (fun r τ => τ = σ ∧ post r)) args s 0 0 (FR_ G)) BN_ 4 0 [(0, rv_ x0), (1, .int x1), (2, .int x2)] [] σ := by
  have ⟨X, hlk, hr, hRf, hRl, hRc, hnm⟩ := Y
  have ⟨⟨hx, hb, _, hown, hts⟩, _, _⟩ := X
  intro H locs cells slots ls hP hL hB hl
  obtain ⟨rfl, rfl⟩ := hB
  unfold wX1_read at hf
  refine p_aload_n hx hb dX1_read_0 rfl (lv_at hl 0 rfl) ?_
  refine lv_iload_n hx hb dX1_read_1 rfl (lv_at hl 1 rfl) ?_
  obtain ⟨ht5, hf⟩ := hf
  refine p_callr hL (p_runV X cf0_ hP ht5 (metX1_openNode l G _ _ _ _ X.2.2 hf) (cwV 1 hts (lw_V q1258 q1260 qs41 q85 q1261) rfl rfl rfl (by decide +kernel) ⟨Nat.le_trans (Nat.le_of_ble_eq_true rfl) hRf, Nat.le_trans (Nat.le_of_ble_eq_true rfl) hRl⟩) rfl hl.1 rfl (by decide) dX1_read_2 ⟨Nat.zero_le _, Nat.zero_le _⟩) (fun r6 σ₁ H locs hf hP hL => ?_)
  obtain ⟨e₁, hf⟩ := hf
  rw [e₁] at hP
  have hl := lv_sub hl [0, 2] rfl
  refine p_astore_n (i := 3) hx hb dX1_read_5 rfl hl (by decide) ⟨⟨ne_ rfl, Or.inl (ne_ rfl)⟩, ⟨⟨ne_ rfl, Or.inr rfl⟩, trivial⟩⟩ (fun ls hl => ?_)
  refine p_aload_n hx hb dX1_read_6 rfl (lv_at hl 0 rfl) ?_
  obtain ⟨ht7, hf⟩ := hf
  refine p_gI X cf9_ (k := 4) (by decide) rfl hP ht7 q1068 (fun _ h => h) dX1_read_7 ?_
  refine lv_if_ne (tgt := 31) hx hb dX1_read_10 (by decide) (fun c8 => ?_) (fun c8 => ?_)
  · have hf := hf.1 c8
    exact sX1_read_L31 Y hf _ _ _ _ _ hP hL ⟨rfl, rfl⟩ (lv_sub hl [1, 2, 0] rfl)
  · have hf := hf.2 c8
    refine lv_iload_n hx hb dX1_read_13 rfl (lv_at hl 2 rfl) ?_
    refine lv_iconst (v := 0) hx hb dX1_read_14 (by decide) ?_
    refine p_aload_n hx hb dX1_read_15 rfl (lv_at hl 0 rfl) ?_
    refine p_gI X cf9_ (k := 3) (by decide) rfl hP ht7 q1066 (fun _ h => h) dX1_read_16 ?_
    refine lv_iconst (v := 1) hx hb dX1_read_19 (by decide) ?_
    refine lv_isub hx hb dX1_read_20 ?_
    refine p_calli hL (p_runS X hP (metX1_in l G _ _ _ _ _ X.2.2 hf) (va_cwS 3 hts (lw_S q664 q665 q85 q666) rfl rfl rfl (by decide +kernel) ⟨Nat.le_trans (Nat.le_of_ble_eq_true rfl) hRf, Nat.le_trans (Nat.le_of_ble_eq_true rfl) hRl⟩) rfl hl.1 rfl (by decide) dX1_read_21 ⟨Nat.zero_le _, Nat.zero_le _⟩) (fun r9 σ₁ H locs hf hP hL => ?_)
    obtain ⟨e₁, hf⟩ := hf
    rw [e₁] at hP
    refine lv_if_eq (tgt := 31) hx hb dX1_read_24 (by decide) (fun c10 => ?_) (fun c10 => ?_)
    · have hf := hf.1 c10
      exact sX1_read_L31 Y hf _ _ _ _ _ hP hL ⟨rfl, rfl⟩ (lv_sub hl [1, 2, 0] rfl)
    · have hf := hf.2 c10
      refine lv_iconst (v := 1) hx hb dX1_read_27 (by decide) ?_
      refine lv_goto (tgt := 32) hx hb dX1_read_28 (by decide) ?_
      exact sX1_read_L32 Y hf _ _ _ _ _ hP hL ⟨rfl, rfl⟩ (lv_sub hl [1, 2, 0] rfl)
set_option maxHeartbeats 4000000 in
theorem metX1_read (l : Launch) (G : GG_) (x0 : Nat) (x1 : Int32) (x2 : Int32) (σ : Hp) (post : Int32 → Prop) (hG : GOK_ G) (hf : wX1_read x0 x1 x2 σ post) : Met l yX1_read (ws_ yX1_read cX1_read 4 (some Jvm.ClassFile.FieldType.int)) { frames := 5, cells := 0, slots := 0, locals := 105 } (PC_ G [rv_ x0, .int x1, .int x2] σ) (QI_ G (fun r τ => τ = σ ∧ post r)) 0 0 (FR_ G) := by
  refine Met.ofW (cc := cX1_read) (maxL := 4) (ret := (some Jvm.ClassFile.FieldType.int)) (by decide) rfl ?_
  intro p e s m args below meth c s₁ B hml hv
  obtain ⟨rfl, hP, hW⟩ := hv
  have hts := atoms_spec (ws := ws_ yX1_read cX1_read 4 (some Jvm.ClassFile.FieldType.int)) B.pre
  have hts : ∀ w ∈ lw_all, w.before _ s = true := fun w h => hts w (List.mem_cons_of_mem _ h)
  rw [lg_entry_eq]
  have hl := en_entry [rv_ x0, .int x1, .int x2] [1, 1, 1] (n := 4) (ca_r (ca_i (ca_i ca_n))) (by decide)
  exact sX1_read ⟨⟨⟨B.exec, B.bytes, hml, findClass_of_methodNamed B.named, hts⟩, hW, hG⟩, B.notSynchronized, B.returns, Nat.le_refl _, Nat.le_refl _, ⟨rfl, rfl⟩, (name_of_methodNamed B.named B.method).1⟩ hf _ _ _ _ _ hP (LO_nil G) ⟨rfl, rfl⟩ hl
abbrev cX1_tree : ByteArray := prog_1_method_35_code
def yX1_tree : MethodName := ⟨RX1, "tree", "(II)I"⟩
theorem dX1_tree_0 : decode cX1_tree 0 = .ok (.aload_n 0, 1) := by decide +kernel
theorem dX1_tree_1 : decode cX1_tree 1 = .ok (.getfield 55, 3) := by decide +kernel
theorem dX1_tree_4 : decode cX1_tree 4 = .ok (.iload_n 1, 1) := by decide +kernel
theorem dX1_tree_5 : decode cX1_tree 5 = .ok (.invokevirtual 105, 3) := by decide +kernel
theorem dX1_tree_8 : decode cX1_tree 8 = .ok (.astore_n 3, 1) := by decide +kernel
theorem dX1_tree_9 : decode cX1_tree 9 = .ok (.aload_n 3, 1) := by decide +kernel
theorem dX1_tree_10 : decode cX1_tree 10 = .ok (.ifnull 16, 3) := by decide +kernel
theorem dX1_tree_13 : decode cX1_tree 13 = .ok (.iload_n 2, 1) := by decide +kernel
theorem dX1_tree_14 : decode cX1_tree 14 = .ok (.iconst 0, 1) := by decide +kernel
theorem dX1_tree_15 : decode cX1_tree 15 = .ok (.iconst 4, 1) := by decide +kernel
theorem dX1_tree_16 : decode cX1_tree 16 = .ok (.invokestatic 94, 3) := by decide +kernel
theorem dX1_tree_19 : decode cX1_tree 19 = .ok (.ifCond .eq 7, 3) := by decide +kernel
theorem dX1_tree_22 : decode cX1_tree 22 = .ok (.iconst 1, 1) := by decide +kernel
theorem dX1_tree_23 : decode cX1_tree 23 = .ok (.goto 4, 3) := by decide +kernel
theorem dX1_tree_26 : decode cX1_tree 26 = .ok (.iconst 0, 1) := by decide +kernel
theorem dX1_tree_27 : decode cX1_tree 27 = .ok (.invokestatic 280, 3) := by decide +kernel
theorem dX1_tree_30 : decode cX1_tree 30 = .ok (.iload_n 2, 1) := by decide +kernel
theorem dX1_tree_31 : decode cX1_tree 31 = .ok (.ifCond .ne 10, 3) := by decide +kernel
theorem dX1_tree_34 : decode cX1_tree 34 = .ok (.aload_n 3, 1) := by decide +kernel
theorem dX1_tree_35 : decode cX1_tree 35 = .ok (.getfield 190, 3) := by decide +kernel
theorem dX1_tree_38 : decode cX1_tree 38 = .ok (.goto 62, 3) := by decide +kernel
theorem dX1_tree_41 : decode cX1_tree 41 = .ok (.iload_n 2, 1) := by decide +kernel
theorem dX1_tree_42 : decode cX1_tree 42 = .ok (.iconst 1, 1) := by decide +kernel
theorem dX1_tree_43 : decode cX1_tree 43 = .ok (.if_icmp .ne 18, 3) := by decide +kernel
theorem dX1_tree_46 : decode cX1_tree 46 = .ok (.aload_n 3, 1) := by decide +kernel
theorem dX1_tree_47 : decode cX1_tree 47 = .ok (.getfield 109, 3) := by decide +kernel
theorem dX1_tree_50 : decode cX1_tree 50 = .ok (.ifCond .eq 7, 3) := by decide +kernel
theorem dX1_tree_53 : decode cX1_tree 53 = .ok (.iconst 0, 1) := by decide +kernel
theorem dX1_tree_54 : decode cX1_tree 54 = .ok (.goto 46, 3) := by decide +kernel
theorem dX1_tree_57 : decode cX1_tree 57 = .ok (.iconst 1, 1) := by decide +kernel
theorem dX1_tree_58 : decode cX1_tree 58 = .ok (.goto 42, 3) := by decide +kernel
theorem dX1_tree_61 : decode cX1_tree 61 = .ok (.iload_n 2, 1) := by decide +kernel
theorem dX1_tree_62 : decode cX1_tree 62 = .ok (.iconst 2, 1) := by decide +kernel
theorem dX1_tree_63 : decode cX1_tree 63 = .ok (.if_icmp .ne 10, 3) := by decide +kernel
theorem dX1_tree_66 : decode cX1_tree 66 = .ok (.aload_n 3, 1) := by decide +kernel
theorem dX1_tree_67 : decode cX1_tree 67 = .ok (.getfield 160, 3) := by decide +kernel
theorem dX1_tree_70 : decode cX1_tree 70 = .ok (.goto 30, 3) := by decide +kernel
theorem dX1_tree_73 : decode cX1_tree 73 = .ok (.iload_n 2, 1) := by decide +kernel
theorem dX1_tree_74 : decode cX1_tree 74 = .ok (.iconst 3, 1) := by decide +kernel
theorem dX1_tree_75 : decode cX1_tree 75 = .ok (.if_icmp .ne 10, 3) := by decide +kernel
theorem dX1_tree_78 : decode cX1_tree 78 = .ok (.aload_n 3, 1) := by decide +kernel
theorem dX1_tree_79 : decode cX1_tree 79 = .ok (.getfield 162, 3) := by decide +kernel
theorem dX1_tree_82 : decode cX1_tree 82 = .ok (.goto 18, 3) := by decide +kernel
theorem dX1_tree_85 : decode cX1_tree 85 = .ok (.aload_n 3, 1) := by decide +kernel
theorem dX1_tree_86 : decode cX1_tree 86 = .ok (.getfield 160, 3) := by decide +kernel
theorem dX1_tree_89 : decode cX1_tree 89 = .ok (.ifCond .le 10, 3) := by decide +kernel
theorem dX1_tree_92 : decode cX1_tree 92 = .ok (.aload_n 3, 1) := by decide +kernel
theorem dX1_tree_93 : decode cX1_tree 93 = .ok (.getfield 168, 3) := by decide +kernel
theorem dX1_tree_96 : decode cX1_tree 96 = .ok (.goto 4, 3) := by decide +kernel
theorem dX1_tree_99 : decode cX1_tree 99 = .ok (.iconst 0, 1) := by decide +kernel
theorem dX1_tree_100 : decode cX1_tree 100 = .ok (.ireturn, 1) := by decide +kernel
/-- WriteOnceDisc.tree(II)I -/
def wX1_tree_L27 (post : Int32 → Prop) (x2 : Int32) (x3 : Nat) (s0 : Int32) (σ : Hp) : Prop :=
(wX1_need s0 σ (((¬ x2 = 0 →
  ((¬ x2 = (1 : Int32) →
   ((¬ x2 = (2 : Int32) →
    ((¬ x2 = (3 : Int32) →
     (tg_ σ x3 = 6 ∧ (((fI_ σ 5 3 x3) ≤ 0 →
      post (0 : Int32)) ∧
     (¬ (fI_ σ 5 3 x3) ≤ 0 →
      post (fI_ σ 5 5 x3))))) ∧
    (x2 = (3 : Int32) →
     (tg_ σ x3 = 6 ∧ post (fI_ σ 5 4 x3))))) ∧
   (x2 = (2 : Int32) →
    (tg_ σ x3 = 6 ∧ post (fI_ σ 5 3 x3))))) ∧
  (x2 = (1 : Int32) →
   (tg_ σ x3 = 6 ∧ (((fI_ σ 5 1 x3) = 0 →
    post (1 : Int32)) ∧
   (¬ (fI_ σ 5 1 x3) = 0 →
    post (0 : Int32))))))) ∧
 (x2 = 0 →
  (tg_ σ x3 = 6 ∧ post (fI_ σ 5 2 x3))))))
def wX1_tree_L26 (post : Int32 → Prop) (x2 : Int32) (x3 : Nat) (σ : Hp) : Prop :=
wX1_tree_L27 post x2 x3 (0 : Int32) σ
def wX1_tree (x0 : Nat) (x1 : Int32) (x2 : Int32) (σ : Hp) (post : Int32 → Prop) : Prop :=
(tg_ σ x0 = 1 ∧ (tg_ σ (fR_ σ 0 4 x0) = 5 ∧ (wX5_find (fR_ σ 0 4 x0) x1 σ (fun r14 => ((r14 = 0 →
  wX1_tree_L26 post x2 r14 σ) ∧
 (¬ r14 = 0 →
  (wX1_in x2 (0 : Int32) (4 : Int32) σ (fun r16 => ((r16 = 0 →
   wX1_tree_L26 post x2 r14 σ) ∧
  (¬ r16 = 0 →
   wX1_tree_L27 post x2 r14 (1 : Int32) σ))))))))))
set_option maxHeartbeats 4000000 in
theorem sX1_tree_L27 {G : GG_} {p : Program} {l : Launch} {e : Env} {R : Room} {s : State} {m : MethodId} {args : Array Value} {below : List Frame} {meth : Method} {c : Code} (Y : MX_ G p R s m args meth c cX1_tree 4 RX1 (some Jvm.ClassFile.FieldType.int) 5 106 0 0 "tree") {post : Int32 → Prop} {x2 : Int32} {x3 : Nat} {s0 : Int32} {σ : Hp} (hf : wX1_tree_L27 post x2 x3 s0 σ) : WG_ G p l e R s m args below meth c (MQ below (QI_ G (fun r τ => τ = σ ∧ post r)) args s 0 0 (FR_ G)) BN_ 4 27 [(2, .int x2), (3, rv_ x3)] [.int s0] σ := by
  have ⟨X, hlk, hr, hRf, hRl, hRc, hnm⟩ := Y
  have ⟨⟨hx, hb, _, hown, hts⟩, _, _⟩ := X
  intro H locs cells slots ls hP hL hB hl
  obtain ⟨rfl, rfl⟩ := hB
  unfold wX1_tree_L27 at hf
  refine p_callv hL (p_runS X hP (metX1_need l G _ _ _ X.2.2 hf) (va_cwS 1 hts (lw_S q1187 q1188 q85 q1189) rfl rfl rfl (by decide +kernel) ⟨Nat.le_trans (Nat.le_of_ble_eq_true rfl) hRf, Nat.le_trans (Nat.le_of_ble_eq_true rfl) hRl⟩) rfl hl.1 rfl (by decide) dX1_tree_27 ⟨Nat.zero_le _, Nat.zero_le _⟩) (fun σ₁ H locs hf hP hL => ?_)
  obtain ⟨e₁, hf⟩ := hf
  rw [e₁] at hP
  refine lv_iload_n hx hb dX1_tree_30 rfl (lv_at hl 0 rfl) ?_
  refine lv_if_ne (tgt := 41) hx hb dX1_tree_31 (by decide) (fun c1 => ?_) (fun c1 => ?_)
  · have hf := hf.1 c1
    refine lv_iload_n hx hb dX1_tree_41 rfl (lv_at hl 0 rfl) ?_
    refine lv_iconst (v := 1) hx hb dX1_tree_42 (by decide) ?_
    refine lv_icmp_ne (tgt := 61) hx hb dX1_tree_43 (by decide) (fun c2 => ?_) (fun c2 => ?_)
    · have hf := hf.1 c2
      refine lv_iload_n hx hb dX1_tree_61 rfl (lv_at hl 0 rfl) ?_
      refine lv_iconst (v := 2) hx hb dX1_tree_62 (by decide) ?_
      refine lv_icmp_ne (tgt := 73) hx hb dX1_tree_63 (by decide) (fun c3 => ?_) (fun c3 => ?_)
      · have hf := hf.1 c3
        refine lv_iload_n hx hb dX1_tree_73 rfl (lv_at hl 0 rfl) ?_
        refine lv_iconst (v := 3) hx hb dX1_tree_74 (by decide) ?_
        refine lv_icmp_ne (tgt := 85) hx hb dX1_tree_75 (by decide) (fun c4 => ?_) (fun c4 => ?_)
        · have hf := hf.1 c4
          refine p_aload_n hx hb dX1_tree_85 rfl (lv_at hl 1 rfl) ?_
          obtain ⟨ht5, hf⟩ := hf
          refine p_gI X cf5_ (k := 3) (by decide) rfl hP ht5 q449 (fun _ h => h) dX1_tree_86 ?_
          refine lv_if_le (tgt := 99) hx hb dX1_tree_89 (by decide) (fun c6 => ?_) (fun c6 => ?_)
          · have hf := hf.1 c6
            refine lv_iconst (v := 0) hx hb dX1_tree_99 (by decide) ?_
            exact p_iret X hlk hP hL (Nat.le_refl _) (Nat.le_refl _) hr dX1_tree_100 ⟨rfl, hf⟩
          · have hf := hf.2 c6
            refine p_aload_n hx hb dX1_tree_92 rfl (lv_at hl 1 rfl) ?_
            refine p_gI X cf5_ (k := 5) (by decide) rfl hP ht5 q453 (fun _ h => h) dX1_tree_93 ?_
            refine lv_goto (tgt := 100) hx hb dX1_tree_96 (by decide) ?_
            exact p_iret X hlk hP hL (Nat.le_refl _) (Nat.le_refl _) hr dX1_tree_100 ⟨rfl, hf⟩
        · have hf := hf.2 c4
          refine p_aload_n hx hb dX1_tree_78 rfl (lv_at hl 1 rfl) ?_
          obtain ⟨ht7, hf⟩ := hf
          refine p_gI X cf5_ (k := 4) (by decide) rfl hP ht7 q451 (fun _ h => h) dX1_tree_79 ?_
          refine lv_goto (tgt := 100) hx hb dX1_tree_82 (by decide) ?_
          exact p_iret X hlk hP hL (Nat.le_refl _) (Nat.le_refl _) hr dX1_tree_100 ⟨rfl, hf⟩
      · have hf := hf.2 c3
        refine p_aload_n hx hb dX1_tree_66 rfl (lv_at hl 1 rfl) ?_
        obtain ⟨ht8, hf⟩ := hf
        refine p_gI X cf5_ (k := 3) (by decide) rfl hP ht8 q449 (fun _ h => h) dX1_tree_67 ?_
        refine lv_goto (tgt := 100) hx hb dX1_tree_70 (by decide) ?_
        exact p_iret X hlk hP hL (Nat.le_refl _) (Nat.le_refl _) hr dX1_tree_100 ⟨rfl, hf⟩
    · have hf := hf.2 c2
      refine p_aload_n hx hb dX1_tree_46 rfl (lv_at hl 1 rfl) ?_
      obtain ⟨ht9, hf⟩ := hf
      refine p_gI X cf5_ (k := 1) (by decide) rfl hP ht9 q441 (fun _ h => h) dX1_tree_47 ?_
      refine lv_if_eq (tgt := 57) hx hb dX1_tree_50 (by decide) (fun c10 => ?_) (fun c10 => ?_)
      · have hf := hf.1 c10
        refine lv_iconst (v := 1) hx hb dX1_tree_57 (by decide) ?_
        refine lv_goto (tgt := 100) hx hb dX1_tree_58 (by decide) ?_
        exact p_iret X hlk hP hL (Nat.le_refl _) (Nat.le_refl _) hr dX1_tree_100 ⟨rfl, hf⟩
      · have hf := hf.2 c10
        refine lv_iconst (v := 0) hx hb dX1_tree_53 (by decide) ?_
        refine lv_goto (tgt := 100) hx hb dX1_tree_54 (by decide) ?_
        exact p_iret X hlk hP hL (Nat.le_refl _) (Nat.le_refl _) hr dX1_tree_100 ⟨rfl, hf⟩
  · have hf := hf.2 c1
    refine p_aload_n hx hb dX1_tree_34 rfl (lv_at hl 1 rfl) ?_
    obtain ⟨ht11, hf⟩ := hf
    refine p_gI X cf5_ (k := 2) (by decide) rfl hP ht11 q446 (fun _ h => h) dX1_tree_35 ?_
    refine lv_goto (tgt := 100) hx hb dX1_tree_38 (by decide) ?_
    exact p_iret X hlk hP hL (Nat.le_refl _) (Nat.le_refl _) hr dX1_tree_100 ⟨rfl, hf⟩
set_option maxHeartbeats 4000000 in
theorem sX1_tree_L26 {G : GG_} {p : Program} {l : Launch} {e : Env} {R : Room} {s : State} {m : MethodId} {args : Array Value} {below : List Frame} {meth : Method} {c : Code} (Y : MX_ G p R s m args meth c cX1_tree 4 RX1 (some Jvm.ClassFile.FieldType.int) 5 106 0 0 "tree") {post : Int32 → Prop} {x2 : Int32} {x3 : Nat} {σ : Hp} (hf : wX1_tree_L26 post x2 x3 σ) : WG_ G p l e R s m args below meth c (MQ below (QI_ G (fun r τ => τ = σ ∧ post r)) args s 0 0 (FR_ G)) BN_ 4 26 [(2, .int x2), (3, rv_ x3)] [] σ := by
  have ⟨X, hlk, hr, hRf, hRl, hRc, hnm⟩ := Y
  have ⟨⟨hx, hb, _, hown, hts⟩, _, _⟩ := X
  intro H locs cells slots ls hP hL hB hl
  obtain ⟨rfl, rfl⟩ := hB
  unfold wX1_tree_L26 at hf
  refine lv_iconst (v := 0) hx hb dX1_tree_26 (by decide) ?_
  exact sX1_tree_L27 Y hf _ _ _ _ _ hP hL ⟨rfl, rfl⟩ (lv_sub hl [0, 1] rfl)
set_option maxHeartbeats 4000000 in
theorem sX1_tree {G : GG_} {p : Program} {l : Launch} {e : Env} {R : Room} {s : State} {m : MethodId} {args : Array Value} {below : List Frame} {meth : Method} {c : Code} (Y : MX_ G p R s m args meth c cX1_tree 4 RX1 (some Jvm.ClassFile.FieldType.int) 5 106 0 0 "tree") {post : Int32 → Prop} {x0 : Nat} {x1 : Int32} {x2 : Int32} {σ : Hp} (hf : wX1_tree x0 x1 x2 σ post) : WG_ G p l e R s m args below meth c (MQ below (QI_ G (fun r τ => τ = σ ∧ post r)) args s 0 0 (FR_ G)) BN_ 4 0 [(0, rv_ x0), (1, .int x1), (2, .int x2)] [] σ := by
  have ⟨X, hlk, hr, hRf, hRl, hRc, hnm⟩ := Y
  have ⟨⟨hx, hb, _, hown, hts⟩, _, _⟩ := X
  intro H locs cells slots ls hP hL hB hl
  obtain ⟨rfl, rfl⟩ := hB
  unfold wX1_tree at hf
  refine p_aload_n hx hb dX1_tree_0 rfl (lv_at hl 0 rfl) ?_
  obtain ⟨ht12, hf⟩ := hf
  refine p_gR X cf0_ (k := 4) (by decide) rfl hP ht12 q630 (fun _ h => h) dX1_tree_1 ?_
  refine lv_iload_n hx hb dX1_tree_4 rfl (lv_at hl 1 rfl) ?_
  obtain ⟨ht13, hf⟩ := hf
  refine p_callr hL (p_runV X cf4_ hP ht13 (metX5_find l G _ _ _ _ X.2.2 hf) (cwV 1 hts (lw_V q715 q716 q717 q92 q718) rfl rfl rfl (by decide +kernel) ⟨Nat.le_trans (Nat.le_of_ble_eq_true rfl) hRf, Nat.le_trans (Nat.le_of_ble_eq_true rfl) hRl⟩) rfl hl.1 rfl (by decide) dX1_tree_5 ⟨Nat.zero_le _, Nat.zero_le _⟩) (fun r14 σ₁ H locs hf hP hL => ?_)
  obtain ⟨e₁, hf⟩ := hf
  rw [e₁] at hP
  have hl := lv_sub hl [2] rfl
  refine p_astore_n (i := 3) hx hb dX1_tree_8 rfl hl (by decide) ⟨⟨ne_ rfl, Or.inr rfl⟩, trivial⟩ (fun ls hl => ?_)
  refine p_aload_n hx hb dX1_tree_9 rfl (lv_at hl 0 rfl) ?_
  refine p_ifnull (tgt := 26) hx hb dX1_tree_10 (by decide) (fun c15 => ?_) (fun c15 => ?_)
  · have hf := hf.1 c15
    exact sX1_tree_L26 Y hf _ _ _ _ _ hP hL ⟨rfl, rfl⟩ (lv_sub hl [1, 0] rfl)
  · have hf := hf.2 c15
    refine lv_iload_n hx hb dX1_tree_13 rfl (lv_at hl 1 rfl) ?_
    refine lv_iconst (v := 0) hx hb dX1_tree_14 (by decide) ?_
    refine lv_iconst (v := 4) hx hb dX1_tree_15 (by decide) ?_
    refine p_calli hL (p_runS X hP (metX1_in l G _ _ _ _ _ X.2.2 hf) (va_cwS 3 hts (lw_S q664 q665 q85 q666) rfl rfl rfl (by decide +kernel) ⟨Nat.le_trans (Nat.le_of_ble_eq_true rfl) hRf, Nat.le_trans (Nat.le_of_ble_eq_true rfl) hRl⟩) rfl hl.1 rfl (by decide) dX1_tree_16 ⟨Nat.zero_le _, Nat.zero_le _⟩) (fun r16 σ₁ H locs hf hP hL => ?_)
    obtain ⟨e₁, hf⟩ := hf
    rw [e₁] at hP
    refine lv_if_eq (tgt := 26) hx hb dX1_tree_19 (by decide) (fun c17 => ?_) (fun c17 => ?_)
    · have hf := hf.1 c17
      exact sX1_tree_L26 Y hf _ _ _ _ _ hP hL ⟨rfl, rfl⟩ (lv_sub hl [1, 0] rfl)
    · have hf := hf.2 c17
      refine lv_iconst (v := 1) hx hb dX1_tree_22 (by decide) ?_
      refine lv_goto (tgt := 27) hx hb dX1_tree_23 (by decide) ?_
      exact sX1_tree_L27 Y hf _ _ _ _ _ hP hL ⟨rfl, rfl⟩ (lv_sub hl [1, 0] rfl)
set_option maxHeartbeats 4000000 in
theorem metX1_tree (l : Launch) (G : GG_) (x0 : Nat) (x1 : Int32) (x2 : Int32) (σ : Hp) (post : Int32 → Prop) (hG : GOK_ G) (hf : wX1_tree x0 x1 x2 σ post) : Met l yX1_tree (ws_ yX1_tree cX1_tree 4 (some Jvm.ClassFile.FieldType.int)) { frames := 5, cells := 0, slots := 0, locals := 106 } (PC_ G [rv_ x0, .int x1, .int x2] σ) (QI_ G (fun r τ => τ = σ ∧ post r)) 0 0 (FR_ G) := by
  refine Met.ofW (cc := cX1_tree) (maxL := 4) (ret := (some Jvm.ClassFile.FieldType.int)) (by decide) rfl ?_
  intro p e s m args below meth c s₁ B hml hv
  obtain ⟨rfl, hP, hW⟩ := hv
  have hts := atoms_spec (ws := ws_ yX1_tree cX1_tree 4 (some Jvm.ClassFile.FieldType.int)) B.pre
  have hts : ∀ w ∈ lw_all, w.before _ s = true := fun w h => hts w (List.mem_cons_of_mem _ h)
  rw [lg_entry_eq]
  have hl := en_entry [rv_ x0, .int x1, .int x2] [1, 1, 1] (n := 4) (ca_r (ca_i (ca_i ca_n))) (by decide)
  exact sX1_tree ⟨⟨⟨B.exec, B.bytes, hml, findClass_of_methodNamed B.named, hts⟩, hW, hG⟩, B.notSynchronized, B.returns, Nat.le_refl _, Nat.le_refl _, ⟨rfl, rfl⟩, (name_of_methodNamed B.named B.method).1⟩ hf _ _ _ _ _ hP (LO_nil G) ⟨rfl, rfl⟩ hl
