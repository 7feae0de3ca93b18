set_option maxRecDepth 100000
abbrev cX3_tableSize : ByteArray := prog_2_method_12_code
def yX3_tableSize : MethodName := ⟨RX3, "tableSize", "()I"⟩
theorem dX3_tableSize_0 : decode cX3_tableSize 0 = .ok (.iconst 0, 1) := by decide +kernel
theorem dX3_tableSize_1 : decode cX3_tableSize 1 = .ok (.istore_n 1, 1) := by decide +kernel
theorem dX3_tableSize_2 : decode cX3_tableSize 2 = .ok (.iconst 0, 1) := by decide +kernel
theorem dX3_tableSize_3 : decode cX3_tableSize 3 = .ok (.istore_n 2, 1) := by decide +kernel
theorem dX3_tableSize_4 : decode cX3_tableSize 4 = .ok (.iload_n 2, 1) := by decide +kernel
theorem dX3_tableSize_5 : decode cX3_tableSize 5 = .ok (.aload_n 0, 1) := by decide +kernel
theorem dX3_tableSize_6 : decode cX3_tableSize 6 = .ok (.getfield 12, 3) := by decide +kernel
theorem dX3_tableSize_9 : decode cX3_tableSize 9 = .ok (.invokevirtual 137, 3) := by decide +kernel
theorem dX3_tableSize_12 : decode cX3_tableSize 12 = .ok (.if_icmp .ge 46, 3) := by decide +kernel
theorem dX3_tableSize_15 : decode cX3_tableSize 15 = .ok (.iload_n 2, 1) := by decide +kernel
theorem dX3_tableSize_16 : decode cX3_tableSize 16 = .ok (.ifCond .ne 7, 3) := by decide +kernel
theorem dX3_tableSize_19 : decode cX3_tableSize 19 = .ok (.iconst 1, 1) := by decide +kernel
theorem dX3_tableSize_20 : decode cX3_tableSize 20 = .ok (.goto 20, 3) := by decide +kernel
theorem dX3_tableSize_23 : decode cX3_tableSize 23 = .ok (.aload_n 0, 1) := by decide +kernel
theorem dX3_tableSize_24 : decode cX3_tableSize 24 = .ok (.getfield 12, 3) := by decide +kernel
theorem dX3_tableSize_27 : decode cX3_tableSize 27 = .ok (.iload_n 2, 1) := by decide +kernel
theorem dX3_tableSize_28 : decode cX3_tableSize 28 = .ok (.invokevirtual 139, 3) := by decide +kernel
theorem dX3_tableSize_31 : decode cX3_tableSize 31 = .ok (.checkcast 62, 3) := by decide +kernel
theorem dX3_tableSize_34 : decode cX3_tableSize 34 = .ok (.getfield 196, 3) := by decide +kernel
theorem dX3_tableSize_37 : decode cX3_tableSize 37 = .ok (.invokevirtual 101, 3) := by decide +kernel
theorem dX3_tableSize_40 : decode cX3_tableSize 40 = .ok (.istore_n 3, 1) := by decide +kernel
theorem dX3_tableSize_41 : decode cX3_tableSize 41 = .ok (.iload_n 1, 1) := by decide +kernel
theorem dX3_tableSize_42 : decode cX3_tableSize 42 = .ok (.bipush 8, 2) := by decide +kernel
theorem dX3_tableSize_44 : decode cX3_tableSize 44 = .ok (.iload_n 3, 1) := by decide +kernel
theorem dX3_tableSize_45 : decode cX3_tableSize 45 = .ok (.iadd, 1) := by decide +kernel
theorem dX3_tableSize_46 : decode cX3_tableSize 46 = .ok (.iload_n 3, 1) := by decide +kernel
theorem dX3_tableSize_47 : decode cX3_tableSize 47 = .ok (.iconst 1, 1) := by decide +kernel
theorem dX3_tableSize_48 : decode cX3_tableSize 48 = .ok (.iand, 1) := by decide +kernel
theorem dX3_tableSize_49 : decode cX3_tableSize 49 = .ok (.iadd, 1) := by decide +kernel
theorem dX3_tableSize_50 : decode cX3_tableSize 50 = .ok (.iadd, 1) := by decide +kernel
theorem dX3_tableSize_51 : decode cX3_tableSize 51 = .ok (.istore_n 1, 1) := by decide +kernel
theorem dX3_tableSize_52 : decode cX3_tableSize 52 = .ok (.iinc 2 1, 3) := by decide +kernel
theorem dX3_tableSize_55 : decode cX3_tableSize 55 = .ok (.goto (-51), 3) := by decide +kernel
theorem dX3_tableSize_58 : decode cX3_tableSize 58 = .ok (.iload_n 1, 1) := by decide +kernel
theorem dX3_tableSize_59 : decode cX3_tableSize 59 = .ok (.ireturn, 1) := by decide +kernel
/-- WriteOnceDisc$Burner.tableSize()I -/
def wX3_tableSize_L40 (post : Int32 → Prop) (rc4 : Int32 → Int32 → Prop) (x0 : Nat) (x1 : Int32) (x2 : Int32) (s0 : Int32) (σ : Hp) : Prop :=
(∀ y1 : Int32, y1 = (x1 + (((8 : Int32) + s0) + (s0 &&& (1 : Int32)))) → (∀ y2 : Int32, y2 = x2 + 1 → rc4 y1 y2))
def wX3_tableSize_B4 (post : Int32 → Prop) (rc4 : Int32 → Int32 → Prop) (x0 : Nat) (x1 : Int32) (x2 : Int32) (σ : Hp) : Prop :=
(tg_ σ x0 = 3 ∧ (tg_ σ (fR_ σ 2 4 x0) = 11 ∧ (wJ2_size (fR_ σ 2 4 x0)  σ (fun r5 => ((r5 ≤ x2 →
  post x1) ∧
 (¬ r5 ≤ x2 →
  ((¬ x2 = 0 →
   (wJ2_get (fR_ σ 2 4 x0) x2 σ (fun r8 => ((r8 = 0 ∨ tg_ σ r8 = 6) ∧ (tg_ σ r8 = 6 ∧ (tg_ σ (fR_ σ 5 6 r8) = 13 ∧ (wJ5_length (fR_ σ 5 6 r8)  σ (fun r12 => wX3_tableSize_L40 post rc4 x0 x1 x2 r12 σ)))))))) ∧
  (x2 = 0 →
   wX3_tableSize_L40 post rc4 x0 x1 x2 (1 : Int32) σ))))))))
def wX3_tableSize_L4 (post : Int32 → Prop) (x0 : Nat) (x1 : Int32) (x2 : Int32) (σ : Hp) : Prop :=
 ∃ (I : Int32 → Int32 → Prop) (μ : Int32 → Int32 → Nat), I x1 x2 ∧ ∀ (x1 : Int32) (x2 : Int32), I x1 x2 → wX3_tableSize_B4 post (fun x1' x2' => I x1' x2' ∧ μ x1' x2' < μ x1 x2) x0 x1 x2 σ
def wX3_tableSize (x0 : Nat) (σ : Hp) (post : Int32 → Prop) : Prop :=
wX3_tableSize_L4 post x0 (0 : Int32) (0 : Int32) σ
set_option maxHeartbeats 4000000 in
theorem sX3_tableSize_L40 {G : GG_} {p : Program} {l : Launch} {e : Env} {R : Room} {s : State} {m : MethodId} {args : Array Value} {below : List Frame} {meth : Method} {c : Code} (Y : MX_ G p R s m args meth c cX3_tableSize 4 RX3 (some Jvm.ClassFile.FieldType.int) 4 84 0 0 "tableSize") {post : Int32 → Prop} {rc4 : Int32 → Int32 → Prop} {x0 : Nat} {x1 : Int32} {x2 : Int32} {s0 : Int32} {σ : Hp} (hrc4 : ∀ (x1 : Int32) (x2 : Int32), rc4 x1 x2 → WG_ G p l e R s m args below meth c (MQ below (QI_ G (fun r τ => τ = σ ∧ post r)) args s 0 0 (FR_ G)) BN_ 4 4 [(0, rv_ x0), (1, .int x1), (2, .int x2)] [] σ) (hf : wX3_tableSize_L40 post rc4 x0 x1 x2 s0 σ) : WG_ G p l e R s m args below meth c (MQ below (QI_ G (fun r τ => τ = σ ∧ post r)) args s 0 0 (FR_ G)) BN_ 4 40 [(0, rv_ x0), (1, .int x1), (2, .int x2)] [.int s0] σ := by
  have ⟨X, hlk, hr, hRf, hRl, hRc, hnm⟩ := Y
  have ⟨⟨hx, hb, _, hown, hts⟩, _, _⟩ := X
  intro H locs cells slots ls hP hL hB hl
  obtain ⟨rfl, rfl⟩ := hB
  unfold wX3_tableSize_L40 at hf
  refine p_istore_n (i := 3) hx hb dX3_tableSize_40 rfl hl (by decide) ⟨⟨ne_ rfl, Or.inl (ne_ rfl)⟩, ⟨⟨ne_ rfl, Or.inl (ne_ rfl)⟩, ⟨⟨ne_ rfl, Or.inr rfl⟩, trivial⟩⟩⟩ (fun ls hl => ?_)
  refine lv_iload_n hx hb dX3_tableSize_41 rfl (lv_at hl 2 rfl) ?_
  refine lv_bipush (v := 8) hx hb dX3_tableSize_42 (by decide) ?_
  refine lv_iload_n hx hb dX3_tableSize_44 rfl (lv_at hl 0 rfl) ?_
  refine lv_iadd hx hb dX3_tableSize_45 ?_
  refine lv_iload_n hx hb dX3_tableSize_46 rfl (lv_at hl 0 rfl) ?_
  refine lv_iconst (v := 1) hx hb dX3_tableSize_47 (by decide) ?_
  refine lv_iand hx hb dX3_tableSize_48 ?_
  refine lv_iadd hx hb dX3_tableSize_49 ?_
  refine lv_iadd hx hb dX3_tableSize_50 ?_
  have hl := lv_sub hl [1, 3] rfl
  refine lv_topi (fun y1 hy1 => ?_)
  have hf := hf y1 hy1
  refine p_istore_n (i := 1) hx hb dX3_tableSize_51 rfl hl (by decide) ⟨⟨ne_ rfl, Or.inr (rv_cat _)⟩, ⟨⟨ne_ rfl, Or.inl (ne_ rfl)⟩, trivial⟩⟩ (fun ls hl => ?_)
  have hl := lv_sub hl [2, 0, 1] rfl
  refine p_iincc (i := 2) (k := 1) hx hb (by decide) dX3_tableSize_52 hl (by decide) ⟨⟨ne_ rfl, Or.inr rfl⟩, ⟨⟨ne_ rfl, Or.inl (ne_ rfl)⟩, trivial⟩⟩ (fun y2 hy2 ls hl => ?_)
  have hf := hf y2 hy2
  refine lv_goto (tgt := 4) hx hb dX3_tableSize_55 (by decide) ?_
  exact hrc4 _ _ hf _ _ _ _ _ hP hL ⟨rfl, rfl⟩ (lv_sub hl [2, 1, 0] rfl)
set_option maxHeartbeats 4000000 in
theorem sX3_tableSize_B4 {G : GG_} {p : Program} {l : Launch} {e : Env} {R : Room} {s : State} {m : MethodId} {args : Array Value} {below : List Frame} {meth : Method} {c : Code} (Y : MX_ G p R s m args meth c cX3_tableSize 4 RX3 (some Jvm.ClassFile.FieldType.int) 4 84 0 0 "tableSize") {post : Int32 → Prop} {rc4 : Int32 → Int32 → Prop} {x0 : Nat} {x1 : Int32} {x2 : Int32} {σ : Hp} (hrc4 : ∀ (x1 : Int32) (x2 : Int32), rc4 x1 x2 → WG_ G p l e R s m args below meth c (MQ below (QI_ G (fun r τ => τ = σ ∧ post r)) args s 0 0 (FR_ G)) BN_ 4 4 [(0, rv_ x0), (1, .int x1), (2, .int x2)] [] σ) (hf : wX3_tableSize_B4 post rc4 x0 x1 x2 σ) : WG_ G p l e R s m args below meth c (MQ below (QI_ G (fun r τ => τ = σ ∧ post r)) args s 0 0 (FR_ G)) BN_ 4 4 [(0, rv_ x0), (1, .int x1), (2, .int x2)] [] σ := by
  have ⟨X, hlk, hr, hRf, hRl, hRc, hnm⟩ := Y
  have ⟨⟨hx, hb, _, hown, hts⟩, _, _⟩ := X
  intro H locs cells slots ls hP hL hB hl
  obtain ⟨rfl, rfl⟩ := hB
  unfold wX3_tableSize_B4 at hf
  refine lv_iload_n hx hb dX3_tableSize_4 rfl (lv_at hl 2 rfl) ?_
  refine p_aload_n hx hb dX3_tableSize_5 rfl (lv_at hl 0 rfl) ?_
  obtain ⟨ht3, hf⟩ := hf
  refine p_gR X cf2_ (k := 4) (by decide) rfl hP ht3 q189 (fun _ h => h) dX3_tableSize_6 ?_
  obtain ⟨ht4, hf⟩ := hf
  refine p_calli hL (p_runV X cf10_ hP ht4 (metJ2_size l G _ _ _ X.2.2 hf) (cwV 0 hts (lw_V q810 q720 q721 q90 q722) rfl rfl rfl (by decide +kernel) ⟨Nat.le_trans (Nat.le_of_ble_eq_true rfl) hRf, Nat.le_trans (Nat.le_of_ble_eq_true rfl) hRl⟩) rfl hl.1 rfl (by rw [(ca_i ca_n)]; decide) dX3_tableSize_9 ⟨Nat.zero_le _, Nat.zero_le _⟩) (fun r5 σ₁ H locs hf hP hL => ?_)
  obtain ⟨e₁, hf⟩ := hf
  rw [e₁] at hP
  refine lv_icmp_ge (tgt := 58) hx hb dX3_tableSize_12 (by decide) (fun c6 => ?_) (fun c6 => ?_)
  · have hf := hf.1 c6
    refine lv_iload_n hx hb dX3_tableSize_58 rfl (lv_at hl 1 rfl) ?_
    exact p_iret X hlk hP hL (Nat.le_refl _) (Nat.le_refl _) hr dX3_tableSize_59 ⟨rfl, hf⟩
  · have hf := hf.2 c6
    refine lv_iload_n hx hb dX3_tableSize_15 rfl (lv_at hl 2 rfl) ?_
    refine lv_if_ne (tgt := 23) hx hb dX3_tableSize_16 (by decide) (fun c7 => ?_) (fun c7 => ?_)
    · have hf := hf.1 c7
      refine p_aload_n hx hb dX3_tableSize_23 rfl (lv_at hl 0 rfl) ?_
      refine p_gR X cf2_ (k := 4) (by decide) rfl hP ht3 q189 (fun _ h => h) dX3_tableSize_24 ?_
      refine lv_iload_n hx hb dX3_tableSize_27 rfl (lv_at hl 2 rfl) ?_
      refine p_callr hL (p_runV X cf10_ hP ht4 (metJ2_get l G _ _ _ _ X.2.2 hf) (cwV 1 hts (lw_V q811 q724 q725 q90 q726) rfl rfl rfl (by decide +kernel) ⟨Nat.le_trans (Nat.le_of_ble_eq_true rfl) hRf, Nat.le_trans (Nat.le_of_ble_eq_true rfl) hRl⟩) rfl hl.1 rfl (by decide) dX3_tableSize_28 ⟨Nat.zero_le _, Nat.zero_le _⟩) (fun r8 σ₁ H locs hf hP hL => ?_)
      obtain ⟨e₁, hf⟩ := hf
      rw [e₁] at hP
      obtain ⟨hc9, hf⟩ := hf
      refine p_cast X cf5_ hP hc9 q812 dX3_tableSize_31 ?_
      obtain ⟨ht10, hf⟩ := hf
      refine p_gR X cf5_ (k := 6) (by decide) rfl hP ht10 q456 (fun _ h => h) dX3_tableSize_34 ?_
      obtain ⟨ht11, hf⟩ := hf
      refine p_calli hL (p_runV X cf12_ hP ht11 (metJ5_length l G _ _ _ X.2.2 hf) (cwV 0 hts (lw_V q884 q332 q333 q96 q334) rfl rfl rfl (by decide +kernel) ⟨Nat.le_trans (Nat.le_of_ble_eq_true rfl) hRf, Nat.le_trans (Nat.le_of_ble_eq_true rfl) hRl⟩) rfl hl.1 rfl (by decide) dX3_tableSize_37 ⟨Nat.zero_le _, Nat.zero_le _⟩) (fun r12 σ₁ H locs hf hP hL => ?_)
      obtain ⟨e₁, hf⟩ := hf
      rw [e₁] at hP
      exact sX3_tableSize_L40 Y hrc4 hf _ _ _ _ _ hP hL ⟨rfl, rfl⟩ (lv_sub hl [0, 1, 2] rfl)
    · have hf := hf.2 c7
      refine lv_iconst (v := 1) hx hb dX3_tableSize_19 (by decide) ?_
      refine lv_goto (tgt := 40) hx hb dX3_tableSize_20 (by decide) ?_
      exact sX3_tableSize_L40 Y hrc4 hf _ _ _ _ _ hP hL ⟨rfl, rfl⟩ (lv_sub hl [0, 1, 2] rfl)
set_option maxHeartbeats 4000000 in
theorem sX3_tableSize_L4 {G : GG_} {p : Program} {l : Launch} {e : Env} {R : Room} {s : State} {m : MethodId} {args : Array Value} {below : List Frame} {meth : Method} {c : Code} (Y : MX_ G p R s m args meth c cX3_tableSize 4 RX3 (some Jvm.ClassFile.FieldType.int) 4 84 0 0 "tableSize") {post : Int32 → Prop} {x0 : Nat} {x1 : Int32} {x2 : Int32} {σ : Hp} (hf : wX3_tableSize_L4 post x0 x1 x2 σ) : WG_ G p l e R s m args below meth c (MQ below (QI_ G (fun r τ => τ = σ ∧ post r)) args s 0 0 (FR_ G)) BN_ 4 4 [(0, rv_ x0), (1, .int x1), (2, .int x2)] [] σ := by
  unfold wX3_tableSize_L4 at hf
  obtain ⟨I, μ, h0, hI⟩ := hf
  have key : ∀ (n : Nat) (x1 : Int32) (x2 : Int32), I x1 x2 → μ x1 x2 < n → WG_ G p l e R s m args below meth c (MQ below (QI_ G (fun r τ => τ = σ ∧ post r)) args s 0 0 (FR_ G)) BN_ 4 4 [(0, rv_ x0), (1, .int x1), (2, .int x2)] [] σ := by
    intro n
    induction n with
    | zero => intro x1 x2 _ h; exact absurd h (Nat.not_lt_zero _)
    | succ n ih => intro x1 x2 hi hn; exact sX3_tableSize_B4 Y (fun x1' x2' h => ih x1' x2' h.1 (Nat.lt_of_lt_of_le h.2 (Nat.le_of_lt_succ hn))) (hI x1 x2 hi)
  exact key _ _ _ h0 (Nat.lt_succ_self _)
set_option maxHeartbeats 4000000 in
theorem sX3_tableSize {G : GG_} {p : Program} {l : Launch} {e : Env} {R : Room} {s : State} {m : MethodId} {args : Array Value} {below : List Frame} {meth : Method} {c : Code} (Y : MX_ G p R s m args meth c cX3_tableSize 4 RX3 (some Jvm.ClassFile.FieldType.int) 4 84 0 0 "tableSize") {post : Int32 → Prop} {x0 : Nat} {σ : Hp} (hf : wX3_tableSize x0 σ post) : WG_ G p l e R s m args below meth c (MQ below (QI_ G (fun r τ => τ = σ ∧ post r)) args s 0 0 (FR_ G)) BN_ 4 0 [(0, rv_ x0)] [] σ := by
  have ⟨X, hlk, hr, hRf, hRl, hRc, hnm⟩ := Y
  have ⟨⟨hx, hb, _, hown, hts⟩, _, _⟩ := X
  intro H locs cells slots ls hP hL hB hl
  obtain ⟨rfl, rfl⟩ := hB
  unfold wX3_tableSize at hf
  refine lv_iconst (v := 0) hx hb dX3_tableSize_0 (by decide) ?_
  refine p_istore_n (i := 1) hx hb dX3_tableSize_1 rfl hl (by decide) ⟨⟨ne_ rfl, Or.inr (rv_cat _)⟩, trivial⟩ (fun ls hl => ?_)
  refine lv_iconst (v := 0) hx hb dX3_tableSize_2 (by decide) ?_
  refine p_istore_n (i := 2) hx hb dX3_tableSize_3 rfl hl (by decide) ⟨⟨ne_ rfl, Or.inr rfl⟩, ⟨⟨ne_ rfl, Or.inl (ne_ rfl)⟩, trivial⟩⟩ (fun ls hl => ?_)
  exact sX3_tableSize_L4 Y hf _ _ _ _ _ hP hL ⟨rfl, rfl⟩ (lv_sub hl [2, 1, 0] rfl)
set_option maxHeartbeats 4000000 in
theorem metX3_tableSize (l : Launch) (G : GG_) (x0 : Nat) (σ : Hp) (post : Int32 → Prop) (hG : GOK_ G) (hf : wX3_tableSize x0 σ post) : Met l yX3_tableSize (ws_ yX3_tableSize cX3_tableSize 4 (some Jvm.ClassFile.FieldType.int)) { frames := 4, cells := 0, slots := 0, locals := 84 } (PC_ G [rv_ x0] σ) (QI_ G (fun r τ => τ = σ ∧ post r)) 0 0 (FR_ G) := by
  refine Met.ofW (cc := cX3_tableSize) (maxL := 4) (ret := (some Jvm.ClassFile.FieldType.int)) (by decide) rfl ?_
  intro p e s m args below meth c s₁ B hml hv
  obtain ⟨rfl, hP, hW⟩ := hv
  have hts := atoms_spec (ws := ws_ yX3_tableSize cX3_tableSize 4 (some Jvm.ClassFile.FieldType.int)) B.pre
  have hts : ∀ w ∈ lw_all, w.before _ s = true := fun w h => hts w (List.mem_cons_of_mem _ h)
  rw [lg_entry_eq]
  have hl := en_entry [rv_ x0] [1] (n := 4) (ca_r ca_n) (by decide)
  exact sX3_tableSize ⟨⟨⟨B.exec, B.bytes, hml, findClass_of_methodNamed B.named, hts⟩, hW, hG⟩, B.notSynchronized, B.returns, Nat.le_refl _, Nat.le_refl _, ⟨rfl, rfl⟩, (name_of_methodNamed B.named B.method).1⟩ hf _ _ _ _ _ hP (LO_nil G) ⟨rfl, rfl⟩ hl
abbrev cX3_special : ByteArray := prog_2_method_8_code
def yX3_special : MethodName := ⟨RX3, "special", "(I)Ljava/lang/String;"⟩
theorem dX3_special_0 : decode cX3_special 0 = .ok (.new 106, 3) := by decide +kernel
theorem dX3_special_3 : decode cX3_special 3 = .ok (.dup, 1) := by decide +kernel
theorem dX3_special_4 : decode cX3_special 4 = .ok (.invokespecial 108, 3) := by decide +kernel
theorem dX3_special_7 : decode cX3_special 7 = .ok (.ldc 109, 2) := by decide +kernel
theorem dX3_special_9 : decode cX3_special 9 = .ok (.invokevirtual 111, 3) := by decide +kernel
theorem dX3_special_12 : decode cX3_special 12 = .ok (.iload_n 0, 1) := by decide +kernel
theorem dX3_special_13 : decode cX3_special 13 = .ok (.i2c, 1) := by decide +kernel
theorem dX3_special_14 : decode cX3_special 14 = .ok (.invokevirtual 115, 3) := by decide +kernel
theorem dX3_special_17 : decode cX3_special 17 = .ok (.invokevirtual 118, 3) := by decide +kernel
theorem dX3_special_20 : decode cX3_special 20 = .ok (.areturn, 1) := by decide +kernel
/-- WriteOnceDisc$Burner.special(I)Ljava/lang/String; -/
def wX3_special (x0 : Int32) (σ : Hp) (post : Nat → Hp → Prop) : Prop :=
(1 ≤ bc_ σ ∧ (4 ≤ bs_ σ ∧ (∀ σ3, σ3 = mO_ σ 11 4 → (tg_ σ3 (nx_ σ) = 12 ∧ (∃ mc5 ms6 : Nat, (mc5 ≤ bc_ σ3 ∧ (ms6 ≤ bs_ σ3 ∧ (wJ4_init (nx_ σ)  (bu_ σ3 mc5 ms6) (fun σ9 => (∀ σ10, σ10 = bu_ σ9 (bc_ σ3 - mc5) (bs_ σ3 - ms6) → (tg_ σ10 (nx_ σ) = 12 ∧ (wJ4_append (nx_ σ) (fR_ σ10 101 3 0) σ10 (fun r12 σ13 => (∀ σ14, σ14 = bu_ σ13 (bc_ σ10) (bs_ σ10) → (tg_ σ14 r12 = 12 ∧ (wJ4_append_2 r12 ((x0).toUInt32 % 65536).toInt32 σ14 (fun r16 σ17 => (∀ σ18, σ18 = bu_ σ17 (bc_ σ14) (bs_ σ14) → (tg_ σ18 r16 = 12 ∧ (∃ mc20 ms21 : Nat, (mc20 ≤ bc_ σ18 ∧ (ms21 ≤ bs_ σ18 ∧ (wJ4_toString r16  (bu_ σ18 mc20 ms21) (fun r24 σ25 => (∀ σ26, σ26 = bu_ σ25 (bc_ σ18 - mc20) (bs_ σ18 - ms21) → post r24 σ26)))))))))))))))))))))))))
set_option maxHeartbeats 4000000 in
theorem sX3_special {G : GG_} {p : Program} {l : Launch} {e : Env} {R : Room} {s : State} {m : MethodId} {args : Array Value} {below : List Frame} {meth : Method} {c : Code} {mc ms : Nat} (Y : MX_ G p R s m args meth c cX3_special 1 RX3 (some ((Jvm.ClassFile.FieldType.object "java/lang/String"))) 7 159 mc ms "special") {post : Nat → Hp → Prop} {x0 : Int32} {σ : Hp} (hf : wX3_special x0 σ post) : WG_ G p l e R s m args below meth c (MQ below (QR_ G post) args s mc ms (FR_ G)) (BU_ R) 1 0 [(0, .int x0)] [] σ := by
  have ⟨X, hlk, hr, hRf, hRl, hRc, hnm⟩ := Y
  have ⟨⟨hx, hb, _, hown, hts⟩, _, _⟩ := X
  intro H locs cells slots ls hP hL hB hl
  unfold wX3_special at hf
  obtain ⟨hb1, hf⟩ := hf
  obtain ⟨hb2, hf⟩ := hf
  refine p_new X cf11_ (by decide +kernel) hP hB q928 q224 q95 hb1 hb2 dX3_special_0 (fun H hP hB => ?_)
  refine p_nmPB hP hB (fun σ3 hσ3 hP hB => ?_)
  have hf := hf σ3 hσ3
  refine lv_dup hx hb dX3_special_3 (rv_cat _) ?_
  obtain ⟨ht4, hf⟩ := hf
  obtain ⟨mc5, ms6, hf⟩ := hf
  obtain ⟨hb7, hf⟩ := hf
  obtain ⟨hb8, hf⟩ := hf
  refine p_callv hL (p_runI X (Pic_bu hP mc5 ms6) ht4 (metJ4_init l G _ _ _ _ _ X.2.2 hf) (cwI 0 hts (lw_meth q227) rfl rfl rfl (hts _ q95) (hts _ q929) (hts _ q226) rfl (by decide +kernel) ⟨Nat.le_trans (Nat.le_of_ble_eq_true rfl) hRf, Nat.le_trans (Nat.le_of_ble_eq_true rfl) hRl⟩) rfl hl.1 rfl (by rw [(ca_r ca_n)]; decide) dX3_special_4 (BU_call hB hb7 hb8)) (fun σ9 H locs hf hP hL => ?_)
  have hB := BU_back (τ := σ9) hB hb7 hb8
  have hP := Pic_bu hP (bc_ σ3 - mc5) (bs_ σ3 - ms6)
  refine p_nmPB hP hB (fun σ10 hσ10 hP hB => ?_)
  have hf := hf σ10 hσ10
  refine p_ldcS X hP (j := 3) rfl dX3_special_7 ?_
  obtain ⟨ht11, hf⟩ := hf
  refine p_callr hL (p_runV X cf11_ hP ht11 (metJ4_append l G _ _ _ _ X.2.2 hf) (cwV 1 hts (lw_V q931 q255 q256 q95 q257) rfl rfl rfl (by decide +kernel) ⟨Nat.le_trans (Nat.le_of_ble_eq_true rfl) hRf, Nat.le_trans (Nat.le_of_ble_eq_true rfl) hRl⟩) rfl hl.1 rfl (by decide) dX3_special_9 (BU_call hB (Nat.zero_le _) (Nat.zero_le _))) (fun r12 σ13 H locs hf hP hL => ?_)
  have hB := BU_keep (τ := σ13) hB
  have hP := Pic_bu hP (bc_ σ10) (bs_ σ10)
  refine p_nmPB hP hB (fun σ14 hσ14 hP hB => ?_)
  have hf := hf σ14 hσ14
  refine lv_iload_n hx hb dX3_special_12 rfl (lv_at hl 0 rfl) ?_
  refine lv_i2c hx hb dX3_special_13 rfl ?_
  obtain ⟨ht15, hf⟩ := hf
  refine p_callr hL (p_runV X cf11_ hP ht15 (metJ4_append_2 l G _ _ _ _ X.2.2 hf) (cwV 1 hts (lw_V q932 q685 q686 q95 q687) rfl rfl rfl (by decide +kernel) ⟨Nat.le_trans (Nat.le_of_ble_eq_true rfl) hRf, Nat.le_trans (Nat.le_of_ble_eq_true rfl) hRl⟩) rfl hl.1 rfl (by decide) dX3_special_14 (BU_call hB (Nat.zero_le _) (Nat.zero_le _))) (fun r16 σ17 H locs hf hP hL => ?_)
  have hB := BU_keep (τ := σ17) hB
  have hP := Pic_bu hP (bc_ σ14) (bs_ σ14)
  refine p_nmPB hP hB (fun σ18 hσ18 hP hB => ?_)
  have hf := hf σ18 hσ18
  obtain ⟨ht19, hf⟩ := hf
  obtain ⟨mc20, ms21, hf⟩ := hf
  obtain ⟨hb22, hf⟩ := hf
  obtain ⟨hb23, hf⟩ := hf
  refine p_callr hL (p_runV X cf11_ (Pic_bu hP mc20 ms21) ht19 (metJ4_toString l G _ _ _ _ _ X.2.2 hf) (cwV 0 hts (lw_V q933 q376 q377 q95 q378) rfl rfl rfl (by decide +kernel) ⟨Nat.le_trans (Nat.le_of_ble_eq_true rfl) hRf, Nat.le_trans (Nat.le_of_ble_eq_true rfl) hRl⟩) rfl hl.1 rfl (by decide) dX3_special_17 (BU_call hB hb22 hb23)) (fun r24 σ25 H locs hf hP hL => ?_)
  have hB := BU_back (τ := σ25) hB hb22 hb23
  have hP := Pic_bu hP (bc_ σ18 - mc20) (bs_ σ18 - ms21)
  refine p_nmPB hP hB (fun σ26 hσ26 hP hB => ?_)
  have hf := hf σ26 hσ26
  exact p_aret X hlk hP hL (BU_le hB hRc).1 (BU_le hB hRc).2 hr (Or.inl ⟨_, rfl⟩) dX3_special_20 hf
set_option maxHeartbeats 4000000 in
theorem metX3_special (l : Launch) (G : GG_) (mc ms : Nat) (x0 : Int32) (σ : Hp) (post : Nat → Hp → Prop) (hG : GOK_ G) (hf : wX3_special x0 (bu_ σ mc ms) post) : Met l yX3_special (ws_ yX3_special cX3_special 1 (some ((Jvm.ClassFile.FieldType.object "java/lang/String")))) { frames := 7, cells := mc, slots := ms, locals := 159 } (PC_ G [.int x0] (bu_ σ mc ms)) (QR_ G post) mc ms (FR_ G) := by
  refine Met.ofW (cc := cX3_special) (maxL := 1) (ret := (some ((Jvm.ClassFile.FieldType.object "java/lang/String")))) (by decide) rfl ?_
  intro p e s m args below meth c s₁ B hml hv
  obtain ⟨rfl, hP, hW⟩ := hv
  have hts := atoms_spec (ws := ws_ yX3_special cX3_special 1 (some ((Jvm.ClassFile.FieldType.object "java/lang/String")))) B.pre
  have hts : ∀ w ∈ lw_all, w.before _ s = true := fun w h => hts w (List.mem_cons_of_mem _ h)
  rw [lg_entry_eq]
  have hl := en_entry [.int x0] [1] (n := 1) (ca_i ca_n) (by decide)
  exact sX3_special ⟨⟨⟨B.exec, B.bytes, hml, findClass_of_methodNamed B.named, hts⟩, hW, hG⟩, B.notSynchronized, B.returns, Nat.le_refl _, Nat.le_refl _, ⟨rfl, rfl⟩, (name_of_methodNamed B.named B.method).1⟩ hf _ _ _ _ _ hP (LO_nil G) (BU_in ⟨rfl, rfl⟩) hl
abbrev cX3_record : ByteArray := prog_2_method_10_code
def yX3_record : MethodName := ⟨RX3, "record", "(LWriteOnceDisc$Page;ILWriteOnceDisc$Node;Ljava/lang/String;)V"⟩
theorem dX3_record_0 : decode cX3_record 0 = .ok (.aload_n 1, 1) := by decide +kernel
theorem dX3_record_1 : decode cX3_record 1 = .ok (.iload_n 2, 1) := by decide +kernel
theorem dX3_record_2 : decode cX3_record 2 = .ok (.iconst 1, 1) := by decide +kernel
theorem dX3_record_3 : decode cX3_record 3 = .ok (.aload 4, 2) := by decide +kernel
theorem dX3_record_5 : decode cX3_record 5 = .ok (.invokestatic 157, 3) := by decide +kernel
theorem dX3_record_8 : decode cX3_record 8 = .ok (.invokevirtual 174, 3) := by decide +kernel
theorem dX3_record_11 : decode cX3_record 11 = .ok (.aload_n 1, 1) := by decide +kernel
theorem dX3_record_12 : decode cX3_record 12 = .ok (.iload_n 2, 1) := by decide +kernel
theorem dX3_record_13 : decode cX3_record 13 = .ok (.iconst 2, 1) := by decide +kernel
theorem dX3_record_14 : decode cX3_record 14 = .ok (.iadd, 1) := by decide +kernel
theorem dX3_record_15 : decode cX3_record 15 = .ok (.iconst 4, 1) := by decide +kernel
theorem dX3_record_16 : decode cX3_record 16 = .ok (.aload_n 3, 1) := by decide +kernel
theorem dX3_record_17 : decode cX3_record 17 = .ok (.getfield 165, 3) := by decide +kernel
theorem dX3_record_20 : decode cX3_record 20 = .ok (.ifCond .eq 10, 3) := by decide +kernel
theorem dX3_record_23 : decode cX3_record 23 = .ok (.aload_n 3, 1) := by decide +kernel
theorem dX3_record_24 : decode cX3_record 24 = .ok (.getfield 168, 3) := by decide +kernel
theorem dX3_record_27 : decode cX3_record 27 = .ok (.goto 18, 3) := by decide +kernel
theorem dX3_record_30 : decode cX3_record 30 = .ok (.aload_n 3, 1) := by decide +kernel
theorem dX3_record_31 : decode cX3_record 31 = .ok (.getfield 61, 3) := by decide +kernel
theorem dX3_record_34 : decode cX3_record 34 = .ok (.ifCond .le 10, 3) := by decide +kernel
theorem dX3_record_37 : decode cX3_record 37 = .ok (.aload_n 3, 1) := by decide +kernel
theorem dX3_record_38 : decode cX3_record 38 = .ok (.getfield 74, 3) := by decide +kernel
theorem dX3_record_41 : decode cX3_record 41 = .ok (.goto 4, 3) := by decide +kernel
theorem dX3_record_44 : decode cX3_record 44 = .ok (.iconst 0, 1) := by decide +kernel
theorem dX3_record_45 : decode cX3_record 45 = .ok (.invokevirtual 178, 3) := by decide +kernel
theorem dX3_record_48 : decode cX3_record 48 = .ok (.aload_n 1, 1) := by decide +kernel
theorem dX3_record_49 : decode cX3_record 49 = .ok (.iload_n 2, 1) := by decide +kernel
theorem dX3_record_50 : decode cX3_record 50 = .ok (.bipush 10, 2) := by decide +kernel
theorem dX3_record_52 : decode cX3_record 52 = .ok (.iadd, 1) := by decide +kernel
theorem dX3_record_53 : decode cX3_record 53 = .ok (.iconst 4, 1) := by decide +kernel
theorem dX3_record_54 : decode cX3_record 54 = .ok (.aload_n 3, 1) := by decide +kernel
theorem dX3_record_55 : decode cX3_record 55 = .ok (.getfield 165, 3) := by decide +kernel
theorem dX3_record_58 : decode cX3_record 58 = .ok (.ifCond .eq 14, 3) := by decide +kernel
theorem dX3_record_61 : decode cX3_record 61 = .ok (.aload_n 3, 1) := by decide +kernel
theorem dX3_record_62 : decode cX3_record 62 = .ok (.getfield 171, 3) := by decide +kernel
theorem dX3_record_65 : decode cX3_record 65 = .ok (.sipush 2048, 3) := by decide +kernel
theorem dX3_record_68 : decode cX3_record 68 = .ok (.imul, 1) := by decide +kernel
theorem dX3_record_69 : decode cX3_record 69 = .ok (.goto 7, 3) := by decide +kernel
theorem dX3_record_72 : decode cX3_record 72 = .ok (.aload_n 3, 1) := by decide +kernel
theorem dX3_record_73 : decode cX3_record 73 = .ok (.getfield 61, 3) := by decide +kernel
theorem dX3_record_76 : decode cX3_record 76 = .ok (.invokevirtual 178, 3) := by decide +kernel
theorem dX3_record_79 : decode cX3_record 79 = .ok (.aload_n 1, 1) := by decide +kernel
theorem dX3_record_80 : decode cX3_record 80 = .ok (.iload_n 2, 1) := by decide +kernel
theorem dX3_record_81 : decode cX3_record 81 = .ok (.bipush 25, 2) := by decide +kernel
theorem dX3_record_83 : decode cX3_record 83 = .ok (.iadd, 1) := by decide +kernel
theorem dX3_record_84 : decode cX3_record 84 = .ok (.iconst 1, 1) := by decide +kernel
theorem dX3_record_85 : decode cX3_record 85 = .ok (.aload_n 3, 1) := by decide +kernel
theorem dX3_record_86 : decode cX3_record 86 = .ok (.getfield 165, 3) := by decide +kernel
theorem dX3_record_89 : decode cX3_record 89 = .ok (.ifCond .eq 7, 3) := by decide +kernel
theorem dX3_record_92 : decode cX3_record 92 = .ok (.iconst 2, 1) := by decide +kernel
theorem dX3_record_93 : decode cX3_record 93 = .ok (.goto 4, 3) := by decide +kernel
theorem dX3_record_96 : decode cX3_record 96 = .ok (.iconst 0, 1) := by decide +kernel
theorem dX3_record_97 : decode cX3_record 97 = .ok (.invokevirtual 174, 3) := by decide +kernel
theorem dX3_record_100 : decode cX3_record 100 = .ok (.aload_n 1, 1) := by decide +kernel
theorem dX3_record_101 : decode cX3_record 101 = .ok (.iload_n 2, 1) := by decide +kernel
theorem dX3_record_102 : decode cX3_record 102 = .ok (.bipush 28, 2) := by decide +kernel
theorem dX3_record_104 : decode cX3_record 104 = .ok (.iadd, 1) := by decide +kernel
theorem dX3_record_105 : decode cX3_record 105 = .ok (.iconst 2, 1) := by decide +kernel
theorem dX3_record_106 : decode cX3_record 106 = .ok (.iconst 1, 1) := by decide +kernel
theorem dX3_record_107 : decode cX3_record 107 = .ok (.invokevirtual 178, 3) := by decide +kernel
theorem dX3_record_110 : decode cX3_record 110 = .ok (.aload_n 1, 1) := by decide +kernel
theorem dX3_record_111 : decode cX3_record 111 = .ok (.iload_n 2, 1) := by decide +kernel
theorem dX3_record_112 : decode cX3_record 112 = .ok (.bipush 32, 2) := by decide +kernel
theorem dX3_record_114 : decode cX3_record 114 = .ok (.iadd, 1) := by decide +kernel
theorem dX3_record_115 : decode cX3_record 115 = .ok (.iconst 1, 1) := by decide +kernel
theorem dX3_record_116 : decode cX3_record 116 = .ok (.aload 4, 2) := by decide +kernel
theorem dX3_record_118 : decode cX3_record 118 = .ok (.invokevirtual 101, 3) := by decide +kernel
theorem dX3_record_121 : decode cX3_record 121 = .ok (.invokevirtual 174, 3) := by decide +kernel
theorem dX3_record_124 : decode cX3_record 124 = .ok (.aload_n 1, 1) := by decide +kernel
theorem dX3_record_125 : decode cX3_record 125 = .ok (.iload_n 2, 1) := by decide +kernel
theorem dX3_record_126 : decode cX3_record 126 = .ok (.bipush 33, 2) := by decide +kernel
theorem dX3_record_128 : decode cX3_record 128 = .ok (.iadd, 1) := by decide +kernel
theorem dX3_record_129 : decode cX3_record 129 = .ok (.aload 4, 2) := by decide +kernel
theorem dX3_record_131 : decode cX3_record 131 = .ok (.invokevirtual 181, 3) := by decide +kernel
theorem dX3_record_134 : decode cX3_record 134 = .ok (.return_, 1) := by decide +kernel
/-- WriteOnceDisc$Burner.record(LWriteOnceDisc$Page;ILWriteOnceDisc$Node;Ljava/lang/String;)V -/
def wX3_record_L97 (post : Hp → Prop) (x1 : Nat) (x2 : Int32) (x4 : Nat) (s0 : Int32) (s1 : Int32) (s2 : Int32) (s3 : Nat) (σ : Hp) : Prop :=
(tg_ σ s3 = 4 ∧ (wX4_low s3 s2 s1 s0 σ (fun σ2 => (tg_ σ2 x1 = 4 ∧ (wX4_both x1 (x2 + (28 : Int32)) (2 : Int32) (1 : Int32) σ2 (fun σ4 => (tg_ σ4 x4 = 13 ∧ (wJ5_length x4  σ4 (fun r6 => (tg_ σ4 x1 = 4 ∧ (wX4_low x1 (x2 + (32 : Int32)) (1 : Int32) r6 σ4 (fun σ8 => (tg_ σ8 x1 = 4 ∧ (wX4_say x1 (x2 + (33 : Int32)) x4 σ8 (fun σ10 => post σ10)))))))))))))))
def wX3_record_L76 (post : Hp → Prop) (x1 : Nat) (x2 : Int32) (x3 : Nat) (x4 : Nat) (s0 : Int32) (s1 : Int32) (s2 : Int32) (s3 : Nat) (σ : Hp) : Prop :=
(tg_ σ s3 = 4 ∧ (wX4_both s3 s2 s1 s0 σ (fun σ12 => (tg_ σ12 x3 = 6 ∧ (((fI_ σ12 5 1 x3) = 0 →
  wX3_record_L97 post x1 x2 x4 (0 : Int32) (1 : Int32) (x2 + (25 : Int32)) x1 σ12) ∧
 (¬ (fI_ σ12 5 1 x3) = 0 →
  wX3_record_L97 post x1 x2 x4 (2 : Int32) (1 : Int32) (x2 + (25 : Int32)) x1 σ12))))))
def wX3_record_L45 (post : Hp → Prop) (x1 : Nat) (x2 : Int32) (x3 : Nat) (x4 : Nat) (s0 : Int32) (s1 : Int32) (s2 : Int32) (s3 : Nat) (σ : Hp) : Prop :=
(tg_ σ s3 = 4 ∧ (wX4_both s3 s2 s1 s0 σ (fun σ16 => (tg_ σ16 x3 = 6 ∧ (((fI_ σ16 5 1 x3) = 0 →
  wX3_record_L76 post x1 x2 x3 x4 (fI_ σ16 5 3 x3) (4 : Int32) (x2 + (10 : Int32)) x1 σ16) ∧
 (¬ (fI_ σ16 5 1 x3) = 0 →
  wX3_record_L76 post x1 x2 x3 x4 ((fI_ σ16 5 10 x3) * (2048 : Int32)) (4 : Int32) (x2 + (10 : Int32)) x1 σ16))))))
def wX3_record (x0 : Nat) (x1 : Nat) (x2 : Int32) (x3 : Nat) (x4 : Nat) (σ : Hp) (post : Hp → Prop) : Prop :=
(wX3_recordSize x4 σ (fun r19 => (tg_ σ x1 = 4 ∧ (wX4_low x1 x2 (1 : Int32) r19 σ (fun σ21 => (tg_ σ21 x3 = 6 ∧ (((fI_ σ21 5 1 x3) = 0 →
  (((fI_ σ21 5 3 x3) ≤ 0 →
   wX3_record_L45 post x1 x2 x3 x4 (0 : Int32) (4 : Int32) (x2 + (2 : Int32)) x1 σ21) ∧
  (¬ (fI_ σ21 5 3 x3) ≤ 0 →
   wX3_record_L45 post x1 x2 x3 x4 (fI_ σ21 5 5 x3) (4 : Int32) (x2 + (2 : Int32)) x1 σ21))) ∧
 (¬ (fI_ σ21 5 1 x3) = 0 →
  wX3_record_L45 post x1 x2 x3 x4 (fI_ σ21 5 9 x3) (4 : Int32) (x2 + (2 : Int32)) x1 σ21))))))))
set_option maxHeartbeats 4000000 in
theorem sX3_record_L97 {G : GG_} {p : Program} {l : Launch} {e : Env} {R : Room} {s : State} {m : MethodId} {args : Array Value} {below : List Frame} {meth : Method} {c : Code} (Y : MX_ G p R s m args meth c cX3_record 5 RX3 none 6 128 0 0 "record") {post : Hp → Prop} {x1 : Nat} {x2 : Int32} {x4 : Nat} {s0 : Int32} {s1 : Int32} {s2 : Int32} {s3 : Nat} {σ : Hp} (hf : wX3_record_L97 post x1 x2 x4 s0 s1 s2 s3 σ) : WG_ G p l e R s m args below meth c (MQ below (QV_ G post) args s 0 0 (FR_ G)) BN_ 5 97 [(1, rv_ x1), (2, .int x2), (4, rv_ x4)] [.int s0, .int s1, .int s2, rv_ s3] σ := by
  have ⟨X, hlk, hr, hRf, hRl, hRc, hnm⟩ := Y
  have ⟨⟨hx, hb, _, hown, hts⟩, _, _⟩ := X
  intro H locs cells slots ls hP hL hB hl
  obtain ⟨rfl, rfl⟩ := hB
  unfold wX3_record_L97 at hf
  obtain ⟨ht1, hf⟩ := hf
  refine p_callv hL (p_runV X cf3_ hP ht1 (metX4_low l G _ _ _ _ _ _ X.2.2 hf) (cwV 3 hts (lw_V q900 q901 q902 q91 q903) rfl rfl rfl (by decide +kernel) ⟨Nat.le_trans (Nat.le_of_ble_eq_true rfl) hRf, Nat.le_trans (Nat.le_of_ble_eq_true rfl) hRl⟩) rfl hl.1 rfl (by decide) dX3_record_97 ⟨Nat.zero_le _, Nat.zero_le _⟩) (fun σ2 H locs hf hP hL => ?_)
  refine p_aload_n hx hb dX3_record_100 rfl (lv_at hl 0 rfl) ?_
  refine lv_iload_n hx hb dX3_record_101 rfl (lv_at hl 1 rfl) ?_
  refine lv_bipush (v := 28) hx hb dX3_record_102 (by decide) ?_
  refine lv_iadd hx hb dX3_record_104 ?_
  refine lv_iconst (v := 2) hx hb dX3_record_105 (by decide) ?_
  refine lv_iconst (v := 1) hx hb dX3_record_106 (by decide) ?_
  obtain ⟨ht3, hf⟩ := hf
  refine p_callv hL (p_runV X cf3_ hP ht3 (metX4_both l G _ _ _ _ _ _ X.2.2 hf) (cwV 3 hts (lw_V q911 q912 q913 q91 q914) rfl rfl rfl (by decide +kernel) ⟨Nat.le_trans (Nat.le_of_ble_eq_true rfl) hRf, Nat.le_trans (Nat.le_of_ble_eq_true rfl) hRl⟩) rfl hl.1 rfl (by decide) dX3_record_107 ⟨Nat.zero_le _, Nat.zero_le _⟩) (fun σ4 H locs hf hP hL => ?_)
  refine p_aload_n hx hb dX3_record_110 rfl (lv_at hl 0 rfl) ?_
  refine lv_iload_n hx hb dX3_record_111 rfl (lv_at hl 1 rfl) ?_
  refine lv_bipush (v := 32) hx hb dX3_record_112 (by decide) ?_
  refine lv_iadd hx hb dX3_record_114 ?_
  refine lv_iconst (v := 1) hx hb dX3_record_115 (by decide) ?_
  refine p_aload hx hb dX3_record_116 (lv_at hl 2 rfl) ?_
  obtain ⟨ht5, hf⟩ := hf
  refine p_calli hL (p_runV X cf12_ hP ht5 (metJ5_length l G _ _ _ X.2.2 hf) (cwV 0 hts (lw_V q884 q332 q333 q96 q334) rfl rfl rfl (by decide +kernel) ⟨Nat.le_trans (Nat.le_of_ble_eq_true rfl) hRf, Nat.le_trans (Nat.le_of_ble_eq_true rfl) hRl⟩) rfl hl.1 rfl (by rw [(ca_i (ca_i (ca_r ca_n)))]; decide) dX3_record_118 ⟨Nat.zero_le _, Nat.zero_le _⟩) (fun r6 σ₁ H locs hf hP hL => ?_)
  obtain ⟨e₁, hf⟩ := hf
  rw [e₁] at hP
  obtain ⟨ht7, hf⟩ := hf
  refine p_callv hL (p_runV X cf3_ hP ht7 (metX4_low l G _ _ _ _ _ _ X.2.2 hf) (cwV 3 hts (lw_V q900 q901 q902 q91 q903) rfl rfl rfl (by decide +kernel) ⟨Nat.le_trans (Nat.le_of_ble_eq_true rfl) hRf, Nat.le_trans (Nat.le_of_ble_eq_true rfl) hRl⟩) rfl hl.1 rfl (by decide) dX3_record_121 ⟨Nat.zero_le _, Nat.zero_le _⟩) (fun σ8 H locs hf hP hL => ?_)
  refine p_aload_n hx hb dX3_record_124 rfl (lv_at hl 0 rfl) ?_
  refine lv_iload_n hx hb dX3_record_125 rfl (lv_at hl 1 rfl) ?_
  refine lv_bipush (v := 33) hx hb dX3_record_126 (by decide) ?_
  refine lv_iadd hx hb dX3_record_128 ?_
  refine p_aload hx hb dX3_record_129 (lv_at hl 2 rfl) ?_
  obtain ⟨ht9, hf⟩ := hf
  refine p_callv hL (p_runV X cf3_ hP ht9 (metX4_say l G _ _ _ _ _ X.2.2 hf) (cwV 2 hts (lw_V q905 q906 q907 q91 q908) rfl rfl rfl (by decide +kernel) ⟨Nat.le_trans (Nat.le_of_ble_eq_true rfl) hRf, Nat.le_trans (Nat.le_of_ble_eq_true rfl) hRl⟩) rfl hl.1 rfl (by decide) dX3_record_131 ⟨Nat.zero_le _, Nat.zero_le _⟩) (fun σ10 H locs hf hP hL => ?_)
  exact p_vret X hlk hP hL (Nat.le_refl _) (Nat.le_refl _) hr dX3_record_134 hf
set_option maxHeartbeats 4000000 in
theorem sX3_record_L76 {G : GG_} {p : Program} {l : Launch} {e : Env} {R : Room} {s : State} {m : MethodId} {args : Array Value} {below : List Frame} {meth : Method} {c : Code} (Y : MX_ G p R s m args meth c cX3_record 5 RX3 none 6 128 0 0 "record") {post : Hp → Prop} {x1 : Nat} {x2 : Int32} {x3 : Nat} {x4 : Nat} {s0 : Int32} {s1 : Int32} {s2 : Int32} {s3 : Nat} {σ : Hp} (hf : wX3_record_L76 post x1 x2 x3 x4 s0 s1 s2 s3 σ) : WG_ G p l e R s m args below meth c (MQ below (QV_ G post) args s 0 0 (FR_ G)) BN_ 5 76 [(1, rv_ x1), (2, .int x2), (3, rv_ x3), (4, rv_ x4)] [.int s0, .int s1, .int s2, rv_ s3] σ := by
  have ⟨X, hlk, hr, hRf, hRl, hRc, hnm⟩ := Y
  have ⟨⟨hx, hb, _, hown, hts⟩, _, _⟩ := X
  intro H locs cells slots ls hP hL hB hl
  obtain ⟨rfl, rfl⟩ := hB
  unfold wX3_record_L76 at hf
  obtain ⟨ht11, hf⟩ := hf
  refine p_callv hL (p_runV X cf3_ hP ht11 (metX4_both l G _ _ _ _ _ _ X.2.2 hf) (cwV 3 hts (lw_V q911 q912 q913 q91 q914) rfl rfl rfl (by decide +kernel) ⟨Nat.le_trans (Nat.le_of_ble_eq_true rfl) hRf, Nat.le_trans (Nat.le_of_ble_eq_true rfl) hRl⟩) rfl hl.1 rfl (by decide) dX3_record_76 ⟨Nat.zero_le _, Nat.zero_le _⟩) (fun σ12 H locs hf hP hL => ?_)
  refine p_aload_n hx hb dX3_record_79 rfl (lv_at hl 0 rfl) ?_
  refine lv_iload_n hx hb dX3_record_80 rfl (lv_at hl 1 rfl) ?_
  refine lv_bipush (v := 25) hx hb dX3_record_81 (by decide) ?_
  refine lv_iadd hx hb dX3_record_83 ?_
  refine lv_iconst (v := 1) hx hb dX3_record_84 (by decide) ?_
  refine p_aload_n hx hb dX3_record_85 rfl (lv_at hl 2 rfl) ?_
  obtain ⟨ht13, hf⟩ := hf
  refine p_gI X cf5_ (k := 1) (by decide) rfl hP ht13 q442 (fun _ h => h) dX3_record_86 ?_
  refine lv_if_eq (tgt := 96) hx hb dX3_record_89 (by decide) (fun c14 => ?_) (fun c14 => ?_)
  · have hf := hf.1 c14
    refine lv_iconst (v := 0) hx hb dX3_record_96 (by decide) ?_
    exact sX3_record_L97 Y hf _ _ _ _ _ hP hL ⟨rfl, rfl⟩ (lv_sub hl [0, 1, 3] rfl)
  · have hf := hf.2 c14
    refine lv_iconst (v := 2) hx hb dX3_record_92 (by decide) ?_
    refine lv_goto (tgt := 97) hx hb dX3_record_93 (by decide) ?_
    exact sX3_record_L97 Y hf _ _ _ _ _ hP hL ⟨rfl, rfl⟩ (lv_sub hl [0, 1, 3] rfl)
set_option maxHeartbeats 4000000 in
theorem sX3_record_L45 {G : GG_} {p : Program} {l : Launch} {e : Env} {R : Room} {s : State} {m : MethodId} {args : Array Value} {below : List Frame} {meth : Method} {c : Code} (Y : MX_ G p R s m args meth c cX3_record 5 RX3 none 6 128 0 0 "record") {post : Hp → Prop} {x1 : Nat} {x2 : Int32} {x3 : Nat} {x4 : Nat} {s0 : Int32} {s1 : Int32} {s2 : Int32} {s3 : Nat} {σ : Hp} (hf : wX3_record_L45 post x1 x2 x3 x4 s0 s1 s2 s3 σ) : WG_ G p l e R s m args below meth c (MQ below (QV_ G post) args s 0 0 (FR_ G)) BN_ 5 45 [(1, rv_ x1), (2, .int x2), (3, rv_ x3), (4, rv_ x4)] [.int s0, .int s1, .int s2, rv_ s3] σ := by
  have ⟨X, hlk, hr, hRf, hRl, hRc, hnm⟩ := Y
  have ⟨⟨hx, hb, _, hown, hts⟩, _, _⟩ := X
  intro H locs cells slots ls hP hL hB hl
  obtain ⟨rfl, rfl⟩ := hB
  unfold wX3_record_L45 at hf
  obtain ⟨ht15, hf⟩ := hf
  refine p_callv hL (p_runV X cf3_ hP ht15 (metX4_both l G _ _ _ _ _ _ X.2.2 hf) (cwV 3 hts (lw_V q911 q912 q913 q91 q914) rfl rfl rfl (by decide +kernel) ⟨Nat.le_trans (Nat.le_of_ble_eq_true rfl) hRf, Nat.le_trans (Nat.le_of_ble_eq_true rfl) hRl⟩) rfl hl.1 rfl (by decide) dX3_record_45 ⟨Nat.zero_le _, Nat.zero_le _⟩) (fun σ16 H locs hf hP hL => ?_)
  refine p_aload_n hx hb dX3_record_48 rfl (lv_at hl 0 rfl) ?_
  refine lv_iload_n hx hb dX3_record_49 rfl (lv_at hl 1 rfl) ?_
  refine lv_bipush (v := 10) hx hb dX3_record_50 (by decide) ?_
  refine lv_iadd hx hb dX3_record_52 ?_
  refine lv_iconst (v := 4) hx hb dX3_record_53 (by decide) ?_
  refine p_aload_n hx hb dX3_record_54 rfl (lv_at hl 2 rfl) ?_
  obtain ⟨ht17, hf⟩ := hf
  refine p_gI X cf5_ (k := 1) (by decide) rfl hP ht17 q442 (fun _ h => h) dX3_record_55 ?_
  refine lv_if_eq (tgt := 72) hx hb dX3_record_58 (by decide) (fun c18 => ?_) (fun c18 => ?_)
  · have hf := hf.1 c18
    refine p_aload_n hx hb dX3_record_72 rfl (lv_at hl 2 rfl) ?_
    refine p_gI X cf5_ (k := 3) (by decide) rfl hP ht17 q448 (fun _ h => h) dX3_record_73 ?_
    exact sX3_record_L76 Y hf _ _ _ _ _ hP hL ⟨rfl, rfl⟩ (lv_sub hl [0, 1, 2, 3] rfl)
  · have hf := hf.2 c18
    refine p_aload_n hx hb dX3_record_61 rfl (lv_at hl 2 rfl) ?_
    refine p_gI X cf5_ (k := 10) (by decide) rfl hP ht17 q464 (fun _ h => h) dX3_record_62 ?_
    refine lv_sipush (v := 2048) hx hb dX3_record_65 (by decide) ?_
    refine lv_imul hx hb dX3_record_68 ?_
    refine lv_goto (tgt := 76) hx hb dX3_record_69 (by decide) ?_
    exact sX3_record_L76 Y hf _ _ _ _ _ hP hL ⟨rfl, rfl⟩ (lv_sub hl [0, 1, 2, 3] rfl)
set_option maxHeartbeats 4000000 in
theorem sX3_record {G : GG_} {p : Program} {l : Launch} {e : Env} {R : Room} {s : State} {m : MethodId} {args : Array Value} {below : List Frame} {meth : Method} {c : Code} (Y : MX_ G p R s m args meth c cX3_record 5 RX3 none 6 128 0 0 "record") {post : Hp → Prop} {x0 : Nat} {x1 : Nat} {x2 : Int32} {x3 : Nat} {x4 : Nat} {σ : Hp} (hf : wX3_record x0 x1 x2 x3 x4 σ post) : WG_ G p l e R s m args below meth c (MQ below (QV_ G post) args s 0 0 (FR_ G)) BN_ 5 0 [(0, rv_ x0), (1, rv_ x1), (2, .int x2), (3, rv_ x3), (4, rv_ x4)] [] σ := by
  have ⟨X, hlk, hr, hRf, hRl, hRc, hnm⟩ := Y
  have ⟨⟨hx, hb, _, hown, hts⟩, _, _⟩ := X
  intro H locs cells slots ls hP hL hB hl
  obtain ⟨rfl, rfl⟩ := hB
  unfold wX3_record at hf
  refine p_aload_n hx hb dX3_record_0 rfl (lv_at hl 1 rfl) ?_
  refine lv_iload_n hx hb dX3_record_1 rfl (lv_at hl 2 rfl) ?_
  refine lv_iconst (v := 1) hx hb dX3_record_2 (by decide) ?_
  refine p_aload hx hb dX3_record_3 (lv_at hl 4 rfl) ?_
  refine p_calli hL (p_runS X hP (metX3_recordSize l G _ _ _ X.2.2 hf) (va_cwS 1 hts (lw_S q881 q882 q87 q883) rfl rfl rfl (by decide +kernel) ⟨Nat.le_trans (Nat.le_of_ble_eq_true rfl) hRf, Nat.le_trans (Nat.le_of_ble_eq_true rfl) hRl⟩) rfl hl.1 rfl (by rw [(ca_i (ca_i (ca_r ca_n)))]; decide) dX3_record_5 ⟨Nat.zero_le _, Nat.zero_le _⟩) (fun r19 σ₁ H locs hf hP hL => ?_)
  obtain ⟨e₁, hf⟩ := hf
  rw [e₁] at hP
  obtain ⟨ht20, hf⟩ := hf
  refine p_callv hL (p_runV X cf3_ hP ht20 (metX4_low l G _ _ _ _ _ _ X.2.2 hf) (cwV 3 hts (lw_V q900 q901 q902 q91 q903) rfl rfl rfl (by decide +kernel) ⟨Nat.le_trans (Nat.le_of_ble_eq_true rfl) hRf, Nat.le_trans (Nat.le_of_ble_eq_true rfl) hRl⟩) rfl hl.1 rfl (by decide) dX3_record_8 ⟨Nat.zero_le _, Nat.zero_le _⟩) (fun σ21 H locs hf hP hL => ?_)
  refine p_aload_n hx hb dX3_record_11 rfl (lv_at hl 1 rfl) ?_
  refine lv_iload_n hx hb dX3_record_12 rfl (lv_at hl 2 rfl) ?_
  refine lv_iconst (v := 2) hx hb dX3_record_13 (by decide) ?_
  refine lv_iadd hx hb dX3_record_14 ?_
  refine lv_iconst (v := 4) hx hb dX3_record_15 (by decide) ?_
  refine p_aload_n hx hb dX3_record_16 rfl (lv_at hl 3 rfl) ?_
  obtain ⟨ht22, hf⟩ := hf
  refine p_gI X cf5_ (k := 1) (by decide) rfl hP ht22 q442 (fun _ h => h) dX3_record_17 ?_
  refine lv_if_eq (tgt := 30) hx hb dX3_record_20 (by decide) (fun c23 => ?_) (fun c23 => ?_)
  · have hf := hf.1 c23
    refine p_aload_n hx hb dX3_record_30 rfl (lv_at hl 3 rfl) ?_
    refine p_gI X cf5_ (k := 3) (by decide) rfl hP ht22 q448 (fun _ h => h) dX3_record_31 ?_
    refine lv_if_le (tgt := 44) hx hb dX3_record_34 (by decide) (fun c24 => ?_) (fun c24 => ?_)
    · have hf := hf.1 c24
      refine lv_iconst (v := 0) hx hb dX3_record_44 (by decide) ?_
      exact sX3_record_L45 Y hf _ _ _ _ _ hP hL ⟨rfl, rfl⟩ (lv_sub hl [1, 2, 3, 4] rfl)
    · have hf := hf.2 c24
      refine p_aload_n hx hb dX3_record_37 rfl (lv_at hl 3 rfl) ?_
      refine p_gI X cf5_ (k := 5) (by decide) rfl hP ht22 q452 (fun _ h => h) dX3_record_38 ?_
      refine lv_goto (tgt := 45) hx hb dX3_record_41 (by decide) ?_
      exact sX3_record_L45 Y hf _ _ _ _ _ hP hL ⟨rfl, rfl⟩ (lv_sub hl [1, 2, 3, 4] rfl)
  · have hf := hf.2 c23
    refine p_aload_n hx hb dX3_record_23 rfl (lv_at hl 3 rfl) ?_
    refine p_gI X cf5_ (k := 9) (by decide) rfl hP ht22 q463 (fun _ h => h) dX3_record_24 ?_
    refine lv_goto (tgt := 45) hx hb dX3_record_27 (by decide) ?_
    exact sX3_record_L45 Y hf _ _ _ _ _ hP hL ⟨rfl, rfl⟩ (lv_sub hl [1, 2, 3, 4] rfl)
set_option maxHeartbeats 4000000 in
theorem metX3_record (l : Launch) (G : GG_) (x0 : Nat) (x1 : Nat) (x2 : Int32) (x3 : Nat) (x4 : Nat) (σ : Hp) (post : Hp → Prop) (hG : GOK_ G) (hf : wX3_record x0 x1 x2 x3 x4 σ post) : Met l yX3_record (ws_ yX3_record cX3_record 5 none) { frames := 6, cells := 0, slots := 0, locals := 128 } (PC_ G [rv_ x0, rv_ x1, .int x2, rv_ x3, rv_ x4] σ) (QV_ G post) 0 0 (FR_ G) := by
  refine Met.ofW (cc := cX3_record) (maxL := 5) (ret := none) (by decide) rfl ?_
  intro p e s m args below meth c s₁ B hml hv
  obtain ⟨rfl, hP, hW⟩ := hv
  have hts := atoms_spec (ws := ws_ yX3_record cX3_record 5 none) B.pre
  have hts : ∀ w ∈ lw_all, w.before _ s = true := fun w h => hts w (List.mem_cons_of_mem _ h)
  rw [lg_entry_eq]
  have hl := en_entry [rv_ x0, rv_ x1, .int x2, rv_ x3, rv_ x4] [1, 1, 1, 1, 1] (n := 5) (ca_r (ca_r (ca_i (ca_r (ca_r ca_n))))) (by decide)
  exact sX3_record ⟨⟨⟨B.exec, B.bytes, hml, findClass_of_methodNamed B.named, hts⟩, hW, hG⟩, B.notSynchronized, B.returns, Nat.le_refl _, Nat.le_refl _, ⟨rfl, rfl⟩, (name_of_methodNamed B.named B.method).1⟩ hf _ _ _ _ _ hP (LO_nil G) ⟨rfl, rfl⟩ hl
abbrev cX3_descriptor : ByteArray := prog_2_method_15_code
def yX3_descriptor : MethodName := ⟨RX3, "descriptor", "(I)LWriteOnceDisc$Page;"⟩
theorem dX3_descriptor_0 : decode cX3_descriptor 0 = .ok (.aload_n 0, 1) := by decide +kernel
theorem dX3_descriptor_1 : decode cX3_descriptor 1 = .ok (.iconst 1, 1) := by decide +kernel
theorem dX3_descriptor_2 : decode cX3_descriptor 2 = .ok (.invokevirtual 204, 3) := by decide +kernel
theorem dX3_descriptor_5 : decode cX3_descriptor 5 = .ok (.astore_n 2, 1) := by decide +kernel
theorem dX3_descriptor_6 : decode cX3_descriptor 6 = .ok (.aload_n 2, 1) := by decide +kernel
theorem dX3_descriptor_7 : decode cX3_descriptor 7 = .ok (.bipush 80, 2) := by decide +kernel
theorem dX3_descriptor_9 : decode cX3_descriptor 9 = .ok (.iconst 4, 1) := by decide +kernel
theorem dX3_descriptor_10 : decode cX3_descriptor 10 = .ok (.aload_n 0, 1) := by decide +kernel
theorem dX3_descriptor_11 : decode cX3_descriptor 11 = .ok (.getfield 38, 3) := by decide +kernel
theorem dX3_descriptor_14 : decode cX3_descriptor 14 = .ok (.getfield 87, 3) := by decide +kernel
theorem dX3_descriptor_17 : decode cX3_descriptor 17 = .ok (.invokevirtual 178, 3) := by decide +kernel
theorem dX3_descriptor_20 : decode cX3_descriptor 20 = .ok (.aload_n 2, 1) := by decide +kernel
theorem dX3_descriptor_21 : decode cX3_descriptor 21 = .ok (.sipush 128, 3) := by decide +kernel
theorem dX3_descriptor_24 : decode cX3_descriptor 24 = .ok (.iconst 2, 1) := by decide +kernel
theorem dX3_descriptor_25 : decode cX3_descriptor 25 = .ok (.sipush 2048, 3) := by decide +kernel
theorem dX3_descriptor_28 : decode cX3_descriptor 28 = .ok (.invokevirtual 178, 3) := by decide +kernel
theorem dX3_descriptor_31 : decode cX3_descriptor 31 = .ok (.aload_n 2, 1) := by decide +kernel
theorem dX3_descriptor_32 : decode cX3_descriptor 32 = .ok (.sipush 132, 3) := by decide +kernel
theorem dX3_descriptor_35 : decode cX3_descriptor 35 = .ok (.iconst 4, 1) := by decide +kernel
theorem dX3_descriptor_36 : decode cX3_descriptor 36 = .ok (.aload_n 0, 1) := by decide +kernel
theorem dX3_descriptor_37 : decode cX3_descriptor 37 = .ok (.invokevirtual 208, 3) := by decide +kernel
theorem dX3_descriptor_40 : decode cX3_descriptor 40 = .ok (.invokevirtual 178, 3) := by decide +kernel
theorem dX3_descriptor_43 : decode cX3_descriptor 43 = .ok (.aload_n 2, 1) := by decide +kernel
theorem dX3_descriptor_44 : decode cX3_descriptor 44 = .ok (.sipush 140, 3) := by decide +kernel
theorem dX3_descriptor_47 : decode cX3_descriptor 47 = .ok (.iconst 4, 1) := by decide +kernel
theorem dX3_descriptor_48 : decode cX3_descriptor 48 = .ok (.iload_n 1, 1) := by decide +kernel
theorem dX3_descriptor_49 : decode cX3_descriptor 49 = .ok (.bipush 18, 2) := by decide +kernel
theorem dX3_descriptor_51 : decode cX3_descriptor 51 = .ok (.iadd, 1) := by decide +kernel
theorem dX3_descriptor_52 : decode cX3_descriptor 52 = .ok (.invokevirtual 174, 3) := by decide +kernel
theorem dX3_descriptor_55 : decode cX3_descriptor 55 = .ok (.aload_n 2, 1) := by decide +kernel
theorem dX3_descriptor_56 : decode cX3_descriptor 56 = .ok (.sipush 148, 3) := by decide +kernel
theorem dX3_descriptor_59 : decode cX3_descriptor 59 = .ok (.iconst 4, 1) := by decide +kernel
theorem dX3_descriptor_60 : decode cX3_descriptor 60 = .ok (.iload_n 1, 1) := by decide +kernel
theorem dX3_descriptor_61 : decode cX3_descriptor 61 = .ok (.bipush 19, 2) := by decide +kernel
theorem dX3_descriptor_63 : decode cX3_descriptor 63 = .ok (.iadd, 1) := by decide +kernel
theorem dX3_descriptor_64 : decode cX3_descriptor 64 = .ok (.invokevirtual 199, 3) := by decide +kernel
theorem dX3_descriptor_67 : decode cX3_descriptor 67 = .ok (.aload_n 0, 1) := by decide +kernel
theorem dX3_descriptor_68 : decode cX3_descriptor 68 = .ok (.aload_n 2, 1) := by decide +kernel
theorem dX3_descriptor_69 : decode cX3_descriptor 69 = .ok (.sipush 156, 3) := by decide +kernel
theorem dX3_descriptor_72 : decode cX3_descriptor 72 = .ok (.aload_n 0, 1) := by decide +kernel
theorem dX3_descriptor_73 : decode cX3_descriptor 73 = .ok (.getfield 123, 3) := by decide +kernel
theorem dX3_descriptor_76 : decode cX3_descriptor 76 = .ok (.iconst 0, 1) := by decide +kernel
theorem dX3_descriptor_77 : decode cX3_descriptor 77 = .ok (.invokevirtual 127, 3) := by decide +kernel
theorem dX3_descriptor_80 : decode cX3_descriptor 80 = .ok (.iconst 0, 1) := by decide +kernel
theorem dX3_descriptor_81 : decode cX3_descriptor 81 = .ok (.invokestatic 185, 3) := by decide +kernel
theorem dX3_descriptor_84 : decode cX3_descriptor 84 = .ok (.invokevirtual 189, 3) := by decide +kernel
theorem dX3_descriptor_87 : decode cX3_descriptor 87 = .ok (.aload_n 2, 1) := by decide +kernel
theorem dX3_descriptor_88 : decode cX3_descriptor 88 = .ok (.areturn, 1) := by decide +kernel
/-- WriteOnceDisc$Burner.descriptor(I)LWriteOnceDisc$Page; -/
def wX3_descriptor (x0 : Nat) (x1 : Int32) (σ : Hp) (post : Nat → Hp → Prop) : Prop :=
(tg_ σ x0 = 3 ∧ (wX3_head x0 (1 : Int32) σ (fun r2 σ3 => (∀ σ4, σ4 = bu_ σ3 (bc_ σ) (bs_ σ) → (tg_ σ4 x0 = 3 ∧ (tg_ σ4 (fR_ σ4 2 0 x0) = 7 ∧ (tg_ σ4 r2 = 4 ∧ (wX4_both r2 (80 : Int32) (4 : Int32) (fI_ σ4 6 0 (fR_ σ4 2 0 x0)) σ4 (fun σ8 => (∀ σ9, σ9 = bu_ σ8 (bc_ σ4) (bs_ σ4) → (tg_ σ9 r2 = 4 ∧ (wX4_both r2 (128 : Int32) (2 : Int32) (2048 : Int32) σ9 (fun σ11 => (∀ σ12, σ12 = bu_ σ11 (bc_ σ9) (bs_ σ9) → (tg_ σ12 x0 = 3 ∧ (wX3_tableSize x0  σ12 (fun r14 => (tg_ σ12 r2 = 4 ∧ (wX4_both r2 (132 : Int32) (4 : Int32) r14 σ12 (fun σ16 => (∀ σ17, σ17 = bu_ σ16 (bc_ σ12) (bs_ σ12) → (tg_ σ17 r2 = 4 ∧ (wX4_low r2 (140 : Int32) (4 : Int32) (x1 + (18 : Int32)) σ17 (fun σ19 => (∀ σ20, σ20 = bu_ σ19 (bc_ σ17) (bs_ σ17) → (tg_ σ20 r2 = 4 ∧ (wX4_high r2 (148 : Int32) (4 : Int32) (x1 + (19 : Int32)) σ20 (fun σ22 => (∀ σ23, σ23 = bu_ σ22 (bc_ σ20) (bs_ σ20) → (tg_ σ23 x0 = 3 ∧ (tg_ σ23 (fR_ σ23 2 3 x0) = 5 ∧ (wX5_find (fR_ σ23 2 3 x0) (0 : Int32) σ23 (fun r26 => (∃ mc27 ms28 : Nat, (mc27 ≤ bc_ σ23 ∧ (ms28 ≤ bs_ σ23 ∧ (wX3_special (0 : Int32) (bu_ σ23 mc27 ms28) (fun r31 σ32 => (∀ σ33, σ33 = bu_ σ32 (bc_ σ23 - mc27) (bs_ σ23 - ms28) → (tg_ σ33 x0 = 3 ∧ (wX3_record x0 r2 (156 : Int32) r26 r31 σ33 (fun σ35 => (∀ σ36, σ36 = bu_ σ35 (bc_ σ33) (bs_ σ33) → post r2 σ36)))))))))))))))))))))))))))))))))))))))))))
set_option maxHeartbeats 4000000 in
theorem sX3_descriptor {G : GG_} {p : Program} {l : Launch} {e : Env} {R : Room} {s : State} {m : MethodId} {args : Array Value} {below : List Frame} {meth : Method} {c : Code} {mc ms : Nat} (Y : MX_ G p R s m args meth c cX3_descriptor 3 RX3 (some ((Jvm.ClassFile.FieldType.object "WriteOnceDisc$Page"))) 8 179 mc ms "descriptor") {post : Nat → Hp → Prop} {x0 : Nat} {x1 : Int32} {σ : Hp} (hf : wX3_descriptor x0 x1 σ post) : WG_ G p l e R s m args below meth c (MQ below (QR_ G post) args s mc ms (FR_ G)) (BU_ R) 3 0 [(0, rv_ x0), (1, .int x1)] [] σ := by
  have ⟨X, hlk, hr, hRf, hRl, hRc, hnm⟩ := Y
  have ⟨⟨hx, hb, _, hown, hts⟩, _, _⟩ := X
  intro H locs cells slots ls hP hL hB hl
  unfold wX3_descriptor at hf
  refine p_aload_n hx hb dX3_descriptor_0 rfl (lv_at hl 0 rfl) ?_
  refine lv_iconst (v := 1) hx hb dX3_descriptor_1 (by decide) ?_
  obtain ⟨ht1, hf⟩ := hf
  refine p_callr hL (p_runV X cf2_ hP ht1 (metX3_head l G _ _ _ _ X.2.2 hf) (cwV 1 hts (lw_V q896 q898 qs13 q87 q899) rfl rfl rfl (by decide +kernel) ⟨Nat.le_trans (Nat.le_of_ble_eq_true rfl) hRf, Nat.le_trans (Nat.le_of_ble_eq_true rfl) hRl⟩) rfl hl.1 rfl (by decide) dX3_descriptor_2 (BU_call hB (Nat.zero_le _) (Nat.zero_le _))) (fun r2 σ3 H locs hf hP hL => ?_)
  have hB := BU_keep (τ := σ3) hB
  have hP := Pic_bu hP (bc_ σ) (bs_ σ)
  refine p_nmPB hP hB (fun σ4 hσ4 hP hB => ?_)
  have hf := hf σ4 hσ4
  refine p_astore_n (i := 2) hx hb dX3_descriptor_5 rfl hl (by decide) ⟨⟨ne_ rfl, Or.inl (ne_ rfl)⟩, ⟨⟨ne_ rfl, Or.inr rfl⟩, trivial⟩⟩ (fun ls hl => ?_)
  refine p_aload_n hx hb dX3_descriptor_6 rfl (lv_at hl 0 rfl) ?_
  refine lv_bipush (v := 80) hx hb dX3_descriptor_7 (by decide) ?_
  refine lv_iconst (v := 4) hx hb dX3_descriptor_9 (by decide) ?_
  refine p_aload_n hx hb dX3_descriptor_10 rfl (lv_at hl 1 rfl) ?_
  obtain ⟨ht5, hf⟩ := hf
  refine p_gR X cf2_ (k := 0) (by decide) rfl hP ht5 q185 (fun _ h => h) dX3_descriptor_11 ?_
  obtain ⟨ht6, hf⟩ := hf
  refine p_gI X cf6_ (k := 0) (by decide) rfl hP ht6 q558 (fun _ h => h) dX3_descriptor_14 ?_
  obtain ⟨ht7, hf⟩ := hf
  refine p_callv hL (p_runV X cf3_ hP ht7 (metX4_both l G _ _ _ _ _ _ X.2.2 hf) (cwV 3 hts (lw_V q911 q912 q913 q91 q914) rfl rfl rfl (by decide +kernel) ⟨Nat.le_trans (Nat.le_of_ble_eq_true rfl) hRf, Nat.le_trans (Nat.le_of_ble_eq_true rfl) hRl⟩) rfl hl.1 rfl (by decide) dX3_descriptor_17 (BU_call hB (Nat.zero_le _) (Nat.zero_le _))) (fun σ8 H locs hf hP hL => ?_)
  have hB := BU_keep (τ := σ8) hB
  have hP := Pic_bu hP (bc_ σ4) (bs_ σ4)
  refine p_nmPB hP hB (fun σ9 hσ9 hP hB => ?_)
  have hf := hf σ9 hσ9
  refine p_aload_n hx hb dX3_descriptor_20 rfl (lv_at hl 0 rfl) ?_
  refine lv_sipush (v := 128) hx hb dX3_descriptor_21 (by decide) ?_
  refine lv_iconst (v := 2) hx hb dX3_descriptor_24 (by decide) ?_
  refine lv_sipush (v := 2048) hx hb dX3_descriptor_25 (by decide) ?_
  obtain ⟨ht10, hf⟩ := hf
  refine p_callv hL (p_runV X cf3_ hP ht10 (metX4_both l G _ _ _ _ _ _ X.2.2 hf) (cwV 3 hts (lw_V q911 q912 q913 q91 q914) rfl rfl rfl (by decide +kernel) ⟨Nat.le_trans (Nat.le_of_ble_eq_true rfl) hRf, Nat.le_trans (Nat.le_of_ble_eq_true rfl) hRl⟩) rfl hl.1 rfl (by decide) dX3_descriptor_28 (BU_call hB (Nat.zero_le _) (Nat.zero_le _))) (fun σ11 H locs hf hP hL => ?_)
  have hB := BU_keep (τ := σ11) hB
  have hP := Pic_bu hP (bc_ σ9) (bs_ σ9)
  refine p_nmPB hP hB (fun σ12 hσ12 hP hB => ?_)
  have hf := hf σ12 hσ12
  refine p_aload_n hx hb dX3_descriptor_31 rfl (lv_at hl 0 rfl) ?_
  refine lv_sipush (v := 132) hx hb dX3_descriptor_32 (by decide) ?_
  refine lv_iconst (v := 4) hx hb dX3_descriptor_35 (by decide) ?_
  refine p_aload_n hx hb dX3_descriptor_36 rfl (lv_at hl 1 rfl) ?_
  obtain ⟨ht13, hf⟩ := hf
  refine p_calli hL (p_runV X cf2_ hP ht13 (metX3_tableSize l G _ _ _ X.2.2 hf) (cwV 0 hts (lw_V q920 q922 qs14 q87 q923) rfl rfl rfl (by decide +kernel) ⟨Nat.le_trans (Nat.le_of_ble_eq_true rfl) hRf, Nat.le_trans (Nat.le_of_ble_eq_true rfl) hRl⟩) rfl hl.1 rfl (by rw [(ca_i (ca_i (ca_r ca_n)))]; decide) dX3_descriptor_37 (BU_call hB (Nat.zero_le _) (Nat.zero_le _))) (fun r14 σ₁ H locs hf hP hL => ?_)
  obtain ⟨e₁, hf⟩ := hf
  rw [e₁] at hP
  obtain ⟨ht15, hf⟩ := hf
  refine p_callv hL (p_runV X cf3_ hP ht15 (metX4_both l G _ _ _ _ _ _ X.2.2 hf) (cwV 3 hts (lw_V q911 q912 q913 q91 q914) rfl rfl rfl (by decide +kernel) ⟨Nat.le_trans (Nat.le_of_ble_eq_true rfl) hRf, Nat.le_trans (Nat.le_of_ble_eq_true rfl) hRl⟩) rfl hl.1 rfl (by decide) dX3_descriptor_40 (BU_call hB (Nat.zero_le _) (Nat.zero_le _))) (fun σ16 H locs hf hP hL => ?_)
  have hB := BU_keep (τ := σ16) hB
  have hP := Pic_bu hP (bc_ σ12) (bs_ σ12)
  refine p_nmPB hP hB (fun σ17 hσ17 hP hB => ?_)
  have hf := hf σ17 hσ17
  refine p_aload_n hx hb dX3_descriptor_43 rfl (lv_at hl 0 rfl) ?_
  refine lv_sipush (v := 140) hx hb dX3_descriptor_44 (by decide) ?_
  refine lv_iconst (v := 4) hx hb dX3_descriptor_47 (by decide) ?_
  refine lv_iload_n hx hb dX3_descriptor_48 rfl (lv_at hl 2 rfl) ?_
  refine lv_bipush (v := 18) hx hb dX3_descriptor_49 (by decide) ?_
  refine lv_iadd hx hb dX3_descriptor_51 ?_
  obtain ⟨ht18, hf⟩ := hf
  refine p_callv hL (p_runV X cf3_ hP ht18 (metX4_low l G _ _ _ _ _ _ X.2.2 hf) (cwV 3 hts (lw_V q900 q901 q902 q91 q903) rfl rfl rfl (by decide +kernel) ⟨Nat.le_trans (Nat.le_of_ble_eq_true rfl) hRf, Nat.le_trans (Nat.le_of_ble_eq_true rfl) hRl⟩) rfl hl.1 rfl (by decide) dX3_descriptor_52 (BU_call hB (Nat.zero_le _) (Nat.zero_le _))) (fun σ19 H locs hf hP hL => ?_)
  have hB := BU_keep (τ := σ19) hB
  have hP := Pic_bu hP (bc_ σ17) (bs_ σ17)
  refine p_nmPB hP hB (fun σ20 hσ20 hP hB => ?_)
  have hf := hf σ20 hσ20
  refine p_aload_n hx hb dX3_descriptor_55 rfl (lv_at hl 0 rfl) ?_
  refine lv_sipush (v := 148) hx hb dX3_descriptor_56 (by decide) ?_
  refine lv_iconst (v := 4) hx hb dX3_descriptor_59 (by decide) ?_
  refine lv_iload_n hx hb dX3_descriptor_60 rfl (lv_at hl 2 rfl) ?_
  refine lv_bipush (v := 19) hx hb dX3_descriptor_61 (by decide) ?_
  refine lv_iadd hx hb dX3_descriptor_63 ?_
  obtain ⟨ht21, hf⟩ := hf
  refine p_callv hL (p_runV X cf3_ hP ht21 (metX4_high l G _ _ _ _ _ _ X.2.2 hf) (cwV 3 hts (lw_V q924 q917 q918 q91 q919) rfl rfl rfl (by decide +kernel) ⟨Nat.le_trans (Nat.le_of_ble_eq_true rfl) hRf, Nat.le_trans (Nat.le_of_ble_eq_true rfl) hRl⟩) rfl hl.1 rfl (by decide) dX3_descriptor_64 (BU_call hB (Nat.zero_le _) (Nat.zero_le _))) (fun σ22 H locs hf hP hL => ?_)
  have hB := BU_keep (τ := σ22) hB
  have hP := Pic_bu hP (bc_ σ20) (bs_ σ20)
  refine p_nmPB hP hB (fun σ23 hσ23 hP hB => ?_)
  have hf := hf σ23 hσ23
  refine p_aload_n hx hb dX3_descriptor_67 rfl (lv_at hl 1 rfl) ?_
  refine p_aload_n hx hb dX3_descriptor_68 rfl (lv_at hl 0 rfl) ?_
  refine lv_sipush (v := 156) hx hb dX3_descriptor_69 (by decide) ?_
  refine p_aload_n hx hb dX3_descriptor_72 rfl (lv_at hl 1 rfl) ?_
  obtain ⟨ht24, hf⟩ := hf
  refine p_gR X cf2_ (k := 3) (by decide) rfl hP ht24 q188 (fun _ h => h) dX3_descriptor_73 ?_
  refine lv_iconst (v := 0) hx hb dX3_descriptor_76 (by decide) ?_
  obtain ⟨ht25, hf⟩ := hf
  refine p_callr hL (p_runV X cf4_ hP ht25 (metX5_find l G _ _ _ _ X.2.2 hf) (cwV 1 hts (lw_V q853 q716 q717 q92 q718) rfl rfl rfl (by decide +kernel) ⟨Nat.le_trans (Nat.le_of_ble_eq_true rfl) hRf, Nat.le_trans (Nat.le_of_ble_eq_true rfl) hRl⟩) rfl hl.1 rfl (by rw [(ca_i (ca_r (ca_r ca_n)))]; decide) dX3_descriptor_77 (BU_call hB (Nat.zero_le _) (Nat.zero_le _))) (fun r26 σ₁ H locs hf hP hL => ?_)
  obtain ⟨e₁, hf⟩ := hf
  rw [e₁] at hP
  refine lv_iconst (v := 0) hx hb dX3_descriptor_80 (by decide) ?_
  obtain ⟨mc27, ms28, hf⟩ := hf
  obtain ⟨hb29, hf⟩ := hf
  obtain ⟨hb30, hf⟩ := hf
  refine p_callr hL (p_runS X (Pic_bu hP mc27 ms28) (metX3_special l G _ _ _ _ _ X.2.2 hf) (va_cwS 1 hts (lw_S q925 q926 q87 q927) rfl rfl rfl (by decide +kernel) ⟨Nat.le_trans (Nat.le_of_ble_eq_true rfl) hRf, Nat.le_trans (Nat.le_of_ble_eq_true rfl) hRl⟩) rfl hl.1 rfl (by rw [(ca_r (ca_i (ca_r (ca_r ca_n))))]; decide) dX3_descriptor_81 (BU_call hB hb29 hb30)) (fun r31 σ32 H locs hf hP hL => ?_)
  have hB := BU_back (τ := σ32) hB hb29 hb30
  have hP := Pic_bu hP (bc_ σ23 - mc27) (bs_ σ23 - ms28)
  refine p_nmPB hP hB (fun σ33 hσ33 hP hB => ?_)
  have hf := hf σ33 hσ33
  obtain ⟨ht34, hf⟩ := hf
  refine p_callv hL (p_runV X cf2_ hP ht34 (metX3_record l G _ _ _ _ _ _ _ X.2.2 hf) (cwV 4 hts (lw_V q934 q936 qs15 q87 q937) rfl rfl rfl (by decide +kernel) ⟨Nat.le_trans (Nat.le_of_ble_eq_true rfl) hRf, Nat.le_trans (Nat.le_of_ble_eq_true rfl) hRl⟩) rfl hl.1 rfl (by decide) dX3_descriptor_84 (BU_call hB (Nat.zero_le _) (Nat.zero_le _))) (fun σ35 H locs hf hP hL => ?_)
  have hB := BU_keep (τ := σ35) hB
  have hP := Pic_bu hP (bc_ σ33) (bs_ σ33)
  refine p_nmPB hP hB (fun σ36 hσ36 hP hB => ?_)
  have hf := hf σ36 hσ36
  refine p_aload_n hx hb dX3_descriptor_87 rfl (lv_at hl 0 rfl) ?_
  exact p_aret X hlk hP hL (BU_le hB hRc).1 (BU_le hB hRc).2 hr (Or.inl ⟨_, rfl⟩) dX3_descriptor_88 hf
set_option maxHeartbeats 4000000 in
theorem metX3_descriptor (l : Launch) (G : GG_) (mc ms : Nat) (x0 : Nat) (x1 : Int32) (σ : Hp) (post : Nat → Hp → Prop) (hG : GOK_ G) (hf : wX3_descriptor x0 x1 (bu_ σ mc ms) post) : Met l yX3_descriptor (ws_ yX3_descriptor cX3_descriptor 3 (some ((Jvm.ClassFile.FieldType.object "WriteOnceDisc$Page")))) { frames := 8, cells := mc, slots := ms, locals := 179 } (PC_ G [rv_ x0, .int x1] (bu_ σ mc ms)) (QR_ G post) mc ms (FR_ G) := by
  refine Met.ofW (cc := cX3_descriptor) (maxL := 3) (ret := (some ((Jvm.ClassFile.FieldType.object "WriteOnceDisc$Page")))) (by decide) rfl ?_
  intro p e s m args below meth c s₁ B hml hv
  obtain ⟨rfl, hP, hW⟩ := hv
  have hts := atoms_spec (ws := ws_ yX3_descriptor cX3_descriptor 3 (some ((Jvm.ClassFile.FieldType.object "WriteOnceDisc$Page")))) B.pre
  have hts : ∀ w ∈ lw_all, w.before _ s = true := fun w h => hts w (List.mem_cons_of_mem _ h)
  rw [lg_entry_eq]
  have hl := en_entry [rv_ x0, .int x1] [1, 1] (n := 3) (ca_r (ca_i ca_n)) (by decide)
  exact sX3_descriptor ⟨⟨⟨B.exec, B.bytes, hml, findClass_of_methodNamed B.named, hts⟩, hW, hG⟩, B.notSynchronized, B.returns, Nat.le_refl _, Nat.le_refl _, ⟨rfl, rfl⟩, (name_of_methodNamed B.named B.method).1⟩ hf _ _ _ _ _ hP (LO_nil G) (BU_in ⟨rfl, rfl⟩) hl
abbrev cX3_paths : ByteArray := prog_2_method_13_code
def yX3_paths : MethodName := ⟨RX3, "paths", "(Z)LWriteOnceDisc$Page;"⟩
theorem dX3_paths_0 : decode cX3_paths 0 = .ok (.aload_n 0, 1) := by decide +kernel
theorem dX3_paths_1 : decode cX3_paths 1 = .ok (.invokevirtual 56, 3) := by decide +kernel
theorem dX3_paths_4 : decode cX3_paths 4 = .ok (.astore_n 2, 1) := by decide +kernel
theorem dX3_paths_5 : decode cX3_paths 5 = .ok (.iconst 0, 1) := by decide +kernel
theorem dX3_paths_6 : decode cX3_paths 6 = .ok (.istore_n 3, 1) := by decide +kernel
theorem dX3_paths_7 : decode cX3_paths 7 = .ok (.iconst 0, 1) := by decide +kernel
theorem dX3_paths_8 : decode cX3_paths 8 = .ok (.istore 4, 2) := by decide +kernel
theorem dX3_paths_10 : decode cX3_paths 10 = .ok (.iload 4, 2) := by decide +kernel
theorem dX3_paths_12 : decode cX3_paths 12 = .ok (.aload_n 0, 1) := by decide +kernel
theorem dX3_paths_13 : decode cX3_paths 13 = .ok (.getfield 12, 3) := by decide +kernel
theorem dX3_paths_16 : decode cX3_paths 16 = .ok (.invokevirtual 137, 3) := by decide +kernel
theorem dX3_paths_19 : decode cX3_paths 19 = .ok (.if_icmp .ge 163, 3) := by decide +kernel
theorem dX3_paths_22 : decode cX3_paths 22 = .ok (.aload_n 0, 1) := by decide +kernel
theorem dX3_paths_23 : decode cX3_paths 23 = .ok (.getfield 12, 3) := by decide +kernel
theorem dX3_paths_26 : decode cX3_paths 26 = .ok (.iload 4, 2) := by decide +kernel
theorem dX3_paths_28 : decode cX3_paths 28 = .ok (.invokevirtual 139, 3) := by decide +kernel
theorem dX3_paths_31 : decode cX3_paths 31 = .ok (.checkcast 62, 3) := by decide +kernel
theorem dX3_paths_34 : decode cX3_paths 34 = .ok (.astore 5, 2) := by decide +kernel
theorem dX3_paths_36 : decode cX3_paths 36 = .ok (.iload 4, 2) := by decide +kernel
theorem dX3_paths_38 : decode cX3_paths 38 = .ok (.ifCond .ne 10, 3) := by decide +kernel
theorem dX3_paths_41 : decode cX3_paths 41 = .ok (.iconst 0, 1) := by decide +kernel
theorem dX3_paths_42 : decode cX3_paths 42 = .ok (.invokestatic 185, 3) := by decide +kernel
theorem dX3_paths_45 : decode cX3_paths 45 = .ok (.goto 8, 3) := by decide +kernel
theorem dX3_paths_48 : decode cX3_paths 48 = .ok (.aload 5, 2) := by decide +kernel
theorem dX3_paths_50 : decode cX3_paths 50 = .ok (.getfield 196, 3) := by decide +kernel
theorem dX3_paths_53 : decode cX3_paths 53 = .ok (.astore 6, 2) := by decide +kernel
theorem dX3_paths_55 : decode cX3_paths 55 = .ok (.iload 4, 2) := by decide +kernel
theorem dX3_paths_57 : decode cX3_paths 57 = .ok (.ifCond .ne 7, 3) := by decide +kernel
theorem dX3_paths_60 : decode cX3_paths 60 = .ok (.iconst 1, 1) := by decide +kernel
theorem dX3_paths_61 : decode cX3_paths 61 = .ok (.goto 18, 3) := by decide +kernel
theorem dX3_paths_64 : decode cX3_paths 64 = .ok (.aload_n 0, 1) := by decide +kernel
theorem dX3_paths_65 : decode cX3_paths 65 = .ok (.getfield 123, 3) := by decide +kernel
theorem dX3_paths_68 : decode cX3_paths 68 = .ok (.aload 5, 2) := by decide +kernel
theorem dX3_paths_70 : decode cX3_paths 70 = .ok (.getfield 193, 3) := by decide +kernel
theorem dX3_paths_73 : decode cX3_paths 73 = .ok (.invokevirtual 127, 3) := by decide +kernel
theorem dX3_paths_76 : decode cX3_paths 76 = .ok (.getfield 143, 3) := by decide +kernel
theorem dX3_paths_79 : decode cX3_paths 79 = .ok (.istore 7, 2) := by decide +kernel
theorem dX3_paths_81 : decode cX3_paths 81 = .ok (.aload_n 2, 1) := by decide +kernel
theorem dX3_paths_82 : decode cX3_paths 82 = .ok (.iload_n 3, 1) := by decide +kernel
theorem dX3_paths_83 : decode cX3_paths 83 = .ok (.iconst 1, 1) := by decide +kernel
theorem dX3_paths_84 : decode cX3_paths 84 = .ok (.aload 6, 2) := by decide +kernel
theorem dX3_paths_86 : decode cX3_paths 86 = .ok (.invokevirtual 101, 3) := by decide +kernel
theorem dX3_paths_89 : decode cX3_paths 89 = .ok (.invokevirtual 174, 3) := by decide +kernel
theorem dX3_paths_92 : decode cX3_paths 92 = .ok (.iload_n 1, 1) := by decide +kernel
theorem dX3_paths_93 : decode cX3_paths 93 = .ok (.ifCond .eq 30, 3) := by decide +kernel
theorem dX3_paths_96 : decode cX3_paths 96 = .ok (.aload_n 2, 1) := by decide +kernel
theorem dX3_paths_97 : decode cX3_paths 97 = .ok (.iload_n 3, 1) := by decide +kernel
theorem dX3_paths_98 : decode cX3_paths 98 = .ok (.iconst 2, 1) := by decide +kernel
theorem dX3_paths_99 : decode cX3_paths 99 = .ok (.iadd, 1) := by decide +kernel
theorem dX3_paths_100 : decode cX3_paths 100 = .ok (.iconst 4, 1) := by decide +kernel
theorem dX3_paths_101 : decode cX3_paths 101 = .ok (.aload 5, 2) := by decide +kernel
theorem dX3_paths_103 : decode cX3_paths 103 = .ok (.getfield 168, 3) := by decide +kernel
theorem dX3_paths_106 : decode cX3_paths 106 = .ok (.invokevirtual 174, 3) := by decide +kernel
theorem dX3_paths_109 : decode cX3_paths 109 = .ok (.aload_n 2, 1) := by decide +kernel
theorem dX3_paths_110 : decode cX3_paths 110 = .ok (.iload_n 3, 1) := by decide +kernel
theorem dX3_paths_111 : decode cX3_paths 111 = .ok (.bipush 6, 2) := by decide +kernel
theorem dX3_paths_113 : decode cX3_paths 113 = .ok (.iadd, 1) := by decide +kernel
theorem dX3_paths_114 : decode cX3_paths 114 = .ok (.iconst 2, 1) := by decide +kernel
theorem dX3_paths_115 : decode cX3_paths 115 = .ok (.iload 7, 2) := by decide +kernel
theorem dX3_paths_117 : decode cX3_paths 117 = .ok (.invokevirtual 174, 3) := by decide +kernel
theorem dX3_paths_120 : decode cX3_paths 120 = .ok (.goto 27, 3) := by decide +kernel
theorem dX3_paths_123 : decode cX3_paths 123 = .ok (.aload_n 2, 1) := by decide +kernel
theorem dX3_paths_124 : decode cX3_paths 124 = .ok (.iload_n 3, 1) := by decide +kernel
theorem dX3_paths_125 : decode cX3_paths 125 = .ok (.iconst 2, 1) := by decide +kernel
theorem dX3_paths_126 : decode cX3_paths 126 = .ok (.iadd, 1) := by decide +kernel
theorem dX3_paths_127 : decode cX3_paths 127 = .ok (.iconst 4, 1) := by decide +kernel
theorem dX3_paths_128 : decode cX3_paths 128 = .ok (.aload 5, 2) := by decide +kernel
theorem dX3_paths_130 : decode cX3_paths 130 = .ok (.getfield 168, 3) := by decide +kernel
theorem dX3_paths_133 : decode cX3_paths 133 = .ok (.invokevirtual 199, 3) := by decide +kernel
theorem dX3_paths_136 : decode cX3_paths 136 = .ok (.aload_n 2, 1) := by decide +kernel
theorem dX3_paths_137 : decode cX3_paths 137 = .ok (.iload_n 3, 1) := by decide +kernel
theorem dX3_paths_138 : decode cX3_paths 138 = .ok (.bipush 6, 2) := by decide +kernel
theorem dX3_paths_140 : decode cX3_paths 140 = .ok (.iadd, 1) := by decide +kernel
theorem dX3_paths_141 : decode cX3_paths 141 = .ok (.iconst 2, 1) := by decide +kernel
theorem dX3_paths_142 : decode cX3_paths 142 = .ok (.iload 7, 2) := by decide +kernel
theorem dX3_paths_144 : decode cX3_paths 144 = .ok (.invokevirtual 199, 3) := by decide +kernel
theorem dX3_paths_147 : decode cX3_paths 147 = .ok (.aload_n 2, 1) := by decide +kernel
theorem dX3_paths_148 : decode cX3_paths 148 = .ok (.iload_n 3, 1) := by decide +kernel
theorem dX3_paths_149 : decode cX3_paths 149 = .ok (.bipush 8, 2) := by decide +kernel
theorem dX3_paths_151 : decode cX3_paths 151 = .ok (.iadd, 1) := by decide +kernel
theorem dX3_paths_152 : decode cX3_paths 152 = .ok (.aload 6, 2) := by decide +kernel
theorem dX3_paths_154 : decode cX3_paths 154 = .ok (.invokevirtual 181, 3) := by decide +kernel
theorem dX3_paths_157 : decode cX3_paths 157 = .ok (.iload_n 3, 1) := by decide +kernel
theorem dX3_paths_158 : decode cX3_paths 158 = .ok (.bipush 8, 2) := by decide +kernel
theorem dX3_paths_160 : decode cX3_paths 160 = .ok (.aload 6, 2) := by decide +kernel
theorem dX3_paths_162 : decode cX3_paths 162 = .ok (.invokevirtual 101, 3) := by decide +kernel
theorem dX3_paths_165 : decode cX3_paths 165 = .ok (.iadd, 1) := by decide +kernel
theorem dX3_paths_166 : decode cX3_paths 166 = .ok (.aload 6, 2) := by decide +kernel
theorem dX3_paths_168 : decode cX3_paths 168 = .ok (.invokevirtual 101, 3) := by decide +kernel
theorem dX3_paths_171 : decode cX3_paths 171 = .ok (.iconst 1, 1) := by decide +kernel
theorem dX3_paths_172 : decode cX3_paths 172 = .ok (.iand, 1) := by decide +kernel
theorem dX3_paths_173 : decode cX3_paths 173 = .ok (.iadd, 1) := by decide +kernel
theorem dX3_paths_174 : decode cX3_paths 174 = .ok (.iadd, 1) := by decide +kernel
theorem dX3_paths_175 : decode cX3_paths 175 = .ok (.istore_n 3, 1) := by decide +kernel
theorem dX3_paths_176 : decode cX3_paths 176 = .ok (.iinc 4 1, 3) := by decide +kernel
theorem dX3_paths_179 : decode cX3_paths 179 = .ok (.goto (-169), 3) := by decide +kernel
theorem dX3_paths_182 : decode cX3_paths 182 = .ok (.aload_n 2, 1) := by decide +kernel
theorem dX3_paths_183 : decode cX3_paths 183 = .ok (.areturn, 1) := by decide +kernel
/-- WriteOnceDisc$Burner.paths(Z)LWriteOnceDisc$Page; -/
def wX3_paths_L147 (post : Nat → Hp → Prop) (rc10 : Int32 → Int32 → Hp → Prop) (x0 : Nat) (x1 : Int32) (x2 : Nat) (x3 : Int32) (x4 : Int32) (x6 : Nat) (σ : Hp) : Prop :=
(tg_ σ x2 = 4 ∧ (wX4_say x2 (x3 + (8 : Int32)) x6 σ (fun σ2 => (∀ σ3, σ3 = bu_ σ2 (bc_ σ) (bs_ σ) → (tg_ σ3 x6 = 13 ∧ (wJ5_length x6  σ3 (fun r5 => (wJ5_length x6  σ3 (fun r6 => (∀ y7 : Int32, y7 = (x3 + (((8 : Int32) + r5) + (r6 &&& (1 : Int32)))) → (∀ y8 : Int32, y8 = x4 + 1 → rc10 y7 y8 σ3)))))))))))
def wX3_paths_L79 (post : Nat → Hp → Prop) (rc10 : Int32 → Int32 → Hp → Prop) (x0 : Nat) (x1 : Int32) (x2 : Nat) (x3 : Int32) (x4 : Int32) (x5 : Nat) (x6 : Nat) (s0 : Int32) (σ : Hp) : Prop :=
(tg_ σ x6 = 13 ∧ (wJ5_length x6  σ (fun r10 => (tg_ σ x2 = 4 ∧ (wX4_low x2 x3 (1 : Int32) r10 σ (fun σ12 => (∀ σ13, σ13 = bu_ σ12 (bc_ σ) (bs_ σ) → ((x1 = 0 →
  (tg_ σ13 x5 = 6 ∧ (tg_ σ13 x2 = 4 ∧ (wX4_high x2 (x3 + (2 : Int32)) (4 : Int32) (fI_ σ13 5 9 x5) σ13 (fun σ17 => (∀ σ18, σ18 = bu_ σ17 (bc_ σ13) (bs_ σ13) → (tg_ σ18 x2 = 4 ∧ (wX4_high x2 (x3 + (6 : Int32)) (2 : Int32) s0 σ18 (fun σ20 => (∀ σ21, σ21 = bu_ σ20 (bc_ σ18) (bs_ σ18) → wX3_paths_L147 post rc10 x0 x1 x2 x3 x4 x6 σ21)))))))))) ∧
 (¬ x1 = 0 →
  (tg_ σ13 x5 = 6 ∧ (tg_ σ13 x2 = 4 ∧ (wX4_low x2 (x3 + (2 : Int32)) (4 : Int32) (fI_ σ13 5 9 x5) σ13 (fun σ24 => (∀ σ25, σ25 = bu_ σ24 (bc_ σ13) (bs_ σ13) → (tg_ σ25 x2 = 4 ∧ (wX4_low x2 (x3 + (6 : Int32)) (2 : Int32) s0 σ25 (fun σ27 => (∀ σ28, σ28 = bu_ σ27 (bc_ σ25) (bs_ σ25) → wX3_paths_L147 post rc10 x0 x1 x2 x3 x4 x6 σ28))))))))))))))))))
def wX3_paths_L53 (post : Nat → Hp → Prop) (rc10 : Int32 → Int32 → Hp → Prop) (x0 : Nat) (x1 : Int32) (x2 : Nat) (x3 : Int32) (x4 : Int32) (x5 : Nat) (s0 : Nat) (σ : Hp) : Prop :=
((¬ x4 = 0 →
  (tg_ σ x0 = 3 ∧ (tg_ σ x5 = 6 ∧ (tg_ σ (fR_ σ 2 3 x0) = 5 ∧ (wX5_find (fR_ σ 2 3 x0) (fI_ σ 5 2 x5) σ (fun r33 => (tg_ σ r33 = 6 ∧ wX3_paths_L79 post rc10 x0 x1 x2 x3 x4 x5 s0 (fI_ σ 5 11 r33) σ))))))) ∧
 (x4 = 0 →
  wX3_paths_L79 post rc10 x0 x1 x2 x3 x4 x5 s0 (1 : Int32) σ))
def wX3_paths_B10 (post : Nat → Hp → Prop) (rc10 : Int32 → Int32 → Hp → Prop) (x0 : Nat) (x1 : Int32) (x2 : Nat) (x3 : Int32) (x4 : Int32) (σ : Hp) : Prop :=
(tg_ σ x0 = 3 ∧ (tg_ σ (fR_ σ 2 4 x0) = 11 ∧ (wJ2_size (fR_ σ 2 4 x0)  σ (fun r37 => ((r37 ≤ x4 →
  post x2 σ) ∧
 (¬ r37 ≤ x4 →
  (wJ2_get (fR_ σ 2 4 x0) x4 σ (fun r39 => ((r39 = 0 ∨ tg_ σ r39 = 6) ∧ ((¬ x4 = 0 →
   (tg_ σ r39 = 6 ∧ wX3_paths_L53 post rc10 x0 x1 x2 x3 x4 r39 (fR_ σ 5 6 r39) σ)) ∧
  (x4 = 0 →
   (∃ mc43 ms44 : Nat, (mc43 ≤ bc_ σ ∧ (ms44 ≤ bs_ σ ∧ (wX3_special (0 : Int32) (bu_ σ mc43 ms44) (fun r47 σ48 => (∀ σ49, σ49 = bu_ σ48 (bc_ σ - mc43) (bs_ σ - ms44) → wX3_paths_L53 post rc10 x0 x1 x2 x3 x4 r39 r47 σ49)))))))))))))))))
def wX3_paths_L10 (post : Nat → Hp → Prop) (x0 : Nat) (x1 : Int32) (x2 : Nat) (x3 : Int32) (x4 : Int32) (σ : Hp) : Prop :=
 ∃ (I : Int32 → Int32 → Hp → Prop) (μ : Int32 → Int32 → Hp → Nat), I x3 x4 σ ∧ ∀ (x3 : Int32) (x4 : Int32) (σ : Hp), I x3 x4 σ → wX3_paths_B10 post (fun x3' x4' σ' => I x3' x4' σ' ∧ μ x3' x4' σ' < μ x3 x4 σ) x0 x1 x2 x3 x4 σ
def wX3_paths (x0 : Nat) (x1 : Int32) (σ : Hp) (post : Nat → Hp → Prop) : Prop :=
(tg_ σ x0 = 3 ∧ (wX3_blank x0  σ (fun r51 σ52 => (∀ σ53, σ53 = bu_ σ52 (bc_ σ) (bs_ σ) → wX3_paths_L10 post x0 x1 r51 (0 : Int32) (0 : Int32) σ53))))
set_option maxHeartbeats 4000000 in
theorem sX3_paths_L147 {G : GG_} {p : Program} {l : Launch} {e : Env} {R : Room} {s : State} {m : MethodId} {args : Array Value} {below : List Frame} {meth : Method} {c : Code} {mc ms : Nat} (Y : MX_ G p R s m args meth c cX3_paths 8 RX3 (some ((Jvm.ClassFile.FieldType.object "WriteOnceDisc$Page"))) 8 179 mc ms "paths") {post : Nat → Hp → Prop} {rc10 : Int32 → Int32 → Hp → Prop} {x0 : Nat} {x1 : Int32} {x2 : Nat} {x3 : Int32} {x4 : Int32} {x6 : Nat} {σ : Hp} (hrc10 : ∀ (x3 : Int32) (x4 : Int32) (σ : Hp), rc10 x3 x4 σ → WG_ G p l e R s m args below meth c (MQ below (QR_ G post) args s mc ms (FR_ G)) (BU_ R) 8 10 [(0, rv_ x0), (1, .int x1), (2, rv_ x2), (3, .int x3), (4, .int x4)] [] σ) (hf : wX3_paths_L147 post rc10 x0 x1 x2 x3 x4 x6 σ) : WG_ G p l e R s m args below meth c (MQ below (QR_ G post) args s mc ms (FR_ G)) (BU_ R) 8 147 [(0, rv_ x0), (1, .int x1), (2, rv_ x2), (3, .int x3), (4, .int x4), (6, rv_ x6)] [] σ := by
  have ⟨X, hlk, hr, hRf, hRl, hRc, hnm⟩ := Y
  have ⟨⟨hx, hb, _, hown, hts⟩, _, _⟩ := X
  intro H locs cells slots ls hP hL hB hl
  unfold wX3_paths_L147 at hf
  refine p_aload_n hx hb dX3_paths_147 rfl (lv_at hl 2 rfl) ?_
  refine lv_iload_n hx hb dX3_paths_148 rfl (lv_at hl 3 rfl) ?_
  refine lv_bipush (v := 8) hx hb dX3_paths_149 (by decide) ?_
  refine lv_iadd hx hb dX3_paths_151 ?_
  refine p_aload hx hb dX3_paths_152 (lv_at hl 5 rfl) ?_
  obtain ⟨ht1, hf⟩ := hf
  refine p_callv hL (p_runV X cf3_ hP ht1 (metX4_say l G _ _ _ _ _ X.2.2 hf) (cwV 2 hts (lw_V q905 q906 q907 q91 q908) rfl rfl rfl (by decide +kernel) ⟨Nat.le_trans (Nat.le_of_ble_eq_true rfl) hRf, Nat.le_trans (Nat.le_of_ble_eq_true rfl) hRl⟩) rfl hl.1 rfl (by decide) dX3_paths_154 (BU_call hB (Nat.zero_le _) (Nat.zero_le _))) (fun σ2 H locs hf hP hL => ?_)
  have hB := BU_keep (τ := σ2) hB
  have hP := Pic_bu hP (bc_ σ) (bs_ σ)
  refine p_nmPB hP hB (fun σ3 hσ3 hP hB => ?_)
  have hf := hf σ3 hσ3
  refine lv_iload_n hx hb dX3_paths_157 rfl (lv_at hl 3 rfl) ?_
  refine lv_bipush (v := 8) hx hb dX3_paths_158 (by decide) ?_
  refine p_aload hx hb dX3_paths_160 (lv_at hl 5 rfl) ?_
  obtain ⟨ht4, hf⟩ := hf
  refine p_calli hL (p_runV X cf12_ hP ht4 (metJ5_length l G _ _ _ X.2.2 hf) (cwV 0 hts (lw_V q884 q332 q333 q96 q334) rfl rfl rfl (by decide +kernel) ⟨Nat.le_trans (Nat.le_of_ble_eq_true rfl) hRf, Nat.le_trans (Nat.le_of_ble_eq_true rfl) hRl⟩) rfl hl.1 rfl (by rw [(ca_i (ca_i ca_n))]; decide) dX3_paths_162 (BU_call hB (Nat.zero_le _) (Nat.zero_le _))) (fun r5 σ₁ H locs hf hP hL => ?_)
  obtain ⟨e₁, hf⟩ := hf
  rw [e₁] at hP
  refine lv_iadd hx hb dX3_paths_165 ?_
  refine p_aload hx hb dX3_paths_166 (lv_at hl 5 rfl) ?_
  refine p_calli hL (p_runV X cf12_ hP ht4 (metJ5_length l G _ _ _ X.2.2 hf) (cwV 0 hts (lw_V q884 q332 q333 q96 q334) rfl rfl rfl (by decide +kernel) ⟨Nat.le_trans (Nat.le_of_ble_eq_true rfl) hRf, Nat.le_trans (Nat.le_of_ble_eq_true rfl) hRl⟩) rfl hl.1 rfl (by rw [(ca_i (ca_i ca_n))]; decide) dX3_paths_168 (BU_call hB (Nat.zero_le _) (Nat.zero_le _))) (fun r6 σ₁ H locs hf hP hL => ?_)
  obtain ⟨e₁, hf⟩ := hf
  rw [e₁] at hP
  refine lv_iconst (v := 1) hx hb dX3_paths_171 (by decide) ?_
  refine lv_iand hx hb dX3_paths_172 ?_
  refine lv_iadd hx hb dX3_paths_173 ?_
  refine lv_iadd hx hb dX3_paths_174 ?_
  have hl := lv_sub hl [0, 1, 2, 4] rfl
  refine lv_topi (fun y7 hy7 => ?_)
  have hf := hf y7 hy7
  refine p_istore_n (i := 3) hx hb dX3_paths_175 rfl hl (by decide) ⟨⟨ne_ rfl, Or.inl (ne_ rfl)⟩, ⟨⟨ne_ rfl, Or.inl (ne_ rfl)⟩, ⟨⟨ne_ rfl, Or.inr (rv_cat _)⟩, ⟨⟨ne_ rfl, Or.inl (ne_ rfl)⟩, trivial⟩⟩⟩⟩ (fun ls hl => ?_)
  have hl := lv_sub hl [4, 0, 1, 2, 3] rfl
  refine p_iincc (i := 4) (k := 1) hx hb (by decide) dX3_paths_176 hl (by decide) ⟨⟨ne_ rfl, Or.inr rfl⟩, ⟨⟨ne_ rfl, Or.inl (ne_ rfl)⟩, ⟨⟨ne_ rfl, Or.inl (ne_ rfl)⟩, ⟨⟨ne_ rfl, Or.inl (ne_ rfl)⟩, trivial⟩⟩⟩⟩ (fun y8 hy8 ls hl => ?_)
  have hf := hf y8 hy8
  refine lv_goto (tgt := 10) hx hb dX3_paths_179 (by decide) ?_
  exact hrc10 _ _ _ hf _ _ _ _ _ hP hL hB (lv_sub hl [2, 3, 4, 1, 0] rfl)
set_option maxHeartbeats 4000000 in
theorem sX3_paths_L79 {G : GG_} {p : Program} {l : Launch} {e : Env} {R : Room} {s : State} {m : MethodId} {args : Array Value} {below : List Frame} {meth : Method} {c : Code} {mc ms : Nat} (Y : MX_ G p R s m args meth c cX3_paths 8 RX3 (some ((Jvm.ClassFile.FieldType.object "WriteOnceDisc$Page"))) 8 179 mc ms "paths") {post : Nat → Hp → Prop} {rc10 : Int32 → Int32 → Hp → Prop} {x0 : Nat} {x1 : Int32} {x2 : Nat} {x3 : Int32} {x4 : Int32} {x5 : Nat} {x6 : Nat} {s0 : Int32} {σ : Hp} (hrc10 : ∀ (x3 : Int32) (x4 : Int32) (σ : Hp), rc10 x3 x4 σ → WG_ G p l e R s m args below meth c (MQ below (QR_ G post) args s mc ms (FR_ G)) (BU_ R) 8 10 [(0, rv_ x0), (1, .int x1), (2, rv_ x2), (3, .int x3), (4, .int x4)] [] σ) (hf : wX3_paths_L79 post rc10 x0 x1 x2 x3 x4 x5 x6 s0 σ) : WG_ G p l e R s m args below meth c (MQ below (QR_ G post) args s mc ms (FR_ G)) (BU_ R) 8 79 [(0, rv_ x0), (1, .int x1), (2, rv_ x2), (3, .int x3), (4, .int x4), (5, rv_ x5), (6, rv_ x6)] [.int s0] σ := by
  have ⟨X, hlk, hr, hRf, hRl, hRc, hnm⟩ := Y
  have ⟨⟨hx, hb, _, hown, hts⟩, _, _⟩ := X
  intro H locs cells slots ls hP hL hB hl
  unfold wX3_paths_L79 at hf
  refine p_istore (i := 7) hx hb dX3_paths_79 hl (by decide) ⟨⟨ne_ rfl, Or.inl (ne_ rfl)⟩, ⟨⟨ne_ rfl, Or.inl (ne_ rfl)⟩, ⟨⟨ne_ rfl, Or.inl (ne_ rfl)⟩, ⟨⟨ne_ rfl, Or.inl (ne_ rfl)⟩, ⟨⟨ne_ rfl, Or.inl (ne_ rfl)⟩, ⟨⟨ne_ rfl, Or.inl (ne_ rfl)⟩, ⟨⟨ne_ rfl, Or.inr (rv_cat _)⟩, trivial⟩⟩⟩⟩⟩⟩⟩ (fun ls hl => ?_)
  refine p_aload_n hx hb dX3_paths_81 rfl (lv_at hl 3 rfl) ?_
  refine lv_iload_n hx hb dX3_paths_82 rfl (lv_at hl 4 rfl) ?_
  refine lv_iconst (v := 1) hx hb dX3_paths_83 (by decide) ?_
  refine p_aload hx hb dX3_paths_84 (lv_at hl 7 rfl) ?_
  obtain ⟨ht9, hf⟩ := hf
  refine p_calli hL (p_runV X cf12_ hP ht9 (metJ5_length l G _ _ _ X.2.2 hf) (cwV 0 hts (lw_V q884 q332 q333 q96 q334) rfl rfl rfl (by decide +kernel) ⟨Nat.le_trans (Nat.le_of_ble_eq_true rfl) hRf, Nat.le_trans (Nat.le_of_ble_eq_true rfl) hRl⟩) rfl hl.1 rfl (by rw [(ca_i (ca_i (ca_r ca_n)))]; decide) dX3_paths_86 (BU_call hB (Nat.zero_le _) (Nat.zero_le _))) (fun r10 σ₁ H locs hf hP hL => ?_)
  obtain ⟨e₁, hf⟩ := hf
  rw [e₁] at hP
  obtain ⟨ht11, hf⟩ := hf
  refine p_callv hL (p_runV X cf3_ hP ht11 (metX4_low l G _ _ _ _ _ _ X.2.2 hf) (cwV 3 hts (lw_V q900 q901 q902 q91 q903) rfl rfl rfl (by decide +kernel) ⟨Nat.le_trans (Nat.le_of_ble_eq_true rfl) hRf, Nat.le_trans (Nat.le_of_ble_eq_true rfl) hRl⟩) rfl hl.1 rfl (by decide) dX3_paths_89 (BU_call hB (Nat.zero_le _) (Nat.zero_le _))) (fun σ12 H locs hf hP hL => ?_)
  have hB := BU_keep (τ := σ12) hB
  have hP := Pic_bu hP (bc_ σ) (bs_ σ)
  refine p_nmPB hP hB (fun σ13 hσ13 hP hB => ?_)
  have hf := hf σ13 hσ13
  refine lv_iload_n hx hb dX3_paths_92 rfl (lv_at hl 2 rfl) ?_
  refine lv_if_eq (tgt := 123) hx hb dX3_paths_93 (by decide) (fun c14 => ?_) (fun c14 => ?_)
  · have hf := hf.1 c14
    refine p_aload_n hx hb dX3_paths_123 rfl (lv_at hl 3 rfl) ?_
    refine lv_iload_n hx hb dX3_paths_124 rfl (lv_at hl 4 rfl) ?_
    refine lv_iconst (v := 2) hx hb dX3_paths_125 (by decide) ?_
    refine lv_iadd hx hb dX3_paths_126 ?_
    refine lv_iconst (v := 4) hx hb dX3_paths_127 (by decide) ?_
    refine p_aload hx hb dX3_paths_128 (lv_at hl 6 rfl) ?_
    obtain ⟨ht15, hf⟩ := hf
    refine p_gI X cf5_ (k := 9) (by decide) rfl hP ht15 q463 (fun _ h => h) dX3_paths_130 ?_
    obtain ⟨ht16, hf⟩ := hf
    refine p_callv hL (p_runV X cf3_ hP ht16 (metX4_high l G _ _ _ _ _ _ X.2.2 hf) (cwV 3 hts (lw_V q924 q917 q918 q91 q919) rfl rfl rfl (by decide +kernel) ⟨Nat.le_trans (Nat.le_of_ble_eq_true rfl) hRf, Nat.le_trans (Nat.le_of_ble_eq_true rfl) hRl⟩) rfl hl.1 rfl (by decide) dX3_paths_133 (BU_call hB (Nat.zero_le _) (Nat.zero_le _))) (fun σ17 H locs hf hP hL => ?_)
    have hB := BU_keep (τ := σ17) hB
    have hP := Pic_bu hP (bc_ σ13) (bs_ σ13)
    refine p_nmPB hP hB (fun σ18 hσ18 hP hB => ?_)
    have hf := hf σ18 hσ18
    refine p_aload_n hx hb dX3_paths_136 rfl (lv_at hl 3 rfl) ?_
    refine lv_iload_n hx hb dX3_paths_137 rfl (lv_at hl 4 rfl) ?_
    refine lv_bipush (v := 6) hx hb dX3_paths_138 (by decide) ?_
    refine lv_iadd hx hb dX3_paths_140 ?_
    refine lv_iconst (v := 2) hx hb dX3_paths_141 (by decide) ?_
    refine lv_iload hx hb dX3_paths_142 (lv_at hl 0 rfl) ?_
    obtain ⟨ht19, hf⟩ := hf
    refine p_callv hL (p_runV X cf3_ hP ht19 (metX4_high l G _ _ _ _ _ _ X.2.2 hf) (cwV 3 hts (lw_V q924 q917 q918 q91 q919) rfl rfl rfl (by decide +kernel) ⟨Nat.le_trans (Nat.le_of_ble_eq_true rfl) hRf, Nat.le_trans (Nat.le_of_ble_eq_true rfl) hRl⟩) rfl hl.1 rfl (by decide) dX3_paths_144 (BU_call hB (Nat.zero_le _) (Nat.zero_le _))) (fun σ20 H locs hf hP hL => ?_)
    have hB := BU_keep (τ := σ20) hB
    have hP := Pic_bu hP (bc_ σ18) (bs_ σ18)
    refine p_nmPB hP hB (fun σ21 hσ21 hP hB => ?_)
    have hf := hf σ21 hσ21
    exact sX3_paths_L147 Y hrc10 hf _ _ _ _ _ hP hL hB (lv_sub hl [1, 2, 3, 4, 5, 7] rfl)
  · have hf := hf.2 c14
    refine p_aload_n hx hb dX3_paths_96 rfl (lv_at hl 3 rfl) ?_
    refine lv_iload_n hx hb dX3_paths_97 rfl (lv_at hl 4 rfl) ?_
    refine lv_iconst (v := 2) hx hb dX3_paths_98 (by decide) ?_
    refine lv_iadd hx hb dX3_paths_99 ?_
    refine lv_iconst (v := 4) hx hb dX3_paths_100 (by decide) ?_
    refine p_aload hx hb dX3_paths_101 (lv_at hl 6 rfl) ?_
    obtain ⟨ht22, hf⟩ := hf
    refine p_gI X cf5_ (k := 9) (by decide) rfl hP ht22 q463 (fun _ h => h) dX3_paths_103 ?_
    obtain ⟨ht23, hf⟩ := hf
    refine p_callv hL (p_runV X cf3_ hP ht23 (metX4_low l G _ _ _ _ _ _ X.2.2 hf) (cwV 3 hts (lw_V q900 q901 q902 q91 q903) rfl rfl rfl (by decide +kernel) ⟨Nat.le_trans (Nat.le_of_ble_eq_true rfl) hRf, Nat.le_trans (Nat.le_of_ble_eq_true rfl) hRl⟩) rfl hl.1 rfl (by decide) dX3_paths_106 (BU_call hB (Nat.zero_le _) (Nat.zero_le _))) (fun σ24 H locs hf hP hL => ?_)
    have hB := BU_keep (τ := σ24) hB
    have hP := Pic_bu hP (bc_ σ13) (bs_ σ13)
    refine p_nmPB hP hB (fun σ25 hσ25 hP hB => ?_)
    have hf := hf σ25 hσ25
    refine p_aload_n hx hb dX3_paths_109 rfl (lv_at hl 3 rfl) ?_
    refine lv_iload_n hx hb dX3_paths_110 rfl (lv_at hl 4 rfl) ?_
    refine lv_bipush (v := 6) hx hb dX3_paths_111 (by decide) ?_
    refine lv_iadd hx hb dX3_paths_113 ?_
    refine lv_iconst (v := 2) hx hb dX3_paths_114 (by decide) ?_
    refine lv_iload hx hb dX3_paths_115 (lv_at hl 0 rfl) ?_
    obtain ⟨ht26, hf⟩ := hf
    refine p_callv hL (p_runV X cf3_ hP ht26 (metX4_low l G _ _ _ _ _ _ X.2.2 hf) (cwV 3 hts (lw_V q900 q901 q902 q91 q903) rfl rfl rfl (by decide +kernel) ⟨Nat.le_trans (Nat.le_of_ble_eq_true rfl) hRf, Nat.le_trans (Nat.le_of_ble_eq_true rfl) hRl⟩) rfl hl.1 rfl (by decide) dX3_paths_117 (BU_call hB (Nat.zero_le _) (Nat.zero_le _))) (fun σ27 H locs hf hP hL => ?_)
    have hB := BU_keep (τ := σ27) hB
    have hP := Pic_bu hP (bc_ σ25) (bs_ σ25)
    refine p_nmPB hP hB (fun σ28 hσ28 hP hB => ?_)
    have hf := hf σ28 hσ28
    refine lv_goto (tgt := 147) hx hb dX3_paths_120 (by decide) ?_
    exact sX3_paths_L147 Y hrc10 hf _ _ _ _ _ hP hL hB (lv_sub hl [1, 2, 3, 4, 5, 7] rfl)
set_option maxHeartbeats 4000000 in
theorem sX3_paths_L53 {G : GG_} {p : Program} {l : Launch} {e : Env} {R : Room} {s : State} {m : MethodId} {args : Array Value} {below : List Frame} {meth : Method} {c : Code} {mc ms : Nat} (Y : MX_ G p R s m args meth c cX3_paths 8 RX3 (some ((Jvm.ClassFile.FieldType.object "WriteOnceDisc$Page"))) 8 179 mc ms "paths") {post : Nat → Hp → Prop} {rc10 : Int32 → Int32 → Hp → Prop} {x0 : Nat} {x1 : Int32} {x2 : Nat} {x3 : Int32} {x4 : Int32} {x5 : Nat} {s0 : Nat} {σ : Hp} (hrc10 : ∀ (x3 : Int32) (x4 : Int32) (σ : Hp), rc10 x3 x4 σ → WG_ G p l e R s m args below meth c (MQ below (QR_ G post) args s mc ms (FR_ G)) (BU_ R) 8 10 [(0, rv_ x0), (1, .int x1), (2, rv_ x2), (3, .int x3), (4, .int x4)] [] σ) (hf : wX3_paths_L53 post rc10 x0 x1 x2 x3 x4 x5 s0 σ) : WG_ G p l e R s m args below meth c (MQ below (QR_ G post) args s mc ms (FR_ G)) (BU_ R) 8 53 [(0, rv_ x0), (1, .int x1), (2, rv_ x2), (3, .int x3), (4, .int x4), (5, rv_ x5)] [rv_ s0] σ := by
  have ⟨X, hlk, hr, hRf, hRl, hRc, hnm⟩ := Y
  have ⟨⟨hx, hb, _, hown, hts⟩, _, _⟩ := X
  intro H locs cells slots ls hP hL hB hl
  unfold wX3_paths_L53 at hf
  refine p_astore (i := 6) hx hb dX3_paths_53 hl (by decide) ⟨⟨ne_ rfl, Or.inl (ne_ rfl)⟩, ⟨⟨ne_ rfl, Or.inl (ne_ rfl)⟩, ⟨⟨ne_ rfl, Or.inl (ne_ rfl)⟩, ⟨⟨ne_ rfl, Or.inl (ne_ rfl)⟩, ⟨⟨ne_ rfl, Or.inl (ne_ rfl)⟩, ⟨⟨ne_ rfl, Or.inr (rv_cat _)⟩, trivial⟩⟩⟩⟩⟩⟩ (fun ls hl => ?_)
  refine lv_iload hx hb dX3_paths_55 (lv_at hl 5 rfl) ?_
  refine lv_if_ne (tgt := 64) hx hb dX3_paths_57 (by decide) (fun c29 => ?_) (fun c29 => ?_)
  · have hf := hf.1 c29
    refine p_aload_n hx hb dX3_paths_64 rfl (lv_at hl 1 rfl) ?_
    obtain ⟨ht30, hf⟩ := hf
    refine p_gR X cf2_ (k := 3) (by decide) rfl hP ht30 q188 (fun _ h => h) dX3_paths_65 ?_
    refine p_aload hx hb dX3_paths_68 (lv_at hl 6 rfl) ?_
    obtain ⟨ht31, hf⟩ := hf
    refine p_gI X cf5_ (k := 2) (by decide) rfl hP ht31 q445 (fun _ h => h) dX3_paths_70 ?_
    obtain ⟨ht32, hf⟩ := hf
    refine p_callr hL (p_runV X cf4_ hP ht32 (metX5_find l G _ _ _ _ X.2.2 hf) (cwV 1 hts (lw_V q853 q716 q717 q92 q718) rfl rfl rfl (by decide +kernel) ⟨Nat.le_trans (Nat.le_of_ble_eq_true rfl) hRf, Nat.le_trans (Nat.le_of_ble_eq_true rfl) hRl⟩) rfl hl.1 rfl (by decide) dX3_paths_73 (BU_call hB (Nat.zero_le _) (Nat.zero_le _))) (fun r33 σ₁ H locs hf hP hL => ?_)
    obtain ⟨e₁, hf⟩ := hf
    rw [e₁] at hP
    obtain ⟨ht34, hf⟩ := hf
    refine p_gI X cf5_ (k := 11) (by decide) rfl hP ht34 q465 (fun _ h => h) dX3_paths_76 ?_
    exact sX3_paths_L79 Y hrc10 hf _ _ _ _ _ hP hL hB (lv_sub hl [1, 2, 3, 4, 5, 6, 0] rfl)
  · have hf := hf.2 c29
    refine lv_iconst (v := 1) hx hb dX3_paths_60 (by decide) ?_
    refine lv_goto (tgt := 79) hx hb dX3_paths_61 (by decide) ?_
    exact sX3_paths_L79 Y hrc10 hf _ _ _ _ _ hP hL hB (lv_sub hl [1, 2, 3, 4, 5, 6, 0] rfl)
set_option maxHeartbeats 4000000 in
theorem sX3_paths_B10 {G : GG_} {p : Program} {l : Launch} {e : Env} {R : Room} {s : State} {m : MethodId} {args : Array Value} {below : List Frame} {meth : Method} {c : Code} {mc ms : Nat} (Y : MX_ G p R s m args meth c cX3_paths 8 RX3 (some ((Jvm.ClassFile.FieldType.object "WriteOnceDisc$Page"))) 8 179 mc ms "paths") {post : Nat → Hp → Prop} {rc10 : Int32 → Int32 → Hp → Prop} {x0 : Nat} {x1 : Int32} {x2 : Nat} {x3 : Int32} {x4 : Int32} {σ : Hp} (hrc10 : ∀ (x3 : Int32) (x4 : Int32) (σ : Hp), rc10 x3 x4 σ → WG_ G p l e R s m args below meth c (MQ below (QR_ G post) args s mc ms (FR_ G)) (BU_ R) 8 10 [(0, rv_ x0), (1, .int x1), (2, rv_ x2), (3, .int x3), (4, .int x4)] [] σ) (hf : wX3_paths_B10 post rc10 x0 x1 x2 x3 x4 σ) : WG_ G p l e R s m args below meth c (MQ below (QR_ G post) args s mc ms (FR_ G)) (BU_ R) 8 10 [(0, rv_ x0), (1, .int x1), (2, rv_ x2), (3, .int x3), (4, .int x4)] [] σ := by
  have ⟨X, hlk, hr, hRf, hRl, hRc, hnm⟩ := Y
  have ⟨⟨hx, hb, _, hown, hts⟩, _, _⟩ := X
  intro H locs cells slots ls hP hL hB hl
  unfold wX3_paths_B10 at hf
  refine lv_iload hx hb dX3_paths_10 (lv_at hl 4 rfl) ?_
  refine p_aload_n hx hb dX3_paths_12 rfl (lv_at hl 0 rfl) ?_
  obtain ⟨ht35, hf⟩ := hf
  refine p_gR X cf2_ (k := 4) (by decide) rfl hP ht35 q189 (fun _ h => h) dX3_paths_13 ?_
  obtain ⟨ht36, hf⟩ := hf
  refine p_calli hL (p_runV X cf10_ hP ht36 (metJ2_size l G _ _ _ X.2.2 hf) (cwV 0 hts (lw_V q810 q720 q721 q90 q722) rfl rfl rfl (by decide +kernel) ⟨Nat.le_trans (Nat.le_of_ble_eq_true rfl) hRf, Nat.le_trans (Nat.le_of_ble_eq_true rfl) hRl⟩) rfl hl.1 rfl (by rw [(ca_i ca_n)]; decide) dX3_paths_16 (BU_call hB (Nat.zero_le _) (Nat.zero_le _))) (fun r37 σ₁ H locs hf hP hL => ?_)
  obtain ⟨e₁, hf⟩ := hf
  rw [e₁] at hP
  refine lv_icmp_ge (tgt := 182) hx hb dX3_paths_19 (by decide) (fun c38 => ?_) (fun c38 => ?_)
  · have hf := hf.1 c38
    refine p_aload_n hx hb dX3_paths_182 rfl (lv_at hl 2 rfl) ?_
    exact p_aret X hlk hP hL (BU_le hB hRc).1 (BU_le hB hRc).2 hr (Or.inl ⟨_, rfl⟩) dX3_paths_183 hf
  · have hf := hf.2 c38
    refine p_aload_n hx hb dX3_paths_22 rfl (lv_at hl 0 rfl) ?_
    refine p_gR X cf2_ (k := 4) (by decide) rfl hP ht35 q189 (fun _ h => h) dX3_paths_23 ?_
    refine lv_iload hx hb dX3_paths_26 (lv_at hl 4 rfl) ?_
    refine p_callr hL (p_runV X cf10_ hP ht36 (metJ2_get l G _ _ _ _ X.2.2 hf) (cwV 1 hts (lw_V q811 q724 q725 q90 q726) rfl rfl rfl (by decide +kernel) ⟨Nat.le_trans (Nat.le_of_ble_eq_true rfl) hRf, Nat.le_trans (Nat.le_of_ble_eq_true rfl) hRl⟩) rfl hl.1 rfl (by decide) dX3_paths_28 (BU_call hB (Nat.zero_le _) (Nat.zero_le _))) (fun r39 σ₁ H locs hf hP hL => ?_)
    obtain ⟨e₁, hf⟩ := hf
    rw [e₁] at hP
    obtain ⟨hc40, hf⟩ := hf
    refine p_cast X cf5_ hP hc40 q812 dX3_paths_31 ?_
    refine p_astore (i := 5) hx hb dX3_paths_34 hl (by decide) ⟨⟨ne_ rfl, Or.inl (ne_ rfl)⟩, ⟨⟨ne_ rfl, Or.inl (ne_ rfl)⟩, ⟨⟨ne_ rfl, Or.inl (ne_ rfl)⟩, ⟨⟨ne_ rfl, Or.inl (ne_ rfl)⟩, ⟨⟨ne_ rfl, Or.inr rfl⟩, trivial⟩⟩⟩⟩⟩ (fun ls hl => ?_)
    refine lv_iload hx hb dX3_paths_36 (lv_at hl 5 rfl) ?_
    refine lv_if_ne (tgt := 48) hx hb dX3_paths_38 (by decide) (fun c41 => ?_) (fun c41 => ?_)
    · have hf := hf.1 c41
      refine p_aload hx hb dX3_paths_48 (lv_at hl 0 rfl) ?_
      obtain ⟨ht42, hf⟩ := hf
      refine p_gR X cf5_ (k := 6) (by decide) rfl hP ht42 q456 (fun _ h => h) dX3_paths_50 ?_
      exact sX3_paths_L53 Y hrc10 hf _ _ _ _ _ hP hL hB (lv_sub hl [1, 2, 3, 4, 5, 0] rfl)
    · have hf := hf.2 c41
      refine lv_iconst (v := 0) hx hb dX3_paths_41 (by decide) ?_
      obtain ⟨mc43, ms44, hf⟩ := hf
      obtain ⟨hb45, hf⟩ := hf
      obtain ⟨hb46, hf⟩ := hf
      refine p_callr hL (p_runS X (Pic_bu hP mc43 ms44) (metX3_special l G _ _ _ _ _ X.2.2 hf) (va_cwS 1 hts (lw_S q925 q926 q87 q927) rfl rfl rfl (by decide +kernel) ⟨Nat.le_trans (Nat.le_of_ble_eq_true rfl) hRf, Nat.le_trans (Nat.le_of_ble_eq_true rfl) hRl⟩) rfl hl.1 rfl (by decide) dX3_paths_42 (BU_call hB hb45 hb46)) (fun r47 σ48 H locs hf hP hL => ?_)
      have hB := BU_back (τ := σ48) hB hb45 hb46
      have hP := Pic_bu hP (bc_ σ - mc43) (bs_ σ - ms44)
      refine p_nmPB hP hB (fun σ49 hσ49 hP hB => ?_)
      have hf := hf σ49 hσ49
      refine lv_goto (tgt := 53) hx hb dX3_paths_45 (by decide) ?_
      exact sX3_paths_L53 Y hrc10 hf _ _ _ _ _ hP hL hB (lv_sub hl [1, 2, 3, 4, 5, 0] rfl)
set_option maxHeartbeats 4000000 in
theorem sX3_paths_L10 {G : GG_} {p : Program} {l : Launch} {e : Env} {R : Room} {s : State} {m : MethodId} {args : Array Value} {below : List Frame} {meth : Method} {c : Code} {mc ms : Nat} (Y : MX_ G p R s m args meth c cX3_paths 8 RX3 (some ((Jvm.ClassFile.FieldType.object "WriteOnceDisc$Page"))) 8 179 mc ms "paths") {post : Nat → Hp → Prop} {x0 : Nat} {x1 : Int32} {x2 : Nat} {x3 : Int32} {x4 : Int32} {σ : Hp} (hf : wX3_paths_L10 post x0 x1 x2 x3 x4 σ) : WG_ G p l e R s m args below meth c (MQ below (QR_ G post) args s mc ms (FR_ G)) (BU_ R) 8 10 [(0, rv_ x0), (1, .int x1), (2, rv_ x2), (3, .int x3), (4, .int x4)] [] σ := by
  unfold wX3_paths_L10 at hf
  obtain ⟨I, μ, h0, hI⟩ := hf
  have key : ∀ (n : Nat) (x3 : Int32) (x4 : Int32) (σ : Hp), I x3 x4 σ → μ x3 x4 σ < n → WG_ G p l e R s m args below meth c (MQ below (QR_ G post) args s mc ms (FR_ G)) (BU_ R) 8 10 [(0, rv_ x0), (1, .int x1), (2, rv_ x2), (3, .int x3), (4, .int x4)] [] σ := by
    intro n
    induction n with
    | zero => intro x3 x4 σ _ h; exact absurd h (Nat.not_lt_zero _)
    | succ n ih => intro x3 x4 σ hi hn; exact sX3_paths_B10 Y (fun x3' x4' σ' h => ih x3' x4' σ' h.1 (Nat.lt_of_lt_of_le h.2 (Nat.le_of_lt_succ hn))) (hI x3 x4 σ hi)
  exact key _ _ _ _ h0 (Nat.lt_succ_self _)
set_option maxHeartbeats 4000000 in
theorem sX3_paths {G : GG_} {p : Program} {l : Launch} {e : Env} {R : Room} {s : State} {m : MethodId} {args : Array Value} {below : List Frame} {meth : Method} {c : Code} {mc ms : Nat} (Y : MX_ G p R s m args meth c cX3_paths 8 RX3 (some ((Jvm.ClassFile.FieldType.object "WriteOnceDisc$Page"))) 8 179 mc ms "paths") {post : Nat → Hp → Prop} {x0 : Nat} {x1 : Int32} {σ : Hp} (hf : wX3_paths x0 x1 σ post) : WG_ G p l e R s m args below meth c (MQ below (QR_ G post) args s mc ms (FR_ G)) (BU_ R) 8 0 [(0, rv_ x0), (1, .int x1)] [] σ := by
  have ⟨X, hlk, hr, hRf, hRl, hRc, hnm⟩ := Y
  have ⟨⟨hx, hb, _, hown, hts⟩, _, _⟩ := X
  intro H locs cells slots ls hP hL hB hl
  unfold wX3_paths at hf
  refine p_aload_n hx hb dX3_paths_0 rfl (lv_at hl 0 rfl) ?_
  obtain ⟨ht50, hf⟩ := hf
  refine p_callr hL (p_runV X cf2_ hP ht50 (metX3_blank l G _ _ _ X.2.2 hf) (cwV 0 hts (lw_V q829 q831 qs8 q87 q832) rfl rfl rfl (by decide +kernel) ⟨Nat.le_trans (Nat.le_of_ble_eq_true rfl) hRf, Nat.le_trans (Nat.le_of_ble_eq_true rfl) hRl⟩) rfl hl.1 rfl (by decide) dX3_paths_1 (BU_call hB (Nat.zero_le _) (Nat.zero_le _))) (fun r51 σ52 H locs hf hP hL => ?_)
  have hB := BU_keep (τ := σ52) hB
  have hP := Pic_bu hP (bc_ σ) (bs_ σ)
  refine p_nmPB hP hB (fun σ53 hσ53 hP hB => ?_)
  have hf := hf σ53 hσ53
  refine p_astore_n (i := 2) hx hb dX3_paths_4 rfl hl (by decide) ⟨⟨ne_ rfl, Or.inl (ne_ rfl)⟩, ⟨⟨ne_ rfl, Or.inr rfl⟩, trivial⟩⟩ (fun ls hl => ?_)
  refine lv_iconst (v := 0) hx hb dX3_paths_5 (by decide) ?_
  refine p_istore_n (i := 3) hx hb dX3_paths_6 rfl hl (by decide) ⟨⟨ne_ rfl, Or.inr (rv_cat _)⟩, ⟨⟨ne_ rfl, Or.inl (ne_ rfl)⟩, ⟨⟨ne_ rfl, Or.inl (ne_ rfl)⟩, trivial⟩⟩⟩ (fun ls hl => ?_)
  refine lv_iconst (v := 0) hx hb dX3_paths_7 (by decide) ?_
  refine p_istore (i := 4) hx hb dX3_paths_8 hl (by decide) ⟨⟨ne_ rfl, Or.inr rfl⟩, ⟨⟨ne_ rfl, Or.inl (ne_ rfl)⟩, ⟨⟨ne_ rfl, Or.inl (ne_ rfl)⟩, ⟨⟨ne_ rfl, Or.inl (ne_ rfl)⟩, trivial⟩⟩⟩⟩ (fun ls hl => ?_)
  exact sX3_paths_L10 Y hf _ _ _ _ _ hP hL hB (lv_sub hl [3, 4, 2, 1, 0] rfl)
set_option maxHeartbeats 4000000 in
theorem metX3_paths (l : Launch) (G : GG_) (mc ms : Nat) (x0 : Nat) (x1 : Int32) (σ : Hp) (post : Nat → Hp → Prop) (hG : GOK_ G) (hf : wX3_paths x0 x1 (bu_ σ mc ms) post) : Met l yX3_paths (ws_ yX3_paths cX3_paths 8 (some ((Jvm.ClassFile.FieldType.object "WriteOnceDisc$Page")))) { frames := 8, cells := mc, slots := ms, locals := 179 } (PC_ G [rv_ x0, .int x1] (bu_ σ mc ms)) (QR_ G post) mc ms (FR_ G) := by
  refine Met.ofW (cc := cX3_paths) (maxL := 8) (ret := (some ((Jvm.ClassFile.FieldType.object "WriteOnceDisc$Page")))) (by decide) rfl ?_
  intro p e s m args below meth c s₁ B hml hv
  obtain ⟨rfl, hP, hW⟩ := hv
  have hts := atoms_spec (ws := ws_ yX3_paths cX3_paths 8 (some ((Jvm.ClassFile.FieldType.object "WriteOnceDisc$Page")))) B.pre
  have hts : ∀ w ∈ lw_all, w.before _ s = true := fun w h => hts w (List.mem_cons_of_mem _ h)
  rw [lg_entry_eq]
  have hl := en_entry [rv_ x0, .int x1] [1, 1] (n := 8) (ca_r (ca_i ca_n)) (by decide)
  exact sX3_paths ⟨⟨⟨B.exec, B.bytes, hml, findClass_of_methodNamed B.named, hts⟩, hW, hG⟩, B.notSynchronized, B.returns, Nat.le_refl _, Nat.le_refl _, ⟨rfl, rfl⟩, (name_of_methodNamed B.named B.method).1⟩ hf _ _ _ _ _ hP (LO_nil G) (BU_in ⟨rfl, rfl⟩) hl
abbrev cX3_directory : ByteArray := prog_2_method_11_code
def yX3_directory : MethodName := ⟨RX3, "directory", "(LWriteOnceDisc$Node;)LWriteOnceDisc$Page;"⟩
theorem dX3_directory_0 : decode cX3_directory 0 = .ok (.aload_n 0, 1) := by decide +kernel
theorem dX3_directory_1 : decode cX3_directory 1 = .ok (.invokevirtual 56, 3) := by decide +kernel
theorem dX3_directory_4 : decode cX3_directory 4 = .ok (.astore_n 2, 1) := by decide +kernel
theorem dX3_directory_5 : decode cX3_directory 5 = .ok (.aload_n 0, 1) := by decide +kernel
theorem dX3_directory_6 : decode cX3_directory 6 = .ok (.aload_n 2, 1) := by decide +kernel
theorem dX3_directory_7 : decode cX3_directory 7 = .ok (.iconst 0, 1) := by decide +kernel
theorem dX3_directory_8 : decode cX3_directory 8 = .ok (.aload_n 1, 1) := by decide +kernel
theorem dX3_directory_9 : decode cX3_directory 9 = .ok (.iconst 0, 1) := by decide +kernel
theorem dX3_directory_10 : decode cX3_directory 10 = .ok (.invokestatic 185, 3) := by decide +kernel
theorem dX3_directory_13 : decode cX3_directory 13 = .ok (.invokevirtual 189, 3) := by decide +kernel
theorem dX3_directory_16 : decode cX3_directory 16 = .ok (.aload_n 0, 1) := by decide +kernel
theorem dX3_directory_17 : decode cX3_directory 17 = .ok (.aload_n 2, 1) := by decide +kernel
theorem dX3_directory_18 : decode cX3_directory 18 = .ok (.bipush 34, 2) := by decide +kernel
theorem dX3_directory_20 : decode cX3_directory 20 = .ok (.aload_n 1, 1) := by decide +kernel
theorem dX3_directory_21 : decode cX3_directory 21 = .ok (.getfield 193, 3) := by decide +kernel
theorem dX3_directory_24 : decode cX3_directory 24 = .ok (.ifCond .ge 7, 3) := by decide +kernel
theorem dX3_directory_27 : decode cX3_directory 27 = .ok (.aload_n 1, 1) := by decide +kernel
theorem dX3_directory_28 : decode cX3_directory 28 = .ok (.goto 14, 3) := by decide +kernel
theorem dX3_directory_31 : decode cX3_directory 31 = .ok (.aload_n 0, 1) := by decide +kernel
theorem dX3_directory_32 : decode cX3_directory 32 = .ok (.getfield 123, 3) := by decide +kernel
theorem dX3_directory_35 : decode cX3_directory 35 = .ok (.aload_n 1, 1) := by decide +kernel
theorem dX3_directory_36 : decode cX3_directory 36 = .ok (.getfield 193, 3) := by decide +kernel
theorem dX3_directory_39 : decode cX3_directory 39 = .ok (.invokevirtual 127, 3) := by decide +kernel
theorem dX3_directory_42 : decode cX3_directory 42 = .ok (.iconst 1, 1) := by decide +kernel
theorem dX3_directory_43 : decode cX3_directory 43 = .ok (.invokestatic 185, 3) := by decide +kernel
theorem dX3_directory_46 : decode cX3_directory 46 = .ok (.invokevirtual 189, 3) := by decide +kernel
theorem dX3_directory_49 : decode cX3_directory 49 = .ok (.bipush 68, 2) := by decide +kernel
theorem dX3_directory_51 : decode cX3_directory 51 = .ok (.istore_n 3, 1) := by decide +kernel
theorem dX3_directory_52 : decode cX3_directory 52 = .ok (.aload_n 0, 1) := by decide +kernel
theorem dX3_directory_53 : decode cX3_directory 53 = .ok (.getfield 123, 3) := by decide +kernel
theorem dX3_directory_56 : decode cX3_directory 56 = .ok (.aload_n 1, 1) := by decide +kernel
theorem dX3_directory_57 : decode cX3_directory 57 = .ok (.getfield 146, 3) := by decide +kernel
theorem dX3_directory_60 : decode cX3_directory 60 = .ok (.invokevirtual 149, 3) := by decide +kernel
theorem dX3_directory_63 : decode cX3_directory 63 = .ok (.astore 4, 2) := by decide +kernel
theorem dX3_directory_65 : decode cX3_directory 65 = .ok (.iconst 0, 1) := by decide +kernel
theorem dX3_directory_66 : decode cX3_directory 66 = .ok (.istore 5, 2) := by decide +kernel
theorem dX3_directory_68 : decode cX3_directory 68 = .ok (.iload 5, 2) := by decide +kernel
theorem dX3_directory_70 : decode cX3_directory 70 = .ok (.aload 4, 2) := by decide +kernel
theorem dX3_directory_72 : decode cX3_directory 72 = .ok (.invokevirtual 137, 3) := by decide +kernel
theorem dX3_directory_75 : decode cX3_directory 75 = .ok (.if_icmp .ge 60, 3) := by decide +kernel
theorem dX3_directory_78 : decode cX3_directory 78 = .ok (.aload 4, 2) := by decide +kernel
theorem dX3_directory_80 : decode cX3_directory 80 = .ok (.iload 5, 2) := by decide +kernel
theorem dX3_directory_82 : decode cX3_directory 82 = .ok (.invokevirtual 139, 3) := by decide +kernel
theorem dX3_directory_85 : decode cX3_directory 85 = .ok (.checkcast 62, 3) := by decide +kernel
theorem dX3_directory_88 : decode cX3_directory 88 = .ok (.getfield 153, 3) := by decide +kernel
theorem dX3_directory_91 : decode cX3_directory 91 = .ok (.astore 6, 2) := by decide +kernel
theorem dX3_directory_93 : decode cX3_directory 93 = .ok (.iload_n 3, 1) := by decide +kernel
theorem dX3_directory_94 : decode cX3_directory 94 = .ok (.aload 6, 2) := by decide +kernel
theorem dX3_directory_96 : decode cX3_directory 96 = .ok (.invokestatic 157, 3) := by decide +kernel
theorem dX3_directory_99 : decode cX3_directory 99 = .ok (.invokestatic 161, 3) := by decide +kernel
theorem dX3_directory_102 : decode cX3_directory 102 = .ok (.istore_n 3, 1) := by decide +kernel
theorem dX3_directory_103 : decode cX3_directory 103 = .ok (.aload_n 0, 1) := by decide +kernel
theorem dX3_directory_104 : decode cX3_directory 104 = .ok (.aload_n 2, 1) := by decide +kernel
theorem dX3_directory_105 : decode cX3_directory 105 = .ok (.iload_n 3, 1) := by decide +kernel
theorem dX3_directory_106 : decode cX3_directory 106 = .ok (.aload 4, 2) := by decide +kernel
theorem dX3_directory_108 : decode cX3_directory 108 = .ok (.iload 5, 2) := by decide +kernel
theorem dX3_directory_110 : decode cX3_directory 110 = .ok (.invokevirtual 139, 3) := by decide +kernel
theorem dX3_directory_113 : decode cX3_directory 113 = .ok (.checkcast 62, 3) := by decide +kernel
theorem dX3_directory_116 : decode cX3_directory 116 = .ok (.aload 6, 2) := by decide +kernel
theorem dX3_directory_118 : decode cX3_directory 118 = .ok (.invokevirtual 189, 3) := by decide +kernel
theorem dX3_directory_121 : decode cX3_directory 121 = .ok (.iload_n 3, 1) := by decide +kernel
theorem dX3_directory_122 : decode cX3_directory 122 = .ok (.aload 6, 2) := by decide +kernel
theorem dX3_directory_124 : decode cX3_directory 124 = .ok (.invokestatic 157, 3) := by decide +kernel
theorem dX3_directory_127 : decode cX3_directory 127 = .ok (.iadd, 1) := by decide +kernel
theorem dX3_directory_128 : decode cX3_directory 128 = .ok (.istore_n 3, 1) := by decide +kernel
theorem dX3_directory_129 : decode cX3_directory 129 = .ok (.iinc 5 1, 3) := by decide +kernel
theorem dX3_directory_132 : decode cX3_directory 132 = .ok (.goto (-64), 3) := by decide +kernel
theorem dX3_directory_135 : decode cX3_directory 135 = .ok (.aload_n 2, 1) := by decide +kernel
theorem dX3_directory_136 : decode cX3_directory 136 = .ok (.areturn, 1) := by decide +kernel
/-- WriteOnceDisc$Burner.directory(LWriteOnceDisc$Node;)LWriteOnceDisc$Page; -/
def wX3_directory_B68 (post : Nat → Hp → Prop) (rc68 : Int32 → Int32 → Hp → Prop) (x0 : Nat) (x2 : Nat) (x3 : Int32) (x4 : Nat) (x5 : Int32) (σ : Hp) : Prop :=
(tg_ σ x4 = 11 ∧ (wJ2_size x4  σ (fun r2 => ((r2 ≤ x5 →
  post x2 σ) ∧
 (¬ r2 ≤ x5 →
  (wJ2_get x4 x5 σ (fun r4 => ((r4 = 0 ∨ tg_ σ r4 = 6) ∧ (tg_ σ r4 = 6 ∧ (∀ y7 : Nat, y7 = (fR_ σ 5 7 r4) → (wX3_recordSize y7 σ (fun r8 => (wX3_fit x3 r8 σ (fun r9 => (wJ2_get x4 x5 σ (fun r10 => ((r10 = 0 ∨ tg_ σ r10 = 6) ∧ (tg_ σ x0 = 3 ∧ (wX3_record x0 x2 r9 r10 y7 σ (fun σ13 => (∀ σ14, σ14 = bu_ σ13 (bc_ σ) (bs_ σ) → (wX3_recordSize y7 σ14 (fun r15 => (∀ y16 : Int32, y16 = (r9 + r15) → (∀ y17 : Int32, y17 = x5 + 1 → rc68 y16 y17 σ14)))))))))))))))))))))))))
def wX3_directory_L68 (post : Nat → Hp → Prop) (x0 : Nat) (x2 : Nat) (x3 : Int32) (x4 : Nat) (x5 : Int32) (σ : Hp) : Prop :=
 ∃ (I : Int32 → Int32 → Hp → Prop) (μ : Int32 → Int32 → Hp → Nat), I x3 x5 σ ∧ ∀ (x3 : Int32) (x5 : Int32) (σ : Hp), I x3 x5 σ → wX3_directory_B68 post (fun x3' x5' σ' => I x3' x5' σ' ∧ μ x3' x5' σ' < μ x3 x5 σ) x0 x2 x3 x4 x5 σ
def wX3_directory_L42 (post : Nat → Hp → Prop) (x0 : Nat) (x1 : Nat) (x2 : Nat) (s0 : Nat) (s1 : Int32) (s2 : Nat) (s3 : Nat) (σ : Hp) : Prop :=
(∃ mc18 ms19 : Nat, (mc18 ≤ bc_ σ ∧ (ms19 ≤ bs_ σ ∧ (wX3_special (1 : Int32) (bu_ σ mc18 ms19) (fun r22 σ23 => (∀ σ24, σ24 = bu_ σ23 (bc_ σ - mc18) (bs_ σ - ms19) → (tg_ σ24 s3 = 3 ∧ (wX3_record s3 s2 s1 s0 r22 σ24 (fun σ26 => (∀ σ27, σ27 = bu_ σ26 (bc_ σ24) (bs_ σ24) → (tg_ σ27 x0 = 3 ∧ (tg_ σ27 x1 = 6 ∧ (tg_ σ27 (fR_ σ27 2 3 x0) = 5 ∧ (∃ mc31 ms32 : Nat, (mc31 ≤ bc_ σ27 ∧ (ms32 ≤ bs_ σ27 ∧ (wX5_order (fR_ σ27 2 3 x0) (fI_ σ27 5 0 x1) (bu_ σ27 mc31 ms32) (fun r35 σ36 => (∀ σ37, σ37 = bu_ σ36 (bc_ σ27 - mc31) (bs_ σ27 - ms32) → wX3_directory_L68 post x0 x2 (68 : Int32) r35 (0 : Int32) σ37)))))))))))))))))))
def wX3_directory (x0 : Nat) (x1 : Nat) (σ : Hp) (post : Nat → Hp → Prop) : Prop :=
(tg_ σ x0 = 3 ∧ (wX3_blank x0  σ (fun r39 σ40 => (∀ σ41, σ41 = bu_ σ40 (bc_ σ) (bs_ σ) → (∃ mc42 ms43 : Nat, (mc42 ≤ bc_ σ41 ∧ (ms43 ≤ bs_ σ41 ∧ (wX3_special (0 : Int32) (bu_ σ41 mc42 ms43) (fun r46 σ47 => (∀ σ48, σ48 = bu_ σ47 (bc_ σ41 - mc42) (bs_ σ41 - ms43) → (tg_ σ48 x0 = 3 ∧ (wX3_record x0 r39 (0 : Int32) x1 r46 σ48 (fun σ50 => (∀ σ51, σ51 = bu_ σ50 (bc_ σ48) (bs_ σ48) → (tg_ σ51 x1 = 6 ∧ ((0 ≤ (fI_ σ51 5 2 x1) →
  (tg_ σ51 x0 = 3 ∧ (tg_ σ51 (fR_ σ51 2 3 x0) = 5 ∧ (wX5_find (fR_ σ51 2 3 x0) (fI_ σ51 5 2 x1) σ51 (fun r56 => wX3_directory_L42 post x0 x1 r39 r56 (34 : Int32) r39 x0 σ51))))) ∧
 (¬ 0 ≤ (fI_ σ51 5 2 x1) →
  wX3_directory_L42 post x0 x1 r39 x1 (34 : Int32) r39 x0 σ51)))))))))))))))))
set_option maxHeartbeats 4000000 in
theorem sX3_directory_B68 {G : GG_} {p : Program} {l : Launch} {e : Env} {R : Room} {s : State} {m : MethodId} {args : Array Value} {below : List Frame} {meth : Method} {c : Code} {mc ms : Nat} (Y : MX_ G p R s m args meth c cX3_directory 7 RX3 (some ((Jvm.ClassFile.FieldType.object "WriteOnceDisc$Page"))) 8 204 mc ms "directory") {post : Nat → Hp → Prop} {rc68 : Int32 → Int32 → Hp → Prop} {x0 : Nat} {x2 : Nat} {x3 : Int32} {x4 : Nat} {x5 : Int32} {σ : Hp} (hrc68 : ∀ (x3 : Int32) (x5 : Int32) (σ : Hp), rc68 x3 x5 σ → WG_ G p l e R s m args below meth c (MQ below (QR_ G post) args s mc ms (FR_ G)) (BU_ R) 7 68 [(0, rv_ x0), (2, rv_ x2), (3, .int x3), (4, rv_ x4), (5, .int x5)] [] σ) (hf : wX3_directory_B68 post rc68 x0 x2 x3 x4 x5 σ) : WG_ G p l e R s m args below meth c (MQ below (QR_ G post) args s mc ms (FR_ G)) (BU_ R) 7 68 [(0, rv_ x0), (2, rv_ x2), (3, .int x3), (4, rv_ x4), (5, .int x5)] [] σ := by
  have ⟨X, hlk, hr, hRf, hRl, hRc, hnm⟩ := Y
  have ⟨⟨hx, hb, _, hown, hts⟩, _, _⟩ := X
  intro H locs cells slots ls hP hL hB hl
  unfold wX3_directory_B68 at hf
  refine lv_iload hx hb dX3_directory_68 (lv_at hl 4 rfl) ?_
  refine p_aload hx hb dX3_directory_70 (lv_at hl 3 rfl) ?_
  obtain ⟨ht1, hf⟩ := hf
  refine p_calli hL (p_runV X cf10_ hP ht1 (metJ2_size l G _ _ _ X.2.2 hf) (cwV 0 hts (lw_V q810 q720 q721 q90 q722) rfl rfl rfl (by decide +kernel) ⟨Nat.le_trans (Nat.le_of_ble_eq_true rfl) hRf, Nat.le_trans (Nat.le_of_ble_eq_true rfl) hRl⟩) rfl hl.1 rfl (by rw [(ca_i ca_n)]; decide) dX3_directory_72 (BU_call hB (Nat.zero_le _) (Nat.zero_le _))) (fun r2 σ₁ H locs hf hP hL => ?_)
  obtain ⟨e₁, hf⟩ := hf
  rw [e₁] at hP
  refine lv_icmp_ge (tgt := 135) hx hb dX3_directory_75 (by decide) (fun c3 => ?_) (fun c3 => ?_)
  · have hf := hf.1 c3
    refine p_aload_n hx hb dX3_directory_135 rfl (lv_at hl 1 rfl) ?_
    exact p_aret X hlk hP hL (BU_le hB hRc).1 (BU_le hB hRc).2 hr (Or.inl ⟨_, rfl⟩) dX3_directory_136 hf
  · have hf := hf.2 c3
    refine p_aload hx hb dX3_directory_78 (lv_at hl 3 rfl) ?_
    refine lv_iload hx hb dX3_directory_80 (lv_at hl 4 rfl) ?_
    refine p_callr hL (p_runV X cf10_ hP ht1 (metJ2_get l G _ _ _ _ X.2.2 hf) (cwV 1 hts (lw_V q811 q724 q725 q90 q726) rfl rfl rfl (by decide +kernel) ⟨Nat.le_trans (Nat.le_of_ble_eq_true rfl) hRf, Nat.le_trans (Nat.le_of_ble_eq_true rfl) hRl⟩) rfl hl.1 rfl (by decide) dX3_directory_82 (BU_call hB (Nat.zero_le _) (Nat.zero_le _))) (fun r4 σ₁ H locs hf hP hL => ?_)
    obtain ⟨e₁, hf⟩ := hf
    rw [e₁] at hP
    obtain ⟨hc5, hf⟩ := hf
    refine p_cast X cf5_ hP hc5 q812 dX3_directory_85 ?_
    obtain ⟨ht6, hf⟩ := hf
    refine p_gR X cf5_ (k := 7) (by decide) rfl hP ht6 q460 (fun _ h => h) dX3_directory_88 ?_
    refine p_topr (fun y7 hy7 => ?_)
    have hf := hf y7 hy7
    refine p_astore (i := 6) hx hb dX3_directory_91 hl (by decide) ⟨⟨ne_ rfl, Or.inl (ne_ rfl)⟩, ⟨⟨ne_ rfl, Or.inl (ne_ rfl)⟩, ⟨⟨ne_ rfl, Or.inl (ne_ rfl)⟩, ⟨⟨ne_ rfl, Or.inl (ne_ rfl)⟩, ⟨⟨ne_ rfl, Or.inr rfl⟩, trivial⟩⟩⟩⟩⟩ (fun ls hl => ?_)
    refine lv_iload_n hx hb dX3_directory_93 rfl (lv_at hl 3 rfl) ?_
    refine p_aload hx hb dX3_directory_94 (lv_at hl 0 rfl) ?_
    refine p_calli hL (p_runS X hP (metX3_recordSize l G _ _ _ X.2.2 hf) (va_cwS 1 hts (lw_S q881 q882 q87 q883) rfl rfl rfl (by decide +kernel) ⟨Nat.le_trans (Nat.le_of_ble_eq_true rfl) hRf, Nat.le_trans (Nat.le_of_ble_eq_true rfl) hRl⟩) rfl hl.1 rfl (by rw [(ca_i ca_n)]; decide) dX3_directory_96 (BU_call hB (Nat.zero_le _) (Nat.zero_le _))) (fun r8 σ₁ H locs hf hP hL => ?_)
    obtain ⟨e₁, hf⟩ := hf
    rw [e₁] at hP
    refine p_calli hL (p_runS X hP (metX3_fit l G _ _ _ _ X.2.2 hf) (va_cwS 2 hts (lw_S q885 q886 q87 q887) rfl rfl rfl (by decide +kernel) ⟨Nat.le_trans (Nat.le_of_ble_eq_true rfl) hRf, Nat.le_trans (Nat.le_of_ble_eq_true rfl) hRl⟩) rfl hl.1 rfl (by decide) dX3_directory_99 (BU_call hB (Nat.zero_le _) (Nat.zero_le _))) (fun r9 σ₁ H locs hf hP hL => ?_)
    obtain ⟨e₁, hf⟩ := hf
    rw [e₁] at hP
    have hl := lv_sub hl [0, 1, 2, 4, 5] rfl
    refine p_istore_n (i := 3) hx hb dX3_directory_102 rfl hl (by decide) ⟨⟨ne_ rfl, Or.inl (ne_ rfl)⟩, ⟨⟨ne_ rfl, Or.inl (ne_ rfl)⟩, ⟨⟨ne_ rfl, Or.inr (rv_cat _)⟩, ⟨⟨ne_ rfl, Or.inl (ne_ rfl)⟩, ⟨⟨ne_ rfl, Or.inl (ne_ rfl)⟩, trivial⟩⟩⟩⟩⟩ (fun ls hl => ?_)
    refine p_aload_n hx hb dX3_directory_103 rfl (lv_at hl 2 rfl) ?_
    refine p_aload_n hx hb dX3_directory_104 rfl (lv_at hl 3 rfl) ?_
    refine lv_iload_n hx hb dX3_directory_105 rfl (lv_at hl 0 rfl) ?_
    refine p_aload hx hb dX3_directory_106 (lv_at hl 4 rfl) ?_
    refine lv_iload hx hb dX3_directory_108 (lv_at hl 5 rfl) ?_
    refine p_callr hL (p_runV X cf10_ hP ht1 (metJ2_get l G _ _ _ _ X.2.2 hf) (cwV 1 hts (lw_V q811 q724 q725 q90 q726) rfl rfl rfl (by decide +kernel) ⟨Nat.le_trans (Nat.le_of_ble_eq_true rfl) hRf, Nat.le_trans (Nat.le_of_ble_eq_true rfl) hRl⟩) rfl hl.1 rfl (by rw [(ca_i (ca_r (ca_r ca_n)))]; decide) dX3_directory_110 (BU_call hB (Nat.zero_le _) (Nat.zero_le _))) (fun r10 σ₁ H locs hf hP hL => ?_)
    obtain ⟨e₁, hf⟩ := hf
    rw [e₁] at hP
    obtain ⟨hc11, hf⟩ := hf
    refine p_cast X cf5_ hP hc11 q812 dX3_directory_113 ?_
    refine p_aload hx hb dX3_directory_116 (lv_at hl 1 rfl) ?_
    obtain ⟨ht12, hf⟩ := hf
    refine p_callv hL (p_runV X cf2_ hP ht12 (metX3_record l G _ _ _ _ _ _ _ X.2.2 hf) (cwV 4 hts (lw_V q934 q936 qs15 q87 q937) rfl rfl rfl (by decide +kernel) ⟨Nat.le_trans (Nat.le_of_ble_eq_true rfl) hRf, Nat.le_trans (Nat.le_of_ble_eq_true rfl) hRl⟩) rfl hl.1 rfl (by decide) dX3_directory_118 (BU_call hB (Nat.zero_le _) (Nat.zero_le _))) (fun σ13 H locs hf hP hL => ?_)
    have hB := BU_keep (τ := σ13) hB
    have hP := Pic_bu hP (bc_ σ) (bs_ σ)
    refine p_nmPB hP hB (fun σ14 hσ14 hP hB => ?_)
    have hf := hf σ14 hσ14
    refine lv_iload_n hx hb dX3_directory_121 rfl (lv_at hl 0 rfl) ?_
    refine p_aload hx hb dX3_directory_122 (lv_at hl 1 rfl) ?_
    refine p_calli hL (p_runS X hP (metX3_recordSize l G _ _ _ X.2.2 hf) (va_cwS 1 hts (lw_S q881 q882 q87 q883) rfl rfl rfl (by decide +kernel) ⟨Nat.le_trans (Nat.le_of_ble_eq_true rfl) hRf, Nat.le_trans (Nat.le_of_ble_eq_true rfl) hRl⟩) rfl hl.1 rfl (by rw [(ca_i ca_n)]; decide) dX3_directory_124 (BU_call hB (Nat.zero_le _) (Nat.zero_le _))) (fun r15 σ₁ H locs hf hP hL => ?_)
    obtain ⟨e₁, hf⟩ := hf
    rw [e₁] at hP
    refine lv_iadd hx hb dX3_directory_127 ?_
    have hl := lv_sub hl [2, 3, 4, 5] rfl
    refine lv_topi (fun y16 hy16 => ?_)
    have hf := hf y16 hy16
    refine p_istore_n (i := 3) hx hb dX3_directory_128 rfl hl (by decide) ⟨⟨ne_ rfl, Or.inl (ne_ rfl)⟩, ⟨⟨ne_ rfl, Or.inr (rv_cat _)⟩, ⟨⟨ne_ rfl, Or.inl (ne_ rfl)⟩, ⟨⟨ne_ rfl, Or.inl (ne_ rfl)⟩, trivial⟩⟩⟩⟩ (fun ls hl => ?_)
    have hl := lv_sub hl [4, 0, 1, 2, 3] rfl
    refine p_iincc (i := 5) (k := 1) hx hb (by decide) dX3_directory_129 hl (by decide) ⟨⟨ne_ rfl, Or.inl (ne_ rfl)⟩, ⟨⟨ne_ rfl, Or.inl (ne_ rfl)⟩, ⟨⟨ne_ rfl, Or.inl (ne_ rfl)⟩, ⟨⟨ne_ rfl, Or.inr (rv_cat _)⟩, trivial⟩⟩⟩⟩ (fun y17 hy17 ls hl => ?_)
    have hf := hf y17 hy17
    refine lv_goto (tgt := 68) hx hb dX3_directory_132 (by decide) ?_
    exact hrc68 _ _ _ hf _ _ _ _ _ hP hL hB (lv_sub hl [2, 3, 1, 4, 0] rfl)
set_option maxHeartbeats 4000000 in
theorem sX3_directory_L68 {G : GG_} {p : Program} {l : Launch} {e : Env} {R : Room} {s : State} {m : MethodId} {args : Array Value} {below : List Frame} {meth : Method} {c : Code} {mc ms : Nat} (Y : MX_ G p R s m args meth c cX3_directory 7 RX3 (some ((Jvm.ClassFile.FieldType.object "WriteOnceDisc$Page"))) 8 204 mc ms "directory") {post : Nat → Hp → Prop} {x0 : Nat} {x2 : Nat} {x3 : Int32} {x4 : Nat} {x5 : Int32} {σ : Hp} (hf : wX3_directory_L68 post x0 x2 x3 x4 x5 σ) : WG_ G p l e R s m args below meth c (MQ below (QR_ G post) args s mc ms (FR_ G)) (BU_ R) 7 68 [(0, rv_ x0), (2, rv_ x2), (3, .int x3), (4, rv_ x4), (5, .int x5)] [] σ := by
  unfold wX3_directory_L68 at hf
  obtain ⟨I, μ, h0, hI⟩ := hf
  have key : ∀ (n : Nat) (x3 : Int32) (x5 : Int32) (σ : Hp), I x3 x5 σ → μ x3 x5 σ < n → WG_ G p l e R s m args below meth c (MQ below (QR_ G post) args s mc ms (FR_ G)) (BU_ R) 7 68 [(0, rv_ x0), (2, rv_ x2), (3, .int x3), (4, rv_ x4), (5, .int x5)] [] σ := by
    intro n
    induction n with
    | zero => intro x3 x5 σ _ h; exact absurd h (Nat.not_lt_zero _)
    | succ n ih => intro x3 x5 σ hi hn; exact sX3_directory_B68 Y (fun x3' x5' σ' h => ih x3' x5' σ' h.1 (Nat.lt_of_lt_of_le h.2 (Nat.le_of_lt_succ hn))) (hI x3 x5 σ hi)
  exact key _ _ _ _ h0 (Nat.lt_succ_self _)
set_option maxHeartbeats 4000000 in
theorem sX3_directory_L42 {G : GG_} {p : Program} {l : Launch} {e : Env} {R : Room} {s : State} {m : MethodId} {args : Array Value} {below : List Frame} {meth : Method} {c : Code} {mc ms : Nat} (Y : MX_ G p R s m args meth c cX3_directory 7 RX3 (some ((Jvm.ClassFile.FieldType.object "WriteOnceDisc$Page"))) 8 204 mc ms "directory") {post : Nat → Hp → Prop} {x0 : Nat} {x1 : Nat} {x2 : Nat} {s0 : Nat} {s1 : Int32} {s2 : Nat} {s3 : Nat} {σ : Hp} (hf : wX3_directory_L42 post x0 x1 x2 s0 s1 s2 s3 σ) : WG_ G p l e R s m args below meth c (MQ below (QR_ G post) args s mc ms (FR_ G)) (BU_ R) 7 42 [(0, rv_ x0), (1, rv_ x1), (2, rv_ x2)] [rv_ s0, .int s1, rv_ s2, rv_ s3] σ := by
  have ⟨X, hlk, hr, hRf, hRl, hRc, hnm⟩ := Y
  have ⟨⟨hx, hb, _, hown, hts⟩, _, _⟩ := X
  intro H locs cells slots ls hP hL hB hl
  unfold wX3_directory_L42 at hf
  refine lv_iconst (v := 1) hx hb dX3_directory_42 (by decide) ?_
  obtain ⟨mc18, ms19, hf⟩ := hf
  obtain ⟨hb20, hf⟩ := hf
  obtain ⟨hb21, hf⟩ := hf
  refine p_callr hL (p_runS X (Pic_bu hP mc18 ms19) (metX3_special l G _ _ _ _ _ X.2.2 hf) (va_cwS 1 hts (lw_S q925 q926 q87 q927) rfl rfl rfl (by decide +kernel) ⟨Nat.le_trans (Nat.le_of_ble_eq_true rfl) hRf, Nat.le_trans (Nat.le_of_ble_eq_true rfl) hRl⟩) rfl hl.1 rfl (by rw [(ca_r (ca_i (ca_r (ca_r ca_n))))]; decide) dX3_directory_43 (BU_call hB hb20 hb21)) (fun r22 σ23 H locs hf hP hL => ?_)
  have hB := BU_back (τ := σ23) hB hb20 hb21
  have hP := Pic_bu hP (bc_ σ - mc18) (bs_ σ - ms19)
  refine p_nmPB hP hB (fun σ24 hσ24 hP hB => ?_)
  have hf := hf σ24 hσ24
  obtain ⟨ht25, hf⟩ := hf
  refine p_callv hL (p_runV X cf2_ hP ht25 (metX3_record l G _ _ _ _ _ _ _ X.2.2 hf) (cwV 4 hts (lw_V q934 q936 qs15 q87 q937) rfl rfl rfl (by decide +kernel) ⟨Nat.le_trans (Nat.le_of_ble_eq_true rfl) hRf, Nat.le_trans (Nat.le_of_ble_eq_true rfl) hRl⟩) rfl hl.1 rfl (by decide) dX3_directory_46 (BU_call hB (Nat.zero_le _) (Nat.zero_le _))) (fun σ26 H locs hf hP hL => ?_)
  have hB := BU_keep (τ := σ26) hB
  have hP := Pic_bu hP (bc_ σ24) (bs_ σ24)
  refine p_nmPB hP hB (fun σ27 hσ27 hP hB => ?_)
  have hf := hf σ27 hσ27
  refine lv_bipush (v := 68) hx hb dX3_directory_49 (by decide) ?_
  refine p_istore_n (i := 3) hx hb dX3_directory_51 rfl hl (by decide) ⟨⟨ne_ rfl, Or.inl (ne_ rfl)⟩, ⟨⟨ne_ rfl, Or.inl (ne_ rfl)⟩, ⟨⟨ne_ rfl, Or.inr (rv_cat _)⟩, trivial⟩⟩⟩ (fun ls hl => ?_)
  refine p_aload_n hx hb dX3_directory_52 rfl (lv_at hl 1 rfl) ?_
  obtain ⟨ht28, hf⟩ := hf
  refine p_gR X cf2_ (k := 3) (by decide) rfl hP ht28 q188 (fun _ h => h) dX3_directory_53 ?_
  refine p_aload_n hx hb dX3_directory_56 rfl (lv_at hl 2 rfl) ?_
  obtain ⟨ht29, hf⟩ := hf
  refine p_gI X cf5_ (k := 0) (by decide) rfl hP ht29 q437 (fun _ h => h) dX3_directory_57 ?_
  obtain ⟨ht30, hf⟩ := hf
  obtain ⟨mc31, ms32, hf⟩ := hf
  obtain ⟨hb33, hf⟩ := hf
  obtain ⟨hb34, hf⟩ := hf
  refine p_callr hL (p_runV X cf4_ (Pic_bu hP mc31 ms32) ht30 (metX5_order l G _ _ _ _ _ _ X.2.2 hf) (cwV 1 hts (lw_V q855 q856 q857 q92 q858) rfl rfl rfl (by decide +kernel) ⟨Nat.le_trans (Nat.le_of_ble_eq_true rfl) hRf, Nat.le_trans (Nat.le_of_ble_eq_true rfl) hRl⟩) rfl hl.1 rfl (by decide) dX3_directory_60 (BU_call hB hb33 hb34)) (fun r35 σ36 H locs hf hP hL => ?_)
  have hB := BU_back (τ := σ36) hB hb33 hb34
  have hP := Pic_bu hP (bc_ σ27 - mc31) (bs_ σ27 - ms32)
  refine p_nmPB hP hB (fun σ37 hσ37 hP hB => ?_)
  have hf := hf σ37 hσ37
  have hl := lv_sub hl [0, 1, 3] rfl
  refine p_astore (i := 4) hx hb dX3_directory_63 hl (by decide) ⟨⟨ne_ rfl, Or.inr rfl⟩, ⟨⟨ne_ rfl, Or.inl (ne_ rfl)⟩, ⟨⟨ne_ rfl, Or.inl (ne_ rfl)⟩, trivial⟩⟩⟩ (fun ls hl => ?_)
  refine lv_iconst (v := 0) hx hb dX3_directory_65 (by decide) ?_
  refine p_istore (i := 5) hx hb dX3_directory_66 hl (by decide) ⟨⟨ne_ rfl, Or.inr (rv_cat _)⟩, ⟨⟨ne_ rfl, Or.inl (ne_ rfl)⟩, ⟨⟨ne_ rfl, Or.inl (ne_ rfl)⟩, ⟨⟨ne_ rfl, Or.inl (ne_ rfl)⟩, trivial⟩⟩⟩⟩ (fun ls hl => ?_)
  exact sX3_directory_L68 Y hf _ _ _ _ _ hP hL hB (lv_sub hl [3, 4, 2, 1, 0] rfl)
set_option maxHeartbeats 4000000 in
theorem sX3_directory {G : GG_} {p : Program} {l : Launch} {e : Env} {R : Room} {s : State} {m : MethodId} {args : Array Value} {below : List Frame} {meth : Method} {c : Code} {mc ms : Nat} (Y : MX_ G p R s m args meth c cX3_directory 7 RX3 (some ((Jvm.ClassFile.FieldType.object "WriteOnceDisc$Page"))) 8 204 mc ms "directory") {post : Nat → Hp → Prop} {x0 : Nat} {x1 : Nat} {σ : Hp} (hf : wX3_directory x0 x1 σ post) : WG_ G p l e R s m args below meth c (MQ below (QR_ G post) args s mc ms (FR_ G)) (BU_ R) 7 0 [(0, rv_ x0), (1, rv_ x1)] [] σ := by
  have ⟨X, hlk, hr, hRf, hRl, hRc, hnm⟩ := Y
  have ⟨⟨hx, hb, _, hown, hts⟩, _, _⟩ := X
  intro H locs cells slots ls hP hL hB hl
  unfold wX3_directory at hf
  refine p_aload_n hx hb dX3_directory_0 rfl (lv_at hl 0 rfl) ?_
  obtain ⟨ht38, hf⟩ := hf
  refine p_callr hL (p_runV X cf2_ hP ht38 (metX3_blank l G _ _ _ X.2.2 hf) (cwV 0 hts (lw_V q829 q831 qs8 q87 q832) rfl rfl rfl (by decide +kernel) ⟨Nat.le_trans (Nat.le_of_ble_eq_true rfl) hRf, Nat.le_trans (Nat.le_of_ble_eq_true rfl) hRl⟩) rfl hl.1 rfl (by decide) dX3_directory_1 (BU_call hB (Nat.zero_le _) (Nat.zero_le _))) (fun r39 σ40 H locs hf hP hL => ?_)
  have hB := BU_keep (τ := σ40) hB
  have hP := Pic_bu hP (bc_ σ) (bs_ σ)
  refine p_nmPB hP hB (fun σ41 hσ41 hP hB => ?_)
  have hf := hf σ41 hσ41
  refine p_astore_n (i := 2) hx hb dX3_directory_4 rfl hl (by decide) ⟨⟨ne_ rfl, Or.inl (ne_ rfl)⟩, ⟨⟨ne_ rfl, Or.inr (rv_cat _)⟩, trivial⟩⟩ (fun ls hl => ?_)
  refine p_aload_n hx hb dX3_directory_5 rfl (lv_at hl 1 rfl) ?_
  refine p_aload_n hx hb dX3_directory_6 rfl (lv_at hl 0 rfl) ?_
  refine lv_iconst (v := 0) hx hb dX3_directory_7 (by decide) ?_
  refine p_aload_n hx hb dX3_directory_8 rfl (lv_at hl 2 rfl) ?_
  refine lv_iconst (v := 0) hx hb dX3_directory_9 (by decide) ?_
  obtain ⟨mc42, ms43, hf⟩ := hf
  obtain ⟨hb44, hf⟩ := hf
  obtain ⟨hb45, hf⟩ := hf
  refine p_callr hL (p_runS X (Pic_bu hP mc42 ms43) (metX3_special l G _ _ _ _ _ X.2.2 hf) (va_cwS 1 hts (lw_S q925 q926 q87 q927) rfl rfl rfl (by decide +kernel) ⟨Nat.le_trans (Nat.le_of_ble_eq_true rfl) hRf, Nat.le_trans (Nat.le_of_ble_eq_true rfl) hRl⟩) rfl hl.1 rfl (by rw [(ca_r (ca_i (ca_r (ca_r ca_n))))]; decide) dX3_directory_10 (BU_call hB hb44 hb45)) (fun r46 σ47 H locs hf hP hL => ?_)
  have hB := BU_back (τ := σ47) hB hb44 hb45
  have hP := Pic_bu hP (bc_ σ41 - mc42) (bs_ σ41 - ms43)
  refine p_nmPB hP hB (fun σ48 hσ48 hP hB => ?_)
  have hf := hf σ48 hσ48
  obtain ⟨ht49, hf⟩ := hf
  refine p_callv hL (p_runV X cf2_ hP ht49 (metX3_record l G _ _ _ _ _ _ _ X.2.2 hf) (cwV 4 hts (lw_V q934 q936 qs15 q87 q937) rfl rfl rfl (by decide +kernel) ⟨Nat.le_trans (Nat.le_of_ble_eq_true rfl) hRf, Nat.le_trans (Nat.le_of_ble_eq_true rfl) hRl⟩) rfl hl.1 rfl (by decide) dX3_directory_13 (BU_call hB (Nat.zero_le _) (Nat.zero_le _))) (fun σ50 H locs hf hP hL => ?_)
  have hB := BU_keep (τ := σ50) hB
  have hP := Pic_bu hP (bc_ σ48) (bs_ σ48)
  refine p_nmPB hP hB (fun σ51 hσ51 hP hB => ?_)
  have hf := hf σ51 hσ51
  refine p_aload_n hx hb dX3_directory_16 rfl (lv_at hl 1 rfl) ?_
  refine p_aload_n hx hb dX3_directory_17 rfl (lv_at hl 0 rfl) ?_
  refine lv_bipush (v := 34) hx hb dX3_directory_18 (by decide) ?_
  refine p_aload_n hx hb dX3_directory_20 rfl (lv_at hl 2 rfl) ?_
  obtain ⟨ht52, hf⟩ := hf
  refine p_gI X cf5_ (k := 2) (by decide) rfl hP ht52 q445 (fun _ h => h) dX3_directory_21 ?_
  refine lv_if_ge (tgt := 31) hx hb dX3_directory_24 (by decide) (fun c53 => ?_) (fun c53 => ?_)
  · have hf := hf.1 c53
    refine p_aload_n hx hb dX3_directory_31 rfl (lv_at hl 1 rfl) ?_
    obtain ⟨ht54, hf⟩ := hf
    refine p_gR X cf2_ (k := 3) (by decide) rfl hP ht54 q188 (fun _ h => h) dX3_directory_32 ?_
    refine p_aload_n hx hb dX3_directory_35 rfl (lv_at hl 2 rfl) ?_
    refine p_gI X cf5_ (k := 2) (by decide) rfl hP ht52 q445 (fun _ h => h) dX3_directory_36 ?_
    obtain ⟨ht55, hf⟩ := hf
    refine p_callr hL (p_runV X cf4_ hP ht55 (metX5_find l G _ _ _ _ X.2.2 hf) (cwV 1 hts (lw_V q853 q716 q717 q92 q718) rfl rfl rfl (by decide +kernel) ⟨Nat.le_trans (Nat.le_of_ble_eq_true rfl) hRf, Nat.le_trans (Nat.le_of_ble_eq_true rfl) hRl⟩) rfl hl.1 rfl (by rw [(ca_i (ca_r (ca_r ca_n)))]; decide) dX3_directory_39 (BU_call hB (Nat.zero_le _) (Nat.zero_le _))) (fun r56 σ₁ H locs hf hP hL => ?_)
    obtain ⟨e₁, hf⟩ := hf
    rw [e₁] at hP
    exact sX3_directory_L42 Y hf _ _ _ _ _ hP hL hB (lv_sub hl [1, 2, 0] rfl)
  · have hf := hf.2 c53
    refine p_aload_n hx hb dX3_directory_27 rfl (lv_at hl 2 rfl) ?_
    refine lv_goto (tgt := 42) hx hb dX3_directory_28 (by decide) ?_
    exact sX3_directory_L42 Y hf _ _ _ _ _ hP hL hB (lv_sub hl [1, 2, 0] rfl)
set_option maxHeartbeats 4000000 in
theorem metX3_directory (l : Launch) (G : GG_) (mc ms : Nat) (x0 : Nat) (x1 : Nat) (σ : Hp) (post : Nat → Hp → Prop) (hG : GOK_ G) (hf : wX3_directory x0 x1 (bu_ σ mc ms) post) : Met l yX3_directory (ws_ yX3_directory cX3_directory 7 (some ((Jvm.ClassFile.FieldType.object "WriteOnceDisc$Page")))) { frames := 8, cells := mc, slots := ms, locals := 204 } (PC_ G [rv_ x0, rv_ x1] (bu_ σ mc ms)) (QR_ G post) mc ms (FR_ G) := by
  refine Met.ofW (cc := cX3_directory) (maxL := 7) (ret := (some ((Jvm.ClassFile.FieldType.object "WriteOnceDisc$Page")))) (by decide) rfl ?_
  intro p e s m args below meth c s₁ B hml hv
  obtain ⟨rfl, hP, hW⟩ := hv
  have hts := atoms_spec (ws := ws_ yX3_directory cX3_directory 7 (some ((Jvm.ClassFile.FieldType.object "WriteOnceDisc$Page")))) B.pre
  have hts : ∀ w ∈ lw_all, w.before _ s = true := fun w h => hts w (List.mem_cons_of_mem _ h)
  rw [lg_entry_eq]
  have hl := en_entry [rv_ x0, rv_ x1] [1, 1] (n := 7) (ca_r (ca_r ca_n)) (by decide)
  exact sX3_directory ⟨⟨⟨B.exec, B.bytes, hml, findClass_of_methodNamed B.named, hts⟩, hW, hG⟩, B.notSynchronized, B.returns, Nat.le_refl _, Nat.le_refl _, ⟨rfl, rfl⟩, (name_of_methodNamed B.named B.method).1⟩ hf _ _ _ _ _ hP (LO_nil G) (BU_in ⟨rfl, rfl⟩) hl
abbrev cX3_mark : ByteArray := prog_2_method_16_code
def yX3_mark : MethodName := ⟨RX3, "mark", "(II)LWriteOnceDisc$Page;"⟩
theorem dX3_mark_0 : decode cX3_mark 0 = .ok (.aload_n 0, 1) := by decide +kernel
theorem dX3_mark_1 : decode cX3_mark 1 = .ok (.invokevirtual 56, 3) := by decide +kernel
theorem dX3_mark_4 : decode cX3_mark 4 = .ok (.astore_n 3, 1) := by decide +kernel
theorem dX3_mark_5 : decode cX3_mark 5 = .ok (.aload_n 3, 1) := by decide +kernel
theorem dX3_mark_6 : decode cX3_mark 6 = .ok (.iconst 0, 1) := by decide +kernel
theorem dX3_mark_7 : decode cX3_mark 7 = .ok (.ldc 211, 2) := by decide +kernel
theorem dX3_mark_9 : decode cX3_mark 9 = .ok (.invokevirtual 181, 3) := by decide +kernel
theorem dX3_mark_12 : decode cX3_mark 12 = .ok (.aload_n 3, 1) := by decide +kernel
theorem dX3_mark_13 : decode cX3_mark 13 = .ok (.iconst 4, 1) := by decide +kernel
theorem dX3_mark_14 : decode cX3_mark 14 = .ok (.iconst 4, 1) := by decide +kernel
theorem dX3_mark_15 : decode cX3_mark 15 = .ok (.iload_n 1, 1) := by decide +kernel
theorem dX3_mark_16 : decode cX3_mark 16 = .ok (.invokevirtual 174, 3) := by decide +kernel
theorem dX3_mark_19 : decode cX3_mark 19 = .ok (.aload_n 3, 1) := by decide +kernel
theorem dX3_mark_20 : decode cX3_mark 20 = .ok (.bipush 8, 2) := by decide +kernel
theorem dX3_mark_22 : decode cX3_mark 22 = .ok (.iconst 4, 1) := by decide +kernel
theorem dX3_mark_23 : decode cX3_mark 23 = .ok (.iload_n 2, 1) := by decide +kernel
theorem dX3_mark_24 : decode cX3_mark 24 = .ok (.invokevirtual 174, 3) := by decide +kernel
theorem dX3_mark_27 : decode cX3_mark 27 = .ok (.aload_n 3, 1) := by decide +kernel
theorem dX3_mark_28 : decode cX3_mark 28 = .ok (.areturn, 1) := by decide +kernel
/-- WriteOnceDisc$Burner.mark(II)LWriteOnceDisc$Page; -/
def wX3_mark (x0 : Nat) (x1 : Int32) (x2 : Int32) (σ : Hp) (post : Nat → Hp → Prop) : Prop :=
(tg_ σ x0 = 3 ∧ (wX3_blank x0  σ (fun r2 σ3 => (tg_ σ3 r2 = 4 ∧ (wX4_say r2 (0 : Int32) (fR_ σ3 101 4 0) σ3 (fun σ5 => (tg_ σ5 r2 = 4 ∧ (wX4_low r2 (4 : Int32) (4 : Int32) x1 σ5 (fun σ7 => (tg_ σ7 r2 = 4 ∧ (wX4_low r2 (8 : Int32) (4 : Int32) x2 σ7 (fun σ9 => post r2 σ9))))))))))))
set_option maxHeartbeats 4000000 in
theorem sX3_mark {G : GG_} {p : Program} {l : Launch} {e : Env} {R : Room} {s : State} {m : MethodId} {args : Array Value} {below : List Frame} {meth : Method} {c : Code} (Y : MX_ G p R s m args meth c cX3_mark 4 RX3 (some ((Jvm.ClassFile.FieldType.object "WriteOnceDisc$Page"))) 6 128 0 0 "mark") {post : Nat → Hp → Prop} {x0 : Nat} {x1 : Int32} {x2 : Int32} {σ : Hp} (hf : wX3_mark x0 x1 x2 σ post) : WG_ G p l e R s m args below meth c (MQ below (QR_ G post) args s 0 0 (FR_ G)) BN_ 4 0 [(0, rv_ x0), (1, .int x1), (2, .int x2)] [] σ := by
  have ⟨X, hlk, hr, hRf, hRl, hRc, hnm⟩ := Y
  have ⟨⟨hx, hb, _, hown, hts⟩, _, _⟩ := X
  intro H locs cells slots ls hP hL hB hl
  obtain ⟨rfl, rfl⟩ := hB
  unfold wX3_mark at hf
  refine p_aload_n hx hb dX3_mark_0 rfl (lv_at hl 0 rfl) ?_
  obtain ⟨ht1, hf⟩ := hf
  refine p_callr hL (p_runV X cf2_ hP ht1 (metX3_blank l G _ _ _ X.2.2 hf) (cwV 0 hts (lw_V q829 q831 qs8 q87 q832) rfl rfl rfl (by decide +kernel) ⟨Nat.le_trans (Nat.le_of_ble_eq_true rfl) hRf, Nat.le_trans (Nat.le_of_ble_eq_true rfl) hRl⟩) rfl hl.1 rfl (by decide) dX3_mark_1 ⟨Nat.zero_le _, Nat.zero_le _⟩) (fun r2 σ3 H locs hf hP hL => ?_)
  have hl := lv_sub hl [1, 2] rfl
  refine p_astore_n (i := 3) hx hb dX3_mark_4 rfl hl (by decide) ⟨⟨ne_ rfl, Or.inl (ne_ rfl)⟩, ⟨⟨ne_ rfl, Or.inr rfl⟩, trivial⟩⟩ (fun ls hl => ?_)
  refine p_aload_n hx hb dX3_mark_5 rfl (lv_at hl 0 rfl) ?_
  refine lv_iconst (v := 0) hx hb dX3_mark_6 (by decide) ?_
  refine p_ldcS X hP (j := 4) rfl dX3_mark_7 ?_
  obtain ⟨ht4, hf⟩ := hf
  refine p_callv hL (p_runV X cf3_ hP ht4 (metX4_say l G _ _ _ _ _ X.2.2 hf) (cwV 2 hts (lw_V q905 q906 q907 q91 q908) rfl rfl rfl (by decide +kernel) ⟨Nat.le_trans (Nat.le_of_ble_eq_true rfl) hRf, Nat.le_trans (Nat.le_of_ble_eq_true rfl) hRl⟩) rfl hl.1 rfl (by decide) dX3_mark_9 ⟨Nat.zero_le _, Nat.zero_le _⟩) (fun σ5 H locs hf hP hL => ?_)
  refine p_aload_n hx hb dX3_mark_12 rfl (lv_at hl 0 rfl) ?_
  refine lv_iconst (v := 4) hx hb dX3_mark_13 (by decide) ?_
  refine lv_iconst (v := 4) hx hb dX3_mark_14 (by decide) ?_
  refine lv_iload_n hx hb dX3_mark_15 rfl (lv_at hl 1 rfl) ?_
  obtain ⟨ht6, hf⟩ := hf
  refine p_callv hL (p_runV X cf3_ hP ht6 (metX4_low l G _ _ _ _ _ _ X.2.2 hf) (cwV 3 hts (lw_V q900 q901 q902 q91 q903) rfl rfl rfl (by decide +kernel) ⟨Nat.le_trans (Nat.le_of_ble_eq_true rfl) hRf, Nat.le_trans (Nat.le_of_ble_eq_true rfl) hRl⟩) rfl hl.1 rfl (by decide) dX3_mark_16 ⟨Nat.zero_le _, Nat.zero_le _⟩) (fun σ7 H locs hf hP hL => ?_)
  refine p_aload_n hx hb dX3_mark_19 rfl (lv_at hl 0 rfl) ?_
  refine lv_bipush (v := 8) hx hb dX3_mark_20 (by decide) ?_
  refine lv_iconst (v := 4) hx hb dX3_mark_22 (by decide) ?_
  refine lv_iload_n hx hb dX3_mark_23 rfl (lv_at hl 2 rfl) ?_
  obtain ⟨ht8, hf⟩ := hf
  refine p_callv hL (p_runV X cf3_ hP ht8 (metX4_low l G _ _ _ _ _ _ X.2.2 hf) (cwV 3 hts (lw_V q900 q901 q902 q91 q903) rfl rfl rfl (by decide +kernel) ⟨Nat.le_trans (Nat.le_of_ble_eq_true rfl) hRf, Nat.le_trans (Nat.le_of_ble_eq_true rfl) hRl⟩) rfl hl.1 rfl (by decide) dX3_mark_24 ⟨Nat.zero_le _, Nat.zero_le _⟩) (fun σ9 H locs hf hP hL => ?_)
  refine p_aload_n hx hb dX3_mark_27 rfl (lv_at hl 0 rfl) ?_
  exact p_aret X hlk hP hL (Nat.le_refl _) (Nat.le_refl _) hr (Or.inl ⟨_, rfl⟩) dX3_mark_28 hf
set_option maxHeartbeats 4000000 in
theorem metX3_mark (l : Launch) (G : GG_) (x0 : Nat) (x1 : Int32) (x2 : Int32) (σ : Hp) (post : Nat → Hp → Prop) (hG : GOK_ G) (hf : wX3_mark x0 x1 x2 σ post) : Met l yX3_mark (ws_ yX3_mark cX3_mark 4 (some ((Jvm.ClassFile.FieldType.object "WriteOnceDisc$Page")))) { frames := 6, cells := 0, slots := 0, locals := 128 } (PC_ G [rv_ x0, .int x1, .int x2] σ) (QR_ G post) 0 0 (FR_ G) := by
  refine Met.ofW (cc := cX3_mark) (maxL := 4) (ret := (some ((Jvm.ClassFile.FieldType.object "WriteOnceDisc$Page")))) (by decide) rfl ?_
  intro p e s m args below meth c s₁ B hml hv
  obtain ⟨rfl, hP, hW⟩ := hv
  have hts := atoms_spec (ws := ws_ yX3_mark cX3_mark 4 (some ((Jvm.ClassFile.FieldType.object "WriteOnceDisc$Page")))) B.pre
  have hts : ∀ w ∈ lw_all, w.before _ s = true := fun w h => hts w (List.mem_cons_of_mem _ h)
  rw [lg_entry_eq]
  have hl := en_entry [rv_ x0, .int x1, .int x2] [1, 1, 1] (n := 4) (ca_r (ca_i (ca_i ca_n))) (by decide)
  exact sX3_mark ⟨⟨⟨B.exec, B.bytes, hml, findClass_of_methodNamed B.named, hts⟩, hW, hG⟩, B.notSynchronized, B.returns, Nat.le_refl _, Nat.le_refl _, ⟨rfl, rfl⟩, (name_of_methodNamed B.named B.method).1⟩ hf _ _ _ _ _ hP (LO_nil G) ⟨rfl, rfl⟩ hl
