set_option maxRecDepth 100000
abbrev cX9_get : ByteArray := prog_11_method_5_code
def yX9_get : MethodName := ⟨RX9, "get", "(I)I"⟩
theorem dX9_get_0 : decode cX9_get 0 = .ok (.aload_n 0, 1) := by decide +kernel
theorem dX9_get_1 : decode cX9_get 1 = .ok (.getfield 8, 3) := by decide +kernel
theorem dX9_get_4 : decode cX9_get 4 = .ok (.sipush 2048, 3) := by decide +kernel
theorem dX9_get_7 : decode cX9_get 7 = .ok (.aload_n 0, 1) := by decide +kernel
theorem dX9_get_8 : decode cX9_get 8 = .ok (.getfield 115, 3) := by decide +kernel
theorem dX9_get_11 : decode cX9_get 11 = .ok (.imul, 1) := by decide +kernel
theorem dX9_get_12 : decode cX9_get 12 = .ok (.iload_n 1, 1) := by decide +kernel
theorem dX9_get_13 : decode cX9_get 13 = .ok (.iadd, 1) := by decide +kernel
theorem dX9_get_14 : decode cX9_get 14 = .ok (.baload, 1) := by decide +kernel
theorem dX9_get_15 : decode cX9_get 15 = .ok (.sipush 255, 3) := by decide +kernel
theorem dX9_get_18 : decode cX9_get 18 = .ok (.iand, 1) := by decide +kernel
theorem dX9_get_19 : decode cX9_get 19 = .ok (.ireturn, 1) := by decide +kernel
/-- WriteOnceDiscModel.get(I)I -/
def wX9_get (x0 : Nat) (x1 : Int32) (σ : Hp) (post : Int32 → Prop) : Prop :=
(tg_ σ x0 = 9 ∧ (tg_ σ (fR_ σ 8 3 x0) = 100 ∧ (vp_in (((2048 : Int32) * (fI_ σ 8 2 x0)) + x1) (ln_ σ (fR_ σ 8 3 x0)) ∧ post ((aI_ σ (fR_ σ 8 3 x0) ((((2048 : Int32) * (fI_ σ 8 2 x0)) + x1)).toNatClampNeg) &&& (255 : Int32)))))
set_option maxHeartbeats 4000000 in
theorem sX9_get {G : GG_} {p : Program} {l : Launch} {e : Env} {R : Room} {s : State} {m : MethodId} {args : Array Value} {below : List Frame} {meth : Method} {c : Code} (Y : MX_ G p R s m args meth c cX9_get 2 RX9 (some Jvm.ClassFile.FieldType.int) 1 20 0 0 "get") {post : Int32 → Prop} {x0 : Nat} {x1 : Int32} {σ : Hp} (hf : wX9_get x0 x1 σ post) : WG_ G p l e R s m args below meth c (MQ below (QI_ G (fun r τ => τ = σ ∧ post r)) args s 0 0 (FR_ G)) BN_ 2 0 [(0, rv_ x0), (1, .int x1)] [] σ := by
  have ⟨X, hlk, hr, hRf, hRl, hRc, hnm⟩ := Y
  have ⟨⟨hx, hb, _, hown, hts⟩, _, _⟩ := X
  intro H locs cells slots ls hP hL hB hl
  obtain ⟨rfl, rfl⟩ := hB
  unfold wX9_get at hf
  refine p_aload_n hx hb dX9_get_0 rfl (lv_at hl 0 rfl) ?_
  obtain ⟨ht1, hf⟩ := hf
  refine p_gR X cf8_ (k := 3) (by decide) rfl hP ht1 q1298 (fun _ h => h) dX9_get_1 ?_
  refine lv_sipush (v := 2048) hx hb dX9_get_4 (by decide) ?_
  refine p_aload_n hx hb dX9_get_7 rfl (lv_at hl 0 rfl) ?_
  refine p_gI X cf8_ (k := 2) (by decide) rfl hP ht1 q1297 (fun _ h => h) dX9_get_8 ?_
  refine lv_imul hx hb dX9_get_11 ?_
  refine lv_iload_n hx hb dX9_get_12 rfl (lv_at hl 1 rfl) ?_
  refine lv_iadd hx hb dX9_get_13 ?_
  obtain ⟨ht2, hf⟩ := hf
  obtain ⟨hi3, hf⟩ := hf
  refine p_bald X hP ht2 hi3 dX9_get_14 ?_
  refine lv_sipush (v := 255) hx hb dX9_get_15 (by decide) ?_
  refine lv_iand hx hb dX9_get_18 ?_
  exact p_iret X hlk hP hL (Nat.le_refl _) (Nat.le_refl _) hr dX9_get_19 ⟨rfl, hf⟩
set_option maxHeartbeats 4000000 in
theorem metX9_get (l : Launch) (G : GG_) (x0 : Nat) (x1 : Int32) (σ : Hp) (post : Int32 → Prop) (hG : GOK_ G) (hf : wX9_get x0 x1 σ post) : Met l yX9_get (ws_ yX9_get cX9_get 2 (some Jvm.ClassFile.FieldType.int)) { frames := 1, cells := 0, slots := 0, locals := 20 } (PC_ G [rv_ x0, .int x1] σ) (QI_ G (fun r τ => τ = σ ∧ post r)) 0 0 (FR_ G) := by
  refine Met.ofW (cc := cX9_get) (maxL := 2) (ret := (some Jvm.ClassFile.FieldType.int)) (by decide) rfl ?_
  intro p e s m args below meth c s₁ B hml hv
  obtain ⟨rfl, hP, hW⟩ := hv
  have hts := atoms_spec (ws := ws_ yX9_get cX9_get 2 (some Jvm.ClassFile.FieldType.int)) B.pre
  have hts : ∀ w ∈ lw_all, w.before _ s = true := fun w h => hts w (List.mem_cons_of_mem _ h)
  rw [lg_entry_eq]
  have hl := en_entry [rv_ x0, .int x1] [1, 1] (n := 2) (ca_r (ca_i ca_n)) (by decide)
  exact sX9_get ⟨⟨⟨B.exec, B.bytes, hml, findClass_of_methodNamed B.named, hts⟩, hW, hG⟩, B.notSynchronized, B.returns, Nat.le_refl _, Nat.le_refl _, ⟨rfl, rfl⟩, (name_of_methodNamed B.named B.method).1⟩ hf _ _ _ _ _ hP (LO_nil G) ⟨rfl, rfl⟩ hl
abbrev cX9_fill : ByteArray := prog_11_method_44_code
def yX9_fill : MethodName := ⟨RX9, "fill", "(IIZ)V"⟩
theorem dX9_fill_0 : decode cX9_fill 0 = .ok (.iconst 0, 1) := by decide +kernel
theorem dX9_fill_1 : decode cX9_fill 1 = .ok (.istore 4, 2) := by decide +kernel
theorem dX9_fill_3 : decode cX9_fill 3 = .ok (.iload 4, 2) := by decide +kernel
theorem dX9_fill_5 : decode cX9_fill 5 = .ok (.sipush 2048, 3) := by decide +kernel
theorem dX9_fill_8 : decode cX9_fill 8 = .ok (.if_icmp .ge 106, 3) := by decide +kernel
theorem dX9_fill_11 : decode cX9_fill 11 = .ok (.sipush 2048, 3) := by decide +kernel
theorem dX9_fill_14 : decode cX9_fill 14 = .ok (.iload_n 2, 1) := by decide +kernel
theorem dX9_fill_15 : decode cX9_fill 15 = .ok (.imul, 1) := by decide +kernel
theorem dX9_fill_16 : decode cX9_fill 16 = .ok (.iload 4, 2) := by decide +kernel
theorem dX9_fill_18 : decode cX9_fill 18 = .ok (.iadd, 1) := by decide +kernel
theorem dX9_fill_19 : decode cX9_fill 19 = .ok (.istore 5, 2) := by decide +kernel
theorem dX9_fill_21 : decode cX9_fill 21 = .ok (.aload_n 0, 1) := by decide +kernel
theorem dX9_fill_22 : decode cX9_fill 22 = .ok (.getfield 41, 3) := by decide +kernel
theorem dX9_fill_25 : decode cX9_fill 25 = .ok (.iload_n 1, 1) := by decide +kernel
theorem dX9_fill_26 : decode cX9_fill 26 = .ok (.iaload, 1) := by decide +kernel
theorem dX9_fill_27 : decode cX9_fill 27 = .ok (.iconst 3, 1) := by decide +kernel
theorem dX9_fill_28 : decode cX9_fill 28 = .ok (.iload 5, 2) := by decide +kernel
theorem dX9_fill_30 : decode cX9_fill 30 = .ok (.imul, 1) := by decide +kernel
theorem dX9_fill_31 : decode cX9_fill 31 = .ok (.iadd, 1) := by decide +kernel
theorem dX9_fill_32 : decode cX9_fill 32 = .ok (.iload 5, 2) := by decide +kernel
theorem dX9_fill_34 : decode cX9_fill 34 = .ok (.sipush 128, 3) := by decide +kernel
theorem dX9_fill_37 : decode cX9_fill 37 = .ok (.idiv, 1) := by decide +kernel
theorem dX9_fill_38 : decode cX9_fill 38 = .ok (.iadd, 1) := by decide +kernel
theorem dX9_fill_39 : decode cX9_fill 39 = .ok (.sipush 256, 3) := by decide +kernel
theorem dX9_fill_42 : decode cX9_fill 42 = .ok (.irem, 1) := by decide +kernel
theorem dX9_fill_43 : decode cX9_fill 43 = .ok (.istore 6, 2) := by decide +kernel
theorem dX9_fill_45 : decode cX9_fill 45 = .ok (.iload_n 3, 1) := by decide +kernel
theorem dX9_fill_46 : decode cX9_fill 46 = .ok (.ifCond .eq 37, 3) := by decide +kernel
theorem dX9_fill_49 : decode cX9_fill 49 = .ok (.iload 5, 2) := by decide +kernel
theorem dX9_fill_51 : decode cX9_fill 51 = .ok (.aload_n 0, 1) := by decide +kernel
theorem dX9_fill_52 : decode cX9_fill 52 = .ok (.getfield 38, 3) := by decide +kernel
theorem dX9_fill_55 : decode cX9_fill 55 = .ok (.iload_n 1, 1) := by decide +kernel
theorem dX9_fill_56 : decode cX9_fill 56 = .ok (.iaload, 1) := by decide +kernel
theorem dX9_fill_57 : decode cX9_fill 57 = .ok (.if_icmp .ge 23, 3) := by decide +kernel
theorem dX9_fill_60 : decode cX9_fill 60 = .ok (.aload_n 0, 1) := by decide +kernel
theorem dX9_fill_61 : decode cX9_fill 61 = .ok (.sipush 2048, 3) := by decide +kernel
theorem dX9_fill_64 : decode cX9_fill 64 = .ok (.aload_n 0, 1) := by decide +kernel
theorem dX9_fill_65 : decode cX9_fill 65 = .ok (.getfield 50, 3) := by decide +kernel
theorem dX9_fill_68 : decode cX9_fill 68 = .ok (.iload_n 1, 1) := by decide +kernel
theorem dX9_fill_69 : decode cX9_fill 69 = .ok (.iaload, 1) := by decide +kernel
theorem dX9_fill_70 : decode cX9_fill 70 = .ok (.imul, 1) := by decide +kernel
theorem dX9_fill_71 : decode cX9_fill 71 = .ok (.iload 5, 2) := by decide +kernel
theorem dX9_fill_73 : decode cX9_fill 73 = .ok (.iadd, 1) := by decide +kernel
theorem dX9_fill_74 : decode cX9_fill 74 = .ok (.invokevirtual 225, 3) := by decide +kernel
theorem dX9_fill_77 : decode cX9_fill 77 = .ok (.goto 4, 3) := by decide +kernel
theorem dX9_fill_80 : decode cX9_fill 80 = .ok (.iconst 0, 1) := by decide +kernel
theorem dX9_fill_81 : decode cX9_fill 81 = .ok (.istore 6, 2) := by decide +kernel
theorem dX9_fill_83 : decode cX9_fill 83 = .ok (.aload_n 0, 1) := by decide +kernel
theorem dX9_fill_84 : decode cX9_fill 84 = .ok (.getfield 21, 3) := by decide +kernel
theorem dX9_fill_87 : decode cX9_fill 87 = .ok (.iload 4, 2) := by decide +kernel
theorem dX9_fill_89 : decode cX9_fill 89 = .ok (.iload 5, 2) := by decide +kernel
theorem dX9_fill_91 : decode cX9_fill 91 = .ok (.aload_n 0, 1) := by decide +kernel
theorem dX9_fill_92 : decode cX9_fill 92 = .ok (.getfield 38, 3) := by decide +kernel
theorem dX9_fill_95 : decode cX9_fill 95 = .ok (.iload_n 1, 1) := by decide +kernel
theorem dX9_fill_96 : decode cX9_fill 96 = .ok (.iaload, 1) := by decide +kernel
theorem dX9_fill_97 : decode cX9_fill 97 = .ok (.if_icmp .ge 8, 3) := by decide +kernel
theorem dX9_fill_100 : decode cX9_fill 100 = .ok (.iload 6, 2) := by decide +kernel
theorem dX9_fill_102 : decode cX9_fill 102 = .ok (.goto 4, 3) := by decide +kernel
theorem dX9_fill_105 : decode cX9_fill 105 = .ok (.iconst 0, 1) := by decide +kernel
theorem dX9_fill_106 : decode cX9_fill 106 = .ok (.i2b, 1) := by decide +kernel
theorem dX9_fill_107 : decode cX9_fill 107 = .ok (.bastore, 1) := by decide +kernel
theorem dX9_fill_108 : decode cX9_fill 108 = .ok (.iinc 4 1, 3) := by decide +kernel
theorem dX9_fill_111 : decode cX9_fill 111 = .ok (.goto (-108), 3) := by decide +kernel
theorem dX9_fill_114 : decode cX9_fill 114 = .ok (.return_, 1) := by decide +kernel
/-- WriteOnceDiscModel.fill(IIZ)V -/
def wX9_fill_L106 (post : Hp → Prop) (rc3 : Int32 → Hp → Prop) (x0 : Nat) (x1 : Int32) (x2 : Int32) (x3 : Int32) (x4 : Int32) (s0 : Int32) (s1 : Int32) (s2 : Nat) (σ : Hp) : Prop :=
(tg_ σ s2 = 100 ∧ (lo_ σ < s2 ∧ (vp_in s1 (ln_ σ s2) ∧ (∀ σ4, σ4 = wI_ σ s2 (s1).toNatClampNeg (vp_nar .byte (s0).toInt8.toInt32) → (∀ y5 : Int32, y5 = x4 + 1 → rc3 y5 σ4)))))
def wX9_fill_L83 (post : Hp → Prop) (rc3 : Int32 → Hp → Prop) (x0 : Nat) (x1 : Int32) (x2 : Int32) (x3 : Int32) (x4 : Int32) (x5 : Int32) (x6 : Int32) (σ : Hp) : Prop :=
(tg_ σ x0 = 9 ∧ (tg_ σ (fR_ σ 8 15 x0) = 102 ∧ (vp_in x1 (ln_ σ (fR_ σ 8 15 x0)) ∧ (((aI_ σ (fR_ σ 8 15 x0) (x1).toNatClampNeg) ≤ x5 →
  wX9_fill_L106 post rc3 x0 x1 x2 x3 x4 (0 : Int32) x4 (fR_ σ 8 9 x0) σ) ∧
 (¬ (aI_ σ (fR_ σ 8 15 x0) (x1).toNatClampNeg) ≤ x5 →
  wX9_fill_L106 post rc3 x0 x1 x2 x3 x4 x6 x4 (fR_ σ 8 9 x0) σ)))))
def wX9_fill_L81 (post : Hp → Prop) (rc3 : Int32 → Hp → Prop) (x0 : Nat) (x1 : Int32) (x2 : Int32) (x3 : Int32) (x4 : Int32) (x5 : Int32) (s0 : Int32) (σ : Hp) : Prop :=
wX9_fill_L83 post rc3 x0 x1 x2 x3 x4 x5 s0 σ
def wX9_fill_B3 (post : Hp → Prop) (rc3 : Int32 → Hp → Prop) (x0 : Nat) (x1 : Int32) (x2 : Int32) (x3 : Int32) (x4 : Int32) (σ : Hp) : Prop :=
(((2048 : Int32) ≤ x4 →
  post σ) ∧
 (¬ (2048 : Int32) ≤ x4 →
  (∀ y11 : Int32, y11 = (((2048 : Int32) * x2) + x4) → (tg_ σ x0 = 9 ∧ (tg_ σ (fR_ σ 8 16 x0) = 102 ∧ (vp_in x1 (ln_ σ (fR_ σ 8 16 x0)) ∧ (∀ y15 : Int32, y15 = ((((aI_ σ (fR_ σ 8 16 x0) (x1).toNatClampNeg) + ((3 : Int32) * y11)) + (y11 / (128 : Int32))) - (((aI_ σ (fR_ σ 8 16 x0) (x1).toNatClampNeg) + ((3 : Int32) * y11)) + (y11 / (128 : Int32))) / (256 : Int32) * (256 : Int32)) → ((x3 = 0 →
   wX9_fill_L83 post rc3 x0 x1 x2 x3 x4 y11 y15 σ) ∧
  (¬ x3 = 0 →
   (tg_ σ (fR_ σ 8 15 x0) = 102 ∧ (vp_in x1 (ln_ σ (fR_ σ 8 15 x0)) ∧ (((aI_ σ (fR_ σ 8 15 x0) (x1).toNatClampNeg) ≤ y11 →
    wX9_fill_L81 post rc3 x0 x1 x2 x3 x4 y11 (0 : Int32) σ) ∧
   (¬ (aI_ σ (fR_ σ 8 15 x0) (x1).toNatClampNeg) ≤ y11 →
    (tg_ σ (fR_ σ 8 19 x0) = 102 ∧ (vp_in x1 (ln_ σ (fR_ σ 8 19 x0)) ∧ (wX9_get x0 (((2048 : Int32) * (aI_ σ (fR_ σ 8 19 x0) (x1).toNatClampNeg)) + y11) σ (fun r22 => wX9_fill_L81 post rc3 x0 x1 x2 x3 x4 y11 r22 σ)))))))))))))))))
def wX9_fill_L3 (post : Hp → Prop) (x0 : Nat) (x1 : Int32) (x2 : Int32) (x3 : Int32) (x4 : Int32) (σ : Hp) : Prop :=
 ∃ (I : Int32 → Hp → Prop) (μ : Int32 → Hp → Nat), I x4 σ ∧ ∀ (x4 : Int32) (σ : Hp), I x4 σ → wX9_fill_B3 post (fun x4' σ' => I x4' σ' ∧ μ x4' σ' < μ x4 σ) x0 x1 x2 x3 x4 σ
def wX9_fill (x0 : Nat) (x1 : Int32) (x2 : Int32) (x3 : Int32) (σ : Hp) (post : Hp → Prop) : Prop :=
wX9_fill_L3 post x0 x1 x2 x3 (0 : Int32) σ
set_option maxHeartbeats 4000000 in
theorem sX9_fill_L106 {G : GG_} {p : Program} {l : Launch} {e : Env} {R : Room} {s : State} {m : MethodId} {args : Array Value} {below : List Frame} {meth : Method} {c : Code} (Y : MX_ G p R s m args meth c cX9_fill 7 RX9 none 2 41 0 0 "fill") {post : Hp → Prop} {rc3 : Int32 → Hp → Prop} {x0 : Nat} {x1 : Int32} {x2 : Int32} {x3 : Int32} {x4 : Int32} {s0 : Int32} {s1 : Int32} {s2 : Nat} {σ : Hp} (hrc3 : ∀ (x4 : Int32) (σ : Hp), rc3 x4 σ → WG_ G p l e R s m args below meth c (MQ below (QV_ G post) args s 0 0 (FR_ G)) BN_ 7 3 [(0, rv_ x0), (1, .int x1), (2, .int x2), (3, .int x3), (4, .int x4)] [] σ) (hf : wX9_fill_L106 post rc3 x0 x1 x2 x3 x4 s0 s1 s2 σ) : WG_ G p l e R s m args below meth c (MQ below (QV_ G post) args s 0 0 (FR_ G)) BN_ 7 106 [(0, rv_ x0), (1, .int x1), (2, .int x2), (3, .int x3), (4, .int x4)] [.int s0, .int s1, rv_ s2] σ := by
  have ⟨X, hlk, hr, hRf, hRl, hRc, hnm⟩ := Y
  have ⟨⟨hx, hb, _, hown, hts⟩, _, _⟩ := X
  intro H locs cells slots ls hP hL hB hl
  obtain ⟨rfl, rfl⟩ := hB
  unfold wX9_fill_L106 at hf
  refine lv_i2b hx hb dX9_fill_106 rfl ?_
  obtain ⟨ht1, hf⟩ := hf
  obtain ⟨hlo2, hf⟩ := hf
  obtain ⟨hi3, hf⟩ := hf
  refine p_bast X hP hL ht1 hlo2 hi3 dX9_fill_107 (fun H locs hP hL => ?_)
  refine p_nmP hP (fun σ4 hσ4 hP => ?_)
  have hf := hf σ4 hσ4
  have ht1 : tg_ σ4 s2 = 100 := by rw [hσ4]; exact ht1
  have hl := lv_sub hl [4, 0, 1, 2, 3] rfl
  refine p_iincc (i := 4) (k := 1) hx hb (by decide) dX9_fill_108 hl (by decide) ⟨⟨ne_ rfl, Or.inl (ne_ rfl)⟩, ⟨⟨ne_ rfl, Or.inl (ne_ rfl)⟩, ⟨⟨ne_ rfl, Or.inl (ne_ rfl)⟩, ⟨⟨ne_ rfl, Or.inr rfl⟩, trivial⟩⟩⟩⟩ (fun y5 hy5 ls hl => ?_)
  have hf := hf y5 hy5
  refine lv_goto (tgt := 3) hx hb dX9_fill_111 (by decide) ?_
  exact hrc3 _ _ hf _ _ _ _ _ hP hL ⟨rfl, rfl⟩ (lv_sub hl [1, 2, 3, 4, 0] rfl)
set_option maxHeartbeats 4000000 in
theorem sX9_fill_L83 {G : GG_} {p : Program} {l : Launch} {e : Env} {R : Room} {s : State} {m : MethodId} {args : Array Value} {below : List Frame} {meth : Method} {c : Code} (Y : MX_ G p R s m args meth c cX9_fill 7 RX9 none 2 41 0 0 "fill") {post : Hp → Prop} {rc3 : Int32 → Hp → Prop} {x0 : Nat} {x1 : Int32} {x2 : Int32} {x3 : Int32} {x4 : Int32} {x5 : Int32} {x6 : Int32} {σ : Hp} (hrc3 : ∀ (x4 : Int32) (σ : Hp), rc3 x4 σ → WG_ G p l e R s m args below meth c (MQ below (QV_ G post) args s 0 0 (FR_ G)) BN_ 7 3 [(0, rv_ x0), (1, .int x1), (2, .int x2), (3, .int x3), (4, .int x4)] [] σ) (hf : wX9_fill_L83 post rc3 x0 x1 x2 x3 x4 x5 x6 σ) : WG_ G p l e R s m args below meth c (MQ below (QV_ G post) args s 0 0 (FR_ G)) BN_ 7 83 [(0, rv_ x0), (1, .int x1), (2, .int x2), (3, .int x3), (4, .int x4), (5, .int x5), (6, .int x6)] [] σ := by
  have ⟨X, hlk, hr, hRf, hRl, hRc, hnm⟩ := Y
  have ⟨⟨hx, hb, _, hown, hts⟩, _, _⟩ := X
  intro H locs cells slots ls hP hL hB hl
  obtain ⟨rfl, rfl⟩ := hB
  unfold wX9_fill_L83 at hf
  refine p_aload_n hx hb dX9_fill_83 rfl (lv_at hl 0 rfl) ?_
  obtain ⟨ht6, hf⟩ := hf
  refine p_gR X cf8_ (k := 9) (by decide) rfl hP ht6 q1304 (fun _ h => h) dX9_fill_84 ?_
  refine lv_iload hx hb dX9_fill_87 (lv_at hl 4 rfl) ?_
  refine lv_iload hx hb dX9_fill_89 (lv_at hl 5 rfl) ?_
  refine p_aload_n hx hb dX9_fill_91 rfl (lv_at hl 0 rfl) ?_
  refine p_gR X cf8_ (k := 15) (by decide) rfl hP ht6 q1310 (fun _ h => h) dX9_fill_92 ?_
  refine lv_iload_n hx hb dX9_fill_95 rfl (lv_at hl 1 rfl) ?_
  obtain ⟨ht7, hf⟩ := hf
  obtain ⟨hi8, hf⟩ := hf
  refine p_iald X hP ht7 hi8 dX9_fill_96 ?_
  refine lv_icmp_ge (tgt := 105) hx hb dX9_fill_97 (by decide) (fun c9 => ?_) (fun c9 => ?_)
  · have hf := hf.1 c9
    refine lv_iconst (v := 0) hx hb dX9_fill_105 (by decide) ?_
    exact sX9_fill_L106 Y hrc3 hf _ _ _ _ _ hP hL ⟨rfl, rfl⟩ (lv_sub hl [0, 1, 2, 3, 4] rfl)
  · have hf := hf.2 c9
    refine lv_iload hx hb dX9_fill_100 (lv_at hl 6 rfl) ?_
    refine lv_goto (tgt := 106) hx hb dX9_fill_102 (by decide) ?_
    exact sX9_fill_L106 Y hrc3 hf _ _ _ _ _ hP hL ⟨rfl, rfl⟩ (lv_sub hl [0, 1, 2, 3, 4] rfl)
set_option maxHeartbeats 4000000 in
theorem sX9_fill_L81 {G : GG_} {p : Program} {l : Launch} {e : Env} {R : Room} {s : State} {m : MethodId} {args : Array Value} {below : List Frame} {meth : Method} {c : Code} (Y : MX_ G p R s m args meth c cX9_fill 7 RX9 none 2 41 0 0 "fill") {post : Hp → Prop} {rc3 : Int32 → Hp → Prop} {x0 : Nat} {x1 : Int32} {x2 : Int32} {x3 : Int32} {x4 : Int32} {x5 : Int32} {s0 : Int32} {σ : Hp} (hrc3 : ∀ (x4 : Int32) (σ : Hp), rc3 x4 σ → WG_ G p l e R s m args below meth c (MQ below (QV_ G post) args s 0 0 (FR_ G)) BN_ 7 3 [(0, rv_ x0), (1, .int x1), (2, .int x2), (3, .int x3), (4, .int x4)] [] σ) (hf : wX9_fill_L81 post rc3 x0 x1 x2 x3 x4 x5 s0 σ) : WG_ G p l e R s m args below meth c (MQ below (QV_ G post) args s 0 0 (FR_ G)) BN_ 7 81 [(0, rv_ x0), (1, .int x1), (2, .int x2), (3, .int x3), (4, .int x4), (5, .int x5)] [.int s0] σ := by
  have ⟨X, hlk, hr, hRf, hRl, hRc, hnm⟩ := Y
  have ⟨⟨hx, hb, _, hown, hts⟩, _, _⟩ := X
  intro H locs cells slots ls hP hL hB hl
  obtain ⟨rfl, rfl⟩ := hB
  unfold wX9_fill_L81 at hf
  refine p_istore (i := 6) hx hb dX9_fill_81 hl (by decide) ⟨⟨ne_ rfl, Or.inl (ne_ rfl)⟩, ⟨⟨ne_ rfl, Or.inl (ne_ rfl)⟩, ⟨⟨ne_ rfl, Or.inl (ne_ rfl)⟩, ⟨⟨ne_ rfl, Or.inl (ne_ rfl)⟩, ⟨⟨ne_ rfl, Or.inl (ne_ rfl)⟩, ⟨⟨ne_ rfl, Or.inr rfl⟩, trivial⟩⟩⟩⟩⟩⟩ (fun ls hl => ?_)
  exact sX9_fill_L83 Y hrc3 hf _ _ _ _ _ hP hL ⟨rfl, rfl⟩ (lv_sub hl [1, 2, 3, 4, 5, 6, 0] rfl)
set_option maxHeartbeats 4000000 in
theorem sX9_fill_B3 {G : GG_} {p : Program} {l : Launch} {e : Env} {R : Room} {s : State} {m : MethodId} {args : Array Value} {below : List Frame} {meth : Method} {c : Code} (Y : MX_ G p R s m args meth c cX9_fill 7 RX9 none 2 41 0 0 "fill") {post : Hp → Prop} {rc3 : Int32 → Hp → Prop} {x0 : Nat} {x1 : Int32} {x2 : Int32} {x3 : Int32} {x4 : Int32} {σ : Hp} (hrc3 : ∀ (x4 : Int32) (σ : Hp), rc3 x4 σ → WG_ G p l e R s m args below meth c (MQ below (QV_ G post) args s 0 0 (FR_ G)) BN_ 7 3 [(0, rv_ x0), (1, .int x1), (2, .int x2), (3, .int x3), (4, .int x4)] [] σ) (hf : wX9_fill_B3 post rc3 x0 x1 x2 x3 x4 σ) : WG_ G p l e R s m args below meth c (MQ below (QV_ G post) args s 0 0 (FR_ G)) BN_ 7 3 [(0, rv_ x0), (1, .int x1), (2, .int x2), (3, .int x3), (4, .int x4)] [] σ := by
  have ⟨X, hlk, hr, hRf, hRl, hRc, hnm⟩ := Y
  have ⟨⟨hx, hb, _, hown, hts⟩, _, _⟩ := X
  intro H locs cells slots ls hP hL hB hl
  obtain ⟨rfl, rfl⟩ := hB
  unfold wX9_fill_B3 at hf
  refine lv_iload hx hb dX9_fill_3 (lv_at hl 4 rfl) ?_
  refine lv_sipush (v := 2048) hx hb dX9_fill_5 (by decide) ?_
  refine lv_icmp_ge (tgt := 114) hx hb dX9_fill_8 (by decide) (fun c10 => ?_) (fun c10 => ?_)
  · have hf := hf.1 c10
    exact p_vret X hlk hP hL (Nat.le_refl _) (Nat.le_refl _) hr dX9_fill_114 hf
  · have hf := hf.2 c10
    refine lv_sipush (v := 2048) hx hb dX9_fill_11 (by decide) ?_
    refine lv_iload_n hx hb dX9_fill_14 rfl (lv_at hl 2 rfl) ?_
    refine lv_imul hx hb dX9_fill_15 ?_
    refine lv_iload hx hb dX9_fill_16 (lv_at hl 4 rfl) ?_
    refine lv_iadd hx hb dX9_fill_18 ?_
    refine lv_topi (fun y11 hy11 => ?_)
    have hf := hf y11 hy11
    refine p_istore (i := 5) hx hb dX9_fill_19 hl (by decide) ⟨⟨ne_ rfl, Or.inl (ne_ rfl)⟩, ⟨⟨ne_ rfl, Or.inl (ne_ rfl)⟩, ⟨⟨ne_ rfl, Or.inl (ne_ rfl)⟩, ⟨⟨ne_ rfl, Or.inl (ne_ rfl)⟩, ⟨⟨ne_ rfl, Or.inr rfl⟩, trivial⟩⟩⟩⟩⟩ (fun ls hl => ?_)
    refine p_aload_n hx hb dX9_fill_21 rfl (lv_at hl 1 rfl) ?_
    obtain ⟨ht12, hf⟩ := hf
    refine p_gR X cf8_ (k := 16) (by decide) rfl hP ht12 q1311 (fun _ h => h) dX9_fill_22 ?_
    refine lv_iload_n hx hb dX9_fill_25 rfl (lv_at hl 2 rfl) ?_
    obtain ⟨ht13, hf⟩ := hf
    obtain ⟨hi14, hf⟩ := hf
    refine p_iald X hP ht13 hi14 dX9_fill_26 ?_
    refine lv_iconst (v := 3) hx hb dX9_fill_27 (by decide) ?_
    refine lv_iload hx hb dX9_fill_28 (lv_at hl 0 rfl) ?_
    refine lv_imul hx hb dX9_fill_30 ?_
    refine lv_iadd hx hb dX9_fill_31 ?_
    refine lv_iload hx hb dX9_fill_32 (lv_at hl 0 rfl) ?_
    refine lv_sipush (v := 128) hx hb dX9_fill_34 (by decide) ?_
    refine lv_idiv hx hb dX9_fill_37 (by decide) ?_
    refine lv_iadd hx hb dX9_fill_38 ?_
    refine lv_sipush (v := 256) hx hb dX9_fill_39 (by decide) ?_
    refine lv_irem hx hb dX9_fill_42 (by decide) ?_
    refine lv_topi (fun y15 hy15 => ?_)
    have hf := hf y15 hy15
    refine p_istore (i := 6) hx hb dX9_fill_43 hl (by decide) ⟨⟨ne_ rfl, Or.inr rfl⟩, ⟨⟨ne_ rfl, Or.inl (ne_ rfl)⟩, ⟨⟨ne_ rfl, Or.inl (ne_ rfl)⟩, ⟨⟨ne_ rfl, Or.inl (ne_ rfl)⟩, ⟨⟨ne_ rfl, Or.inl (ne_ rfl)⟩, ⟨⟨ne_ rfl, Or.inl (ne_ rfl)⟩, trivial⟩⟩⟩⟩⟩⟩ (fun ls hl => ?_)
    refine lv_iload_n hx hb dX9_fill_45 rfl (lv_at hl 5 rfl) ?_
    refine lv_if_eq (tgt := 83) hx hb dX9_fill_46 (by decide) (fun c16 => ?_) (fun c16 => ?_)
    · have hf := hf.1 c16
      exact sX9_fill_L83 Y hrc3 hf _ _ _ _ _ hP hL ⟨rfl, rfl⟩ (lv_sub hl [2, 3, 4, 5, 6, 1, 0] rfl)
    · have hf := hf.2 c16
      refine lv_iload hx hb dX9_fill_49 (lv_at hl 1 rfl) ?_
      refine p_aload_n hx hb dX9_fill_51 rfl (lv_at hl 2 rfl) ?_
      refine p_gR X cf8_ (k := 15) (by decide) rfl hP ht12 q1310 (fun _ h => h) dX9_fill_52 ?_
      refine lv_iload_n hx hb dX9_fill_55 rfl (lv_at hl 3 rfl) ?_
      obtain ⟨ht17, hf⟩ := hf
      obtain ⟨hi18, hf⟩ := hf
      refine p_iald X hP ht17 hi18 dX9_fill_56 ?_
      refine lv_icmp_ge (tgt := 80) hx hb dX9_fill_57 (by decide) (fun c19 => ?_) (fun c19 => ?_)
      · have hf := hf.1 c19
        refine lv_iconst (v := 0) hx hb dX9_fill_80 (by decide) ?_
        exact sX9_fill_L81 Y hrc3 hf _ _ _ _ _ hP hL ⟨rfl, rfl⟩ (lv_sub hl [2, 3, 4, 5, 6, 1] rfl)
      · have hf := hf.2 c19
        refine p_aload_n hx hb dX9_fill_60 rfl (lv_at hl 2 rfl) ?_
        refine lv_sipush (v := 2048) hx hb dX9_fill_61 (by decide) ?_
        refine p_aload_n hx hb dX9_fill_64 rfl (lv_at hl 2 rfl) ?_
        refine p_gR X cf8_ (k := 19) (by decide) rfl hP ht12 q1314 (fun _ h => h) dX9_fill_65 ?_
        refine lv_iload_n hx hb dX9_fill_68 rfl (lv_at hl 3 rfl) ?_
        obtain ⟨ht20, hf⟩ := hf
        obtain ⟨hi21, hf⟩ := hf
        refine p_iald X hP ht20 hi21 dX9_fill_69 ?_
        refine lv_imul hx hb dX9_fill_70 ?_
        refine lv_iload hx hb dX9_fill_71 (lv_at hl 1 rfl) ?_
        refine lv_iadd hx hb dX9_fill_73 ?_
        refine p_calli hL (p_runV X cf8_ hP ht12 (metX9_get l G _ _ _ _ X.2.2 hf) (cwV 1 hts (lw_V q1508 q1510 qs52 q106 q1511) rfl rfl rfl (by decide +kernel) ⟨Nat.le_trans (Nat.le_of_ble_eq_true rfl) hRf, Nat.le_trans (Nat.le_of_ble_eq_true rfl) hRl⟩) rfl hl.1 rfl (by decide) dX9_fill_74 ⟨Nat.zero_le _, Nat.zero_le _⟩) (fun r22 σ₁ H locs hf hP hL => ?_)
        obtain ⟨e₁, hf⟩ := hf
        rw [e₁] at hP
        refine lv_goto (tgt := 81) hx hb dX9_fill_77 (by decide) ?_
        exact sX9_fill_L81 Y hrc3 hf _ _ _ _ _ hP hL ⟨rfl, rfl⟩ (lv_sub hl [2, 3, 4, 5, 6, 1] rfl)
set_option maxHeartbeats 4000000 in
theorem sX9_fill_L3 {G : GG_} {p : Program} {l : Launch} {e : Env} {R : Room} {s : State} {m : MethodId} {args : Array Value} {below : List Frame} {meth : Method} {c : Code} (Y : MX_ G p R s m args meth c cX9_fill 7 RX9 none 2 41 0 0 "fill") {post : Hp → Prop} {x0 : Nat} {x1 : Int32} {x2 : Int32} {x3 : Int32} {x4 : Int32} {σ : Hp} (hf : wX9_fill_L3 post x0 x1 x2 x3 x4 σ) : WG_ G p l e R s m args below meth c (MQ below (QV_ G post) args s 0 0 (FR_ G)) BN_ 7 3 [(0, rv_ x0), (1, .int x1), (2, .int x2), (3, .int x3), (4, .int x4)] [] σ := by
  unfold wX9_fill_L3 at hf
  obtain ⟨I, μ, h0, hI⟩ := hf
  have key : ∀ (n : Nat) (x4 : Int32) (σ : Hp), I x4 σ → μ x4 σ < n → WG_ G p l e R s m args below meth c (MQ below (QV_ G post) args s 0 0 (FR_ G)) BN_ 7 3 [(0, rv_ x0), (1, .int x1), (2, .int x2), (3, .int x3), (4, .int x4)] [] σ := by
    intro n
    induction n with
    | zero => intro x4 σ _ h; exact absurd h (Nat.not_lt_zero _)
    | succ n ih => intro x4 σ hi hn; exact sX9_fill_B3 Y (fun x4' σ' h => ih x4' σ' h.1 (Nat.lt_of_lt_of_le h.2 (Nat.le_of_lt_succ hn))) (hI x4 σ hi)
  exact key _ _ _ h0 (Nat.lt_succ_self _)
set_option maxHeartbeats 4000000 in
theorem sX9_fill {G : GG_} {p : Program} {l : Launch} {e : Env} {R : Room} {s : State} {m : MethodId} {args : Array Value} {below : List Frame} {meth : Method} {c : Code} (Y : MX_ G p R s m args meth c cX9_fill 7 RX9 none 2 41 0 0 "fill") {post : Hp → Prop} {x0 : Nat} {x1 : Int32} {x2 : Int32} {x3 : Int32} {σ : Hp} (hf : wX9_fill x0 x1 x2 x3 σ post) : WG_ G p l e R s m args below meth c (MQ below (QV_ G post) args s 0 0 (FR_ G)) BN_ 7 0 [(0, rv_ x0), (1, .int x1), (2, .int x2), (3, .int x3)] [] σ := by
  have ⟨X, hlk, hr, hRf, hRl, hRc, hnm⟩ := Y
  have ⟨⟨hx, hb, _, hown, hts⟩, _, _⟩ := X
  intro H locs cells slots ls hP hL hB hl
  obtain ⟨rfl, rfl⟩ := hB
  unfold wX9_fill at hf
  refine lv_iconst (v := 0) hx hb dX9_fill_0 (by decide) ?_
  refine p_istore (i := 4) hx hb dX9_fill_1 hl (by decide) ⟨⟨ne_ rfl, Or.inl (ne_ rfl)⟩, ⟨⟨ne_ rfl, Or.inl (ne_ rfl)⟩, ⟨⟨ne_ rfl, Or.inl (ne_ rfl)⟩, ⟨⟨ne_ rfl, Or.inr rfl⟩, trivial⟩⟩⟩⟩ (fun ls hl => ?_)
  exact sX9_fill_L3 Y hf _ _ _ _ _ hP hL ⟨rfl, rfl⟩ (lv_sub hl [1, 2, 3, 4, 0] rfl)
set_option maxHeartbeats 4000000 in
theorem metX9_fill (l : Launch) (G : GG_) (x0 : Nat) (x1 : Int32) (x2 : Int32) (x3 : Int32) (σ : Hp) (post : Hp → Prop) (hG : GOK_ G) (hf : wX9_fill x0 x1 x2 x3 σ post) : Met l yX9_fill (ws_ yX9_fill cX9_fill 7 none) { frames := 2, cells := 0, slots := 0, locals := 41 } (PC_ G [rv_ x0, .int x1, .int x2, .int x3] σ) (QV_ G post) 0 0 (FR_ G) := by
  refine Met.ofW (cc := cX9_fill) (maxL := 7) (ret := none) (by decide) rfl ?_
  intro p e s m args below meth c s₁ B hml hv
  obtain ⟨rfl, hP, hW⟩ := hv
  have hts := atoms_spec (ws := ws_ yX9_fill cX9_fill 7 none) B.pre
  have hts : ∀ w ∈ lw_all, w.before _ s = true := fun w h => hts w (List.mem_cons_of_mem _ h)
  rw [lg_entry_eq]
  have hl := en_entry [rv_ x0, .int x1, .int x2, .int x3] [1, 1, 1, 1] (n := 7) (ca_r (ca_i (ca_i (ca_i ca_n)))) (by decide)
  exact sX9_fill ⟨⟨⟨B.exec, B.bytes, hml, findClass_of_methodNamed B.named, hts⟩, hW, hG⟩, B.notSynchronized, B.returns, Nat.le_refl _, Nat.le_refl _, ⟨rfl, rfl⟩, (name_of_methodNamed B.named B.method).1⟩ hf _ _ _ _ _ hP (LO_nil G) ⟨rfl, rfl⟩ hl
abbrev cX9_burn : ByteArray := prog_11_method_8_code
def yX9_burn : MethodName := ⟨RX9, "burn", "(II)I"⟩
theorem dX9_burn_0 : decode cX9_burn 0 = .ok (.aload_n 0, 1) := by decide +kernel
theorem dX9_burn_1 : decode cX9_burn 1 = .ok (.dup, 1) := by decide +kernel
theorem dX9_burn_2 : decode cX9_burn 2 = .ok (.getfield 122, 3) := by decide +kernel
theorem dX9_burn_5 : decode cX9_burn 5 = .ok (.iconst 1, 1) := by decide +kernel
theorem dX9_burn_6 : decode cX9_burn 6 = .ok (.iadd, 1) := by decide +kernel
theorem dX9_burn_7 : decode cX9_burn 7 = .ok (.putfield 122, 3) := by decide +kernel
theorem dX9_burn_10 : decode cX9_burn 10 = .ok (.aload_n 0, 1) := by decide +kernel
theorem dX9_burn_11 : decode cX9_burn 11 = .ok (.getfield 103, 3) := by decide +kernel
theorem dX9_burn_14 : decode cX9_burn 14 = .ok (.ifCond .ne 19, 3) := by decide +kernel
theorem dX9_burn_17 : decode cX9_burn 17 = .ok (.aload_n 0, 1) := by decide +kernel
theorem dX9_burn_18 : decode cX9_burn 18 = .ok (.getfield 14, 3) := by decide +kernel
theorem dX9_burn_21 : decode cX9_burn 21 = .ok (.iload_n 1, 1) := by decide +kernel
theorem dX9_burn_22 : decode cX9_burn 22 = .ok (.iload_n 2, 1) := by decide +kernel
theorem dX9_burn_23 : decode cX9_burn 23 = .ok (.iadd, 1) := by decide +kernel
theorem dX9_burn_24 : decode cX9_burn 24 = .ok (.iconst 2, 1) := by decide +kernel
theorem dX9_burn_25 : decode cX9_burn 25 = .ok (.bastore, 1) := by decide +kernel
theorem dX9_burn_26 : decode cX9_burn 26 = .ok (.aload_n 0, 1) := by decide +kernel
theorem dX9_burn_27 : decode cX9_burn 27 = .ok (.iconst 1, 1) := by decide +kernel
theorem dX9_burn_28 : decode cX9_burn 28 = .ok (.putfield 125, 3) := by decide +kernel
theorem dX9_burn_31 : decode cX9_burn 31 = .ok (.iconst 2, 1) := by decide +kernel
theorem dX9_burn_32 : decode cX9_burn 32 = .ok (.ireturn, 1) := by decide +kernel
theorem dX9_burn_33 : decode cX9_burn 33 = .ok (.aload_n 0, 1) := by decide +kernel
theorem dX9_burn_34 : decode cX9_burn 34 = .ok (.getfield 103, 3) := by decide +kernel
theorem dX9_burn_37 : decode cX9_burn 37 = .ok (.ifCond .le 13, 3) := by decide +kernel
theorem dX9_burn_40 : decode cX9_burn 40 = .ok (.aload_n 0, 1) := by decide +kernel
theorem dX9_burn_41 : decode cX9_burn 41 = .ok (.dup, 1) := by decide +kernel
theorem dX9_burn_42 : decode cX9_burn 42 = .ok (.getfield 103, 3) := by decide +kernel
theorem dX9_burn_45 : decode cX9_burn 45 = .ok (.iconst 1, 1) := by decide +kernel
theorem dX9_burn_46 : decode cX9_burn 46 = .ok (.isub, 1) := by decide +kernel
theorem dX9_burn_47 : decode cX9_burn 47 = .ok (.putfield 103, 3) := by decide +kernel
theorem dX9_burn_50 : decode cX9_burn 50 = .ok (.iload_n 1, 1) := by decide +kernel
theorem dX9_burn_51 : decode cX9_burn 51 = .ok (.aload_n 0, 1) := by decide +kernel
theorem dX9_burn_52 : decode cX9_burn 52 = .ok (.getfield 115, 3) := by decide +kernel
theorem dX9_burn_55 : decode cX9_burn 55 = .ok (.if_icmp .ne 23, 3) := by decide +kernel
theorem dX9_burn_58 : decode cX9_burn 58 = .ok (.aload_n 0, 1) := by decide +kernel
theorem dX9_burn_59 : decode cX9_burn 59 = .ok (.getfield 17, 3) := by decide +kernel
theorem dX9_burn_62 : decode cX9_burn 62 = .ok (.iload_n 2, 1) := by decide +kernel
theorem dX9_burn_63 : decode cX9_burn 63 = .ok (.baload, 1) := by decide +kernel
theorem dX9_burn_64 : decode cX9_burn 64 = .ok (.ifCond .eq 14, 3) := by decide +kernel
theorem dX9_burn_67 : decode cX9_burn 67 = .ok (.aload_n 0, 1) := by decide +kernel
theorem dX9_burn_68 : decode cX9_burn 68 = .ok (.getfield 14, 3) := by decide +kernel
theorem dX9_burn_71 : decode cX9_burn 71 = .ok (.iload_n 1, 1) := by decide +kernel
theorem dX9_burn_72 : decode cX9_burn 72 = .ok (.iload_n 2, 1) := by decide +kernel
theorem dX9_burn_73 : decode cX9_burn 73 = .ok (.iadd, 1) := by decide +kernel
theorem dX9_burn_74 : decode cX9_burn 74 = .ok (.iconst 2, 1) := by decide +kernel
theorem dX9_burn_75 : decode cX9_burn 75 = .ok (.bastore, 1) := by decide +kernel
theorem dX9_burn_76 : decode cX9_burn 76 = .ok (.iconst 1, 1) := by decide +kernel
theorem dX9_burn_77 : decode cX9_burn 77 = .ok (.ireturn, 1) := by decide +kernel
theorem dX9_burn_78 : decode cX9_burn 78 = .ok (.aload_n 0, 1) := by decide +kernel
theorem dX9_burn_79 : decode cX9_burn 79 = .ok (.getfield 14, 3) := by decide +kernel
theorem dX9_burn_82 : decode cX9_burn 82 = .ok (.iload_n 1, 1) := by decide +kernel
theorem dX9_burn_83 : decode cX9_burn 83 = .ok (.iload_n 2, 1) := by decide +kernel
theorem dX9_burn_84 : decode cX9_burn 84 = .ok (.iadd, 1) := by decide +kernel
theorem dX9_burn_85 : decode cX9_burn 85 = .ok (.iconst 1, 1) := by decide +kernel
theorem dX9_burn_86 : decode cX9_burn 86 = .ok (.bastore, 1) := by decide +kernel
theorem dX9_burn_87 : decode cX9_burn 87 = .ok (.iconst 0, 1) := by decide +kernel
theorem dX9_burn_88 : decode cX9_burn 88 = .ok (.istore_n 3, 1) := by decide +kernel
theorem dX9_burn_89 : decode cX9_burn 89 = .ok (.iload_n 3, 1) := by decide +kernel
theorem dX9_burn_90 : decode cX9_burn 90 = .ok (.sipush 2048, 3) := by decide +kernel
theorem dX9_burn_93 : decode cX9_burn 93 = .ok (.if_icmp .ge 29, 3) := by decide +kernel
theorem dX9_burn_96 : decode cX9_burn 96 = .ok (.aload_n 0, 1) := by decide +kernel
theorem dX9_burn_97 : decode cX9_burn 97 = .ok (.getfield 8, 3) := by decide +kernel
theorem dX9_burn_100 : decode cX9_burn 100 = .ok (.sipush 2048, 3) := by decide +kernel
theorem dX9_burn_103 : decode cX9_burn 103 = .ok (.iload_n 1, 1) := by decide +kernel
theorem dX9_burn_104 : decode cX9_burn 104 = .ok (.iload_n 2, 1) := by decide +kernel
theorem dX9_burn_105 : decode cX9_burn 105 = .ok (.iadd, 1) := by decide +kernel
theorem dX9_burn_106 : decode cX9_burn 106 = .ok (.imul, 1) := by decide +kernel
theorem dX9_burn_107 : decode cX9_burn 107 = .ok (.iload_n 3, 1) := by decide +kernel
theorem dX9_burn_108 : decode cX9_burn 108 = .ok (.iadd, 1) := by decide +kernel
theorem dX9_burn_109 : decode cX9_burn 109 = .ok (.aload_n 0, 1) := by decide +kernel
theorem dX9_burn_110 : decode cX9_burn 110 = .ok (.getfield 21, 3) := by decide +kernel
theorem dX9_burn_113 : decode cX9_burn 113 = .ok (.iload_n 3, 1) := by decide +kernel
theorem dX9_burn_114 : decode cX9_burn 114 = .ok (.baload, 1) := by decide +kernel
theorem dX9_burn_115 : decode cX9_burn 115 = .ok (.bastore, 1) := by decide +kernel
theorem dX9_burn_116 : decode cX9_burn 116 = .ok (.iinc 3 1, 3) := by decide +kernel
theorem dX9_burn_119 : decode cX9_burn 119 = .ok (.goto (-30), 3) := by decide +kernel
theorem dX9_burn_122 : decode cX9_burn 122 = .ok (.iconst 0, 1) := by decide +kernel
theorem dX9_burn_123 : decode cX9_burn 123 = .ok (.ireturn, 1) := by decide +kernel
/-- WriteOnceDiscModel.burn(II)I -/
def wX9_burn_B89 (post : Int32 → Hp → Prop) (rc89 : Int32 → Hp → Prop) (x0 : Nat) (x1 : Int32) (x2 : Int32) (x3 : Int32) (σ : Hp) : Prop :=
(((2048 : Int32) ≤ x3 →
  post (0 : Int32) σ) ∧
 (¬ (2048 : Int32) ≤ x3 →
  (tg_ σ x0 = 9 ∧ (tg_ σ (fR_ σ 8 9 x0) = 100 ∧ (vp_in x3 (ln_ σ (fR_ σ 8 9 x0)) ∧ (tg_ σ (fR_ σ 8 3 x0) = 100 ∧ (lo_ σ < (fR_ σ 8 3 x0) ∧ (vp_in (((2048 : Int32) * (x1 + x2)) + x3) (ln_ σ (fR_ σ 8 3 x0)) ∧ (∀ σ8, σ8 = wI_ σ (fR_ σ 8 3 x0) ((((2048 : Int32) * (x1 + x2)) + x3)).toNatClampNeg (vp_nar .byte (aI_ σ (fR_ σ 8 9 x0) (x3).toNatClampNeg)) → (∀ y9 : Int32, y9 = x3 + 1 → rc89 y9 σ8))))))))))
def wX9_burn_L89 (post : Int32 → Hp → Prop) (x0 : Nat) (x1 : Int32) (x2 : Int32) (x3 : Int32) (σ : Hp) : Prop :=
 ∃ (I : Int32 → Hp → Prop) (μ : Int32 → Hp → Nat), I x3 σ ∧ ∀ (x3 : Int32) (σ : Hp), I x3 σ → wX9_burn_B89 post (fun x3' σ' => I x3' σ' ∧ μ x3' σ' < μ x3 σ) x0 x1 x2 x3 σ
def wX9_burn_L78 (post : Int32 → Hp → Prop) (x0 : Nat) (x1 : Int32) (x2 : Int32) (σ : Hp) : Prop :=
(tg_ σ x0 = 9 ∧ (tg_ σ (fR_ σ 8 4 x0) = 100 ∧ (lo_ σ < (fR_ σ 8 4 x0) ∧ (vp_in (x1 + x2) (ln_ σ (fR_ σ 8 4 x0)) ∧ (∀ σ14, σ14 = wI_ σ (fR_ σ 8 4 x0) ((x1 + x2)).toNatClampNeg (vp_nar .byte (1 : Int32)) → wX9_burn_L89 post x0 x1 x2 (0 : Int32) σ14)))))
def wX9_burn_L50 (post : Int32 → Hp → Prop) (x0 : Nat) (x1 : Int32) (x2 : Int32) (σ : Hp) : Prop :=
(tg_ σ x0 = 9 ∧ ((¬ x1 = (fI_ σ 8 2 x0) →
  wX9_burn_L78 post x0 x1 x2 σ) ∧
 (x1 = (fI_ σ 8 2 x0) →
  (tg_ σ (fR_ σ 8 5 x0) = 101 ∧ (vp_in x2 (ln_ σ (fR_ σ 8 5 x0)) ∧ (((aI_ σ (fR_ σ 8 5 x0) (x2).toNatClampNeg) = 0 →
   wX9_burn_L78 post x0 x1 x2 σ) ∧
  (¬ (aI_ σ (fR_ σ 8 5 x0) (x2).toNatClampNeg) = 0 →
   (tg_ σ (fR_ σ 8 4 x0) = 100 ∧ (lo_ σ < (fR_ σ 8 4 x0) ∧ (vp_in (x1 + x2) (ln_ σ (fR_ σ 8 4 x0)) ∧ (∀ σ23, σ23 = wI_ σ (fR_ σ 8 4 x0) ((x1 + x2)).toNatClampNeg (vp_nar .byte (2 : Int32)) → post (1 : Int32) σ23)))))))))))
def wX9_burn (x0 : Nat) (x1 : Int32) (x2 : Int32) (σ : Hp) (post : Int32 → Hp → Prop) : Prop :=
(tg_ σ x0 = 9 ∧ (∀ σ25, σ25 = sI_ σ 8 8 x0 ((fI_ σ 8 8 x0) + (1 : Int32)) → ((¬ (fI_ σ25 8 7 x0) = 0 →
  (((fI_ σ25 8 7 x0) ≤ 0 →
   wX9_burn_L50 post x0 x1 x2 σ25) ∧
  (¬ (fI_ σ25 8 7 x0) ≤ 0 →
   (∀ σ28, σ28 = sI_ σ25 8 7 x0 ((fI_ σ25 8 7 x0) - (1 : Int32)) → wX9_burn_L50 post x0 x1 x2 σ28)))) ∧
 ((fI_ σ25 8 7 x0) = 0 →
  (tg_ σ25 (fR_ σ25 8 4 x0) = 100 ∧ (lo_ σ25 < (fR_ σ25 8 4 x0) ∧ (vp_in (x1 + x2) (ln_ σ25 (fR_ σ25 8 4 x0)) ∧ (∀ σ32, σ32 = wI_ σ25 (fR_ σ25 8 4 x0) ((x1 + x2)).toNatClampNeg (vp_nar .byte (2 : Int32)) → (∀ σ33, σ33 = sI_ σ32 8 6 x0 (1 : Int32) → post (2 : Int32) σ33)))))))))
set_option maxHeartbeats 4000000 in
theorem sX9_burn_B89 {G : GG_} {p : Program} {l : Launch} {e : Env} {R : Room} {s : State} {m : MethodId} {args : Array Value} {below : List Frame} {meth : Method} {c : Code} (Y : MX_ G p R s m args meth c cX9_burn 4 RX9 (some Jvm.ClassFile.FieldType.int) 1 20 0 0 "burn") {post : Int32 → Hp → Prop} {rc89 : Int32 → Hp → Prop} {x0 : Nat} {x1 : Int32} {x2 : Int32} {x3 : Int32} {σ : Hp} (hrc89 : ∀ (x3 : Int32) (σ : Hp), rc89 x3 σ → WG_ G p l e R s m args below meth c (MQ below (QI_ G post) args s 0 0 (FR_ G)) BN_ 4 89 [(0, rv_ x0), (1, .int x1), (2, .int x2), (3, .int x3)] [] σ) (hf : wX9_burn_B89 post rc89 x0 x1 x2 x3 σ) : WG_ G p l e R s m args below meth c (MQ below (QI_ G post) args s 0 0 (FR_ G)) BN_ 4 89 [(0, rv_ x0), (1, .int x1), (2, .int x2), (3, .int x3)] [] σ := by
  have ⟨X, hlk, hr, hRf, hRl, hRc, hnm⟩ := Y
  have ⟨⟨hx, hb, _, hown, hts⟩, _, _⟩ := X
  intro H locs cells slots ls hP hL hB hl
  obtain ⟨rfl, rfl⟩ := hB
  unfold wX9_burn_B89 at hf
  refine lv_iload_n hx hb dX9_burn_89 rfl (lv_at hl 3 rfl) ?_
  refine lv_sipush (v := 2048) hx hb dX9_burn_90 (by decide) ?_
  refine lv_icmp_ge (tgt := 122) hx hb dX9_burn_93 (by decide) (fun c1 => ?_) (fun c1 => ?_)
  · have hf := hf.1 c1
    refine lv_iconst (v := 0) hx hb dX9_burn_122 (by decide) ?_
    exact p_iret X hlk hP hL (Nat.le_refl _) (Nat.le_refl _) hr dX9_burn_123 hf
  · have hf := hf.2 c1
    refine p_aload_n hx hb dX9_burn_96 rfl (lv_at hl 0 rfl) ?_
    obtain ⟨ht2, hf⟩ := hf
    refine p_gR X cf8_ (k := 3) (by decide) rfl hP ht2 q1298 (fun _ h => h) dX9_burn_97 ?_
    refine lv_sipush (v := 2048) hx hb dX9_burn_100 (by decide) ?_
    refine lv_iload_n hx hb dX9_burn_103 rfl (lv_at hl 1 rfl) ?_
    refine lv_iload_n hx hb dX9_burn_104 rfl (lv_at hl 2 rfl) ?_
    refine lv_iadd hx hb dX9_burn_105 ?_
    refine lv_imul hx hb dX9_burn_106 ?_
    refine lv_iload_n hx hb dX9_burn_107 rfl (lv_at hl 3 rfl) ?_
    refine lv_iadd hx hb dX9_burn_108 ?_
    refine p_aload_n hx hb dX9_burn_109 rfl (lv_at hl 0 rfl) ?_
    refine p_gR X cf8_ (k := 9) (by decide) rfl hP ht2 q1304 (fun _ h => h) dX9_burn_110 ?_
    refine lv_iload_n hx hb dX9_burn_113 rfl (lv_at hl 3 rfl) ?_
    obtain ⟨ht3, hf⟩ := hf
    obtain ⟨hi4, hf⟩ := hf
    refine p_bald X hP ht3 hi4 dX9_burn_114 ?_
    obtain ⟨ht5, hf⟩ := hf
    obtain ⟨hlo6, hf⟩ := hf
    obtain ⟨hi7, hf⟩ := hf
    refine p_bast X hP hL ht5 hlo6 hi7 dX9_burn_115 (fun H locs hP hL => ?_)
    refine p_nmP hP (fun σ8 hσ8 hP => ?_)
    have hf := hf σ8 hσ8
    have ht2 : tg_ σ8 x0 = 9 := by rw [hσ8]; exact ht2
    have hl := lv_sub hl [3, 0, 1, 2] rfl
    refine p_iincc (i := 3) (k := 1) hx hb (by decide) dX9_burn_116 hl (by decide) ⟨⟨ne_ rfl, Or.inl (ne_ rfl)⟩, ⟨⟨ne_ rfl, Or.inl (ne_ rfl)⟩, ⟨⟨ne_ rfl, Or.inr rfl⟩, trivial⟩⟩⟩ (fun y9 hy9 ls hl => ?_)
    have hf := hf y9 hy9
    refine lv_goto (tgt := 89) hx hb dX9_burn_119 (by decide) ?_
    exact hrc89 _ _ hf _ _ _ _ _ hP hL ⟨rfl, rfl⟩ (lv_sub hl [1, 2, 3, 0] rfl)
set_option maxHeartbeats 4000000 in
theorem sX9_burn_L89 {G : GG_} {p : Program} {l : Launch} {e : Env} {R : Room} {s : State} {m : MethodId} {args : Array Value} {below : List Frame} {meth : Method} {c : Code} (Y : MX_ G p R s m args meth c cX9_burn 4 RX9 (some Jvm.ClassFile.FieldType.int) 1 20 0 0 "burn") {post : Int32 → Hp → Prop} {x0 : Nat} {x1 : Int32} {x2 : Int32} {x3 : Int32} {σ : Hp} (hf : wX9_burn_L89 post x0 x1 x2 x3 σ) : WG_ G p l e R s m args below meth c (MQ below (QI_ G post) args s 0 0 (FR_ G)) BN_ 4 89 [(0, rv_ x0), (1, .int x1), (2, .int x2), (3, .int x3)] [] σ := by
  unfold wX9_burn_L89 at hf
  obtain ⟨I, μ, h0, hI⟩ := hf
  have key : ∀ (n : Nat) (x3 : Int32) (σ : Hp), I x3 σ → μ x3 σ < n → WG_ G p l e R s m args below meth c (MQ below (QI_ G post) args s 0 0 (FR_ G)) BN_ 4 89 [(0, rv_ x0), (1, .int x1), (2, .int x2), (3, .int x3)] [] σ := by
    intro n
    induction n with
    | zero => intro x3 σ _ h; exact absurd h (Nat.not_lt_zero _)
    | succ n ih => intro x3 σ hi hn; exact sX9_burn_B89 Y (fun x3' σ' h => ih x3' σ' h.1 (Nat.lt_of_lt_of_le h.2 (Nat.le_of_lt_succ hn))) (hI x3 σ hi)
  exact key _ _ _ h0 (Nat.lt_succ_self _)
set_option maxHeartbeats 4000000 in
theorem sX9_burn_L78 {G : GG_} {p : Program} {l : Launch} {e : Env} {R : Room} {s : State} {m : MethodId} {args : Array Value} {below : List Frame} {meth : Method} {c : Code} (Y : MX_ G p R s m args meth c cX9_burn 4 RX9 (some Jvm.ClassFile.FieldType.int) 1 20 0 0 "burn") {post : Int32 → Hp → Prop} {x0 : Nat} {x1 : Int32} {x2 : Int32} {σ : Hp} (hf : wX9_burn_L78 post x0 x1 x2 σ) : WG_ G p l e R s m args below meth c (MQ below (QI_ G post) args s 0 0 (FR_ G)) BN_ 4 78 [(0, rv_ x0), (1, .int x1), (2, .int x2)] [] σ := by
  have ⟨X, hlk, hr, hRf, hRl, hRc, hnm⟩ := Y
  have ⟨⟨hx, hb, _, hown, hts⟩, _, _⟩ := X
  intro H locs cells slots ls hP hL hB hl
  obtain ⟨rfl, rfl⟩ := hB
  unfold wX9_burn_L78 at hf
  refine p_aload_n hx hb dX9_burn_78 rfl (lv_at hl 0 rfl) ?_
  obtain ⟨ht10, hf⟩ := hf
  refine p_gR X cf8_ (k := 4) (by decide) rfl hP ht10 q1299 (fun _ h => h) dX9_burn_79 ?_
  refine lv_iload_n hx hb dX9_burn_82 rfl (lv_at hl 1 rfl) ?_
  refine lv_iload_n hx hb dX9_burn_83 rfl (lv_at hl 2 rfl) ?_
  refine lv_iadd hx hb dX9_burn_84 ?_
  refine lv_iconst (v := 1) hx hb dX9_burn_85 (by decide) ?_
  obtain ⟨ht11, hf⟩ := hf
  obtain ⟨hlo12, hf⟩ := hf
  obtain ⟨hi13, hf⟩ := hf
  refine p_bast X hP hL ht11 hlo12 hi13 dX9_burn_86 (fun H locs hP hL => ?_)
  refine p_nmP hP (fun σ14 hσ14 hP => ?_)
  have hf := hf σ14 hσ14
  have ht10 : tg_ σ14 x0 = 9 := by rw [hσ14]; exact ht10
  refine lv_iconst (v := 0) hx hb dX9_burn_87 (by decide) ?_
  refine p_istore_n (i := 3) hx hb dX9_burn_88 rfl hl (by decide) ⟨⟨ne_ rfl, Or.inl (ne_ rfl)⟩, ⟨⟨ne_ rfl, Or.inl (ne_ rfl)⟩, ⟨⟨ne_ rfl, Or.inr rfl⟩, trivial⟩⟩⟩ (fun ls hl => ?_)
  exact sX9_burn_L89 Y hf _ _ _ _ _ hP hL ⟨rfl, rfl⟩ (lv_sub hl [1, 2, 3, 0] rfl)
set_option maxHeartbeats 4000000 in
theorem sX9_burn_L50 {G : GG_} {p : Program} {l : Launch} {e : Env} {R : Room} {s : State} {m : MethodId} {args : Array Value} {below : List Frame} {meth : Method} {c : Code} (Y : MX_ G p R s m args meth c cX9_burn 4 RX9 (some Jvm.ClassFile.FieldType.int) 1 20 0 0 "burn") {post : Int32 → Hp → Prop} {x0 : Nat} {x1 : Int32} {x2 : Int32} {σ : Hp} (hf : wX9_burn_L50 post x0 x1 x2 σ) : WG_ G p l e R s m args below meth c (MQ below (QI_ G post) args s 0 0 (FR_ G)) BN_ 4 50 [(0, rv_ x0), (1, .int x1), (2, .int x2)] [] σ := by
  have ⟨X, hlk, hr, hRf, hRl, hRc, hnm⟩ := Y
  have ⟨⟨hx, hb, _, hown, hts⟩, _, _⟩ := X
  intro H locs cells slots ls hP hL hB hl
  obtain ⟨rfl, rfl⟩ := hB
  unfold wX9_burn_L50 at hf
  refine lv_iload_n hx hb dX9_burn_50 rfl (lv_at hl 1 rfl) ?_
  refine p_aload_n hx hb dX9_burn_51 rfl (lv_at hl 0 rfl) ?_
  obtain ⟨ht15, hf⟩ := hf
  refine p_gI X cf8_ (k := 2) (by decide) rfl hP ht15 q1297 (fun _ h => h) dX9_burn_52 ?_
  refine lv_icmp_ne (tgt := 78) hx hb dX9_burn_55 (by decide) (fun c16 => ?_) (fun c16 => ?_)
  · have hf := hf.1 c16
    exact sX9_burn_L78 Y hf _ _ _ _ _ hP hL ⟨rfl, rfl⟩ (lv_sub hl [0, 1, 2] rfl)
  · have hf := hf.2 c16
    refine p_aload_n hx hb dX9_burn_58 rfl (lv_at hl 0 rfl) ?_
    refine p_gR X cf8_ (k := 5) (by decide) rfl hP ht15 q1300 (fun _ h => h) dX9_burn_59 ?_
    refine lv_iload_n hx hb dX9_burn_62 rfl (lv_at hl 2 rfl) ?_
    obtain ⟨ht17, hf⟩ := hf
    obtain ⟨hi18, hf⟩ := hf
    refine p_zald X hP ht17 hi18 dX9_burn_63 ?_
    refine lv_if_eq (tgt := 78) hx hb dX9_burn_64 (by decide) (fun c19 => ?_) (fun c19 => ?_)
    · have hf := hf.1 c19
      exact sX9_burn_L78 Y hf _ _ _ _ _ hP hL ⟨rfl, rfl⟩ (lv_sub hl [0, 1, 2] rfl)
    · have hf := hf.2 c19
      refine p_aload_n hx hb dX9_burn_67 rfl (lv_at hl 0 rfl) ?_
      refine p_gR X cf8_ (k := 4) (by decide) rfl hP ht15 q1299 (fun _ h => h) dX9_burn_68 ?_
      refine lv_iload_n hx hb dX9_burn_71 rfl (lv_at hl 1 rfl) ?_
      refine lv_iload_n hx hb dX9_burn_72 rfl (lv_at hl 2 rfl) ?_
      refine lv_iadd hx hb dX9_burn_73 ?_
      refine lv_iconst (v := 2) hx hb dX9_burn_74 (by decide) ?_
      obtain ⟨ht20, hf⟩ := hf
      obtain ⟨hlo21, hf⟩ := hf
      obtain ⟨hi22, hf⟩ := hf
      refine p_bast X hP hL ht20 hlo21 hi22 dX9_burn_75 (fun H locs hP hL => ?_)
      refine p_nmP hP (fun σ23 hσ23 hP => ?_)
      have hf := hf σ23 hσ23
      have ht15 : tg_ σ23 x0 = 9 := by rw [hσ23]; exact ht15
      refine lv_iconst (v := 1) hx hb dX9_burn_76 (by decide) ?_
      exact p_iret X hlk hP hL (Nat.le_refl _) (Nat.le_refl _) hr dX9_burn_77 hf
set_option maxHeartbeats 4000000 in
theorem sX9_burn {G : GG_} {p : Program} {l : Launch} {e : Env} {R : Room} {s : State} {m : MethodId} {args : Array Value} {below : List Frame} {meth : Method} {c : Code} (Y : MX_ G p R s m args meth c cX9_burn 4 RX9 (some Jvm.ClassFile.FieldType.int) 1 20 0 0 "burn") {post : Int32 → Hp → Prop} {x0 : Nat} {x1 : Int32} {x2 : Int32} {σ : Hp} (hf : wX9_burn x0 x1 x2 σ post) : WG_ G p l e R s m args below meth c (MQ below (QI_ G post) args s 0 0 (FR_ G)) BN_ 4 0 [(0, rv_ x0), (1, .int x1), (2, .int x2)] [] σ := by
  have ⟨X, hlk, hr, hRf, hRl, hRc, hnm⟩ := Y
  have ⟨⟨hx, hb, _, hown, hts⟩, _, _⟩ := X
  intro H locs cells slots ls hP hL hB hl
  obtain ⟨rfl, rfl⟩ := hB
  unfold wX9_burn at hf
  refine p_aload_n hx hb dX9_burn_0 rfl (lv_at hl 0 rfl) ?_
  refine lv_dup hx hb dX9_burn_1 (rv_cat _) ?_
  obtain ⟨ht24, hf⟩ := hf
  refine p_gI X cf8_ (k := 8) (by decide) rfl hP ht24 q1303 (fun _ h => h) dX9_burn_2 ?_
  refine lv_iconst (v := 1) hx hb dX9_burn_5 (by decide) ?_
  refine lv_iadd hx hb dX9_burn_6 ?_
  refine p_pI X cf8_ (k := 8) (by decide) rfl hP hL ht24 (p_ow hP ht24 rfl) q1303 (fun _ h => h) (Or.inl rfl) rfl rfl dX9_burn_7 (fun H locs hP hL => ?_)
  refine p_nmP hP (fun σ25 hσ25 hP => ?_)
  have hf := hf σ25 hσ25
  have ht24 : tg_ σ25 x0 = 9 := by rw [hσ25]; exact ht24
  refine p_aload_n hx hb dX9_burn_10 rfl (lv_at hl 0 rfl) ?_
  refine p_gI X cf8_ (k := 7) (by decide) rfl hP ht24 q1302 (fun _ h => h) dX9_burn_11 ?_
  refine lv_if_ne (tgt := 33) hx hb dX9_burn_14 (by decide) (fun c26 => ?_) (fun c26 => ?_)
  · have hf := hf.1 c26
    refine p_aload_n hx hb dX9_burn_33 rfl (lv_at hl 0 rfl) ?_
    refine p_gI X cf8_ (k := 7) (by decide) rfl hP ht24 q1302 (fun _ h => h) dX9_burn_34 ?_
    refine lv_if_le (tgt := 50) hx hb dX9_burn_37 (by decide) (fun c27 => ?_) (fun c27 => ?_)
    · have hf := hf.1 c27
      exact sX9_burn_L50 Y hf _ _ _ _ _ hP hL ⟨rfl, rfl⟩ (lv_sub hl [0, 1, 2] rfl)
    · have hf := hf.2 c27
      refine p_aload_n hx hb dX9_burn_40 rfl (lv_at hl 0 rfl) ?_
      refine lv_dup hx hb dX9_burn_41 (rv_cat _) ?_
      refine p_gI X cf8_ (k := 7) (by decide) rfl hP ht24 q1302 (fun _ h => h) dX9_burn_42 ?_
      refine lv_iconst (v := 1) hx hb dX9_burn_45 (by decide) ?_
      refine lv_isub hx hb dX9_burn_46 ?_
      refine p_pI X cf8_ (k := 7) (by decide) rfl hP hL ht24 (p_ow hP ht24 rfl) q1302 (fun _ h => h) (Or.inl rfl) rfl rfl dX9_burn_47 (fun H locs hP hL => ?_)
      refine p_nmP hP (fun σ28 hσ28 hP => ?_)
      have hf := hf σ28 hσ28
      have ht24 : tg_ σ28 x0 = 9 := by rw [hσ28]; exact ht24
      exact sX9_burn_L50 Y hf _ _ _ _ _ hP hL ⟨rfl, rfl⟩ (lv_sub hl [0, 1, 2] rfl)
  · have hf := hf.2 c26
    refine p_aload_n hx hb dX9_burn_17 rfl (lv_at hl 0 rfl) ?_
    refine p_gR X cf8_ (k := 4) (by decide) rfl hP ht24 q1299 (fun _ h => h) dX9_burn_18 ?_
    refine lv_iload_n hx hb dX9_burn_21 rfl (lv_at hl 1 rfl) ?_
    refine lv_iload_n hx hb dX9_burn_22 rfl (lv_at hl 2 rfl) ?_
    refine lv_iadd hx hb dX9_burn_23 ?_
    refine lv_iconst (v := 2) hx hb dX9_burn_24 (by decide) ?_
    obtain ⟨ht29, hf⟩ := hf
    obtain ⟨hlo30, hf⟩ := hf
    obtain ⟨hi31, hf⟩ := hf
    refine p_bast X hP hL ht29 hlo30 hi31 dX9_burn_25 (fun H locs hP hL => ?_)
    refine p_nmP hP (fun σ32 hσ32 hP => ?_)
    have hf := hf σ32 hσ32
    have ht24 : tg_ σ32 x0 = 9 := by rw [hσ32]; exact ht24
    refine p_aload_n hx hb dX9_burn_26 rfl (lv_at hl 0 rfl) ?_
    refine lv_iconst (v := 1) hx hb dX9_burn_27 (by decide) ?_
    refine p_pI X cf8_ (k := 6) (by decide) rfl hP hL ht24 (p_ow hP ht24 rfl) q1301 (fun _ h => h) (Or.inl rfl) rfl (by decide) dX9_burn_28 (fun H locs hP hL => ?_)
    refine p_nmP hP (fun σ33 hσ33 hP => ?_)
    have hf := hf σ33 hσ33
    have ht24 : tg_ σ33 x0 = 9 := by rw [hσ33]; exact ht24
    refine lv_iconst (v := 2) hx hb dX9_burn_31 (by decide) ?_
    exact p_iret X hlk hP hL (Nat.le_refl _) (Nat.le_refl _) hr dX9_burn_32 hf
set_option maxHeartbeats 4000000 in
theorem metX9_burn (l : Launch) (G : GG_) (x0 : Nat) (x1 : Int32) (x2 : Int32) (σ : Hp) (post : Int32 → Hp → Prop) (hG : GOK_ G) (hf : wX9_burn x0 x1 x2 σ post) : Met l yX9_burn (ws_ yX9_burn cX9_burn 4 (some Jvm.ClassFile.FieldType.int)) { frames := 1, cells := 0, slots := 0, locals := 20 } (PC_ G [rv_ x0, .int x1, .int x2] σ) (QI_ G post) 0 0 (FR_ G) := by
  refine Met.ofW (cc := cX9_burn) (maxL := 4) (ret := (some Jvm.ClassFile.FieldType.int)) (by decide) rfl ?_
  intro p e s m args below meth c s₁ B hml hv
  obtain ⟨rfl, hP, hW⟩ := hv
  have hts := atoms_spec (ws := ws_ yX9_burn cX9_burn 4 (some Jvm.ClassFile.FieldType.int)) B.pre
  have hts : ∀ w ∈ lw_all, w.before _ s = true := fun w h => hts w (List.mem_cons_of_mem _ h)
  rw [lg_entry_eq]
  have hl := en_entry [rv_ x0, .int x1, .int x2] [1, 1, 1] (n := 4) (ca_r (ca_i (ca_i ca_n))) (by decide)
  exact sX9_burn ⟨⟨⟨B.exec, B.bytes, hml, findClass_of_methodNamed B.named, hts⟩, hW, hG⟩, B.notSynchronized, B.returns, Nat.le_refl _, Nat.le_refl _, ⟨rfl, rfl⟩, (name_of_methodNamed B.named B.method).1⟩ hf _ _ _ _ _ hP (LO_nil G) ⟨rfl, rfl⟩ hl
abbrev cX9_lay : ByteArray := prog_11_method_45_code
def yX9_lay : MethodName := ⟨RX9, "lay", "(IIZ)I"⟩
theorem dX9_lay_0 : decode cX9_lay 0 = .ok (.aload_n 0, 1) := by decide +kernel
theorem dX9_lay_1 : decode cX9_lay 1 = .ok (.getfield 38, 3) := by decide +kernel
theorem dX9_lay_4 : decode cX9_lay 4 = .ok (.iload_n 2, 1) := by decide +kernel
theorem dX9_lay_5 : decode cX9_lay 5 = .ok (.iaload, 1) := by decide +kernel
theorem dX9_lay_6 : decode cX9_lay 6 = .ok (.sipush 2047, 3) := by decide +kernel
theorem dX9_lay_9 : decode cX9_lay 9 = .ok (.iadd, 1) := by decide +kernel
theorem dX9_lay_10 : decode cX9_lay 10 = .ok (.sipush 2048, 3) := by decide +kernel
theorem dX9_lay_13 : decode cX9_lay 13 = .ok (.idiv, 1) := by decide +kernel
theorem dX9_lay_14 : decode cX9_lay 14 = .ok (.istore 4, 2) := by decide +kernel
theorem dX9_lay_16 : decode cX9_lay 16 = .ok (.aload_n 0, 1) := by decide +kernel
theorem dX9_lay_17 : decode cX9_lay 17 = .ok (.iload_n 1, 1) := by decide +kernel
theorem dX9_lay_18 : decode cX9_lay 18 = .ok (.invokevirtual 228, 3) := by decide +kernel
theorem dX9_lay_21 : decode cX9_lay 21 = .ok (.istore 5, 2) := by decide +kernel
theorem dX9_lay_23 : decode cX9_lay 23 = .ok (.iload 5, 2) := by decide +kernel
theorem dX9_lay_25 : decode cX9_lay 25 = .ok (.iload 4, 2) := by decide +kernel
theorem dX9_lay_27 : decode cX9_lay 27 = .ok (.iadd, 1) := by decide +kernel
theorem dX9_lay_28 : decode cX9_lay 28 = .ok (.aload_n 0, 1) := by decide +kernel
theorem dX9_lay_29 : decode cX9_lay 29 = .ok (.getfield 99, 3) := by decide +kernel
theorem dX9_lay_32 : decode cX9_lay 32 = .ok (.if_icmp .le 6, 3) := by decide +kernel
theorem dX9_lay_35 : decode cX9_lay 35 = .ok (.bipush (-3), 2) := by decide +kernel
theorem dX9_lay_37 : decode cX9_lay 37 = .ok (.ireturn, 1) := by decide +kernel
theorem dX9_lay_38 : decode cX9_lay 38 = .ok (.iconst 0, 1) := by decide +kernel
theorem dX9_lay_39 : decode cX9_lay 39 = .ok (.istore 6, 2) := by decide +kernel
theorem dX9_lay_41 : decode cX9_lay 41 = .ok (.iconst 0, 1) := by decide +kernel
theorem dX9_lay_42 : decode cX9_lay 42 = .ok (.istore 7, 2) := by decide +kernel
theorem dX9_lay_44 : decode cX9_lay 44 = .ok (.iload 7, 2) := by decide +kernel
theorem dX9_lay_46 : decode cX9_lay 46 = .ok (.iload 4, 2) := by decide +kernel
theorem dX9_lay_48 : decode cX9_lay 48 = .ok (.if_icmp .ge 34, 3) := by decide +kernel
theorem dX9_lay_51 : decode cX9_lay 51 = .ok (.iload 6, 2) := by decide +kernel
theorem dX9_lay_53 : decode cX9_lay 53 = .ok (.ifCond .ne 29, 3) := by decide +kernel
theorem dX9_lay_56 : decode cX9_lay 56 = .ok (.aload_n 0, 1) := by decide +kernel
theorem dX9_lay_57 : decode cX9_lay 57 = .ok (.iload_n 2, 1) := by decide +kernel
theorem dX9_lay_58 : decode cX9_lay 58 = .ok (.iload 7, 2) := by decide +kernel
theorem dX9_lay_60 : decode cX9_lay 60 = .ok (.iload_n 3, 1) := by decide +kernel
theorem dX9_lay_61 : decode cX9_lay 61 = .ok (.invokevirtual 231, 3) := by decide +kernel
theorem dX9_lay_64 : decode cX9_lay 64 = .ok (.aload_n 0, 1) := by decide +kernel
theorem dX9_lay_65 : decode cX9_lay 65 = .ok (.iload_n 1, 1) := by decide +kernel
theorem dX9_lay_66 : decode cX9_lay 66 = .ok (.iload 5, 2) := by decide +kernel
theorem dX9_lay_68 : decode cX9_lay 68 = .ok (.iload 7, 2) := by decide +kernel
theorem dX9_lay_70 : decode cX9_lay 70 = .ok (.iadd, 1) := by decide +kernel
theorem dX9_lay_71 : decode cX9_lay 71 = .ok (.invokevirtual 235, 3) := by decide +kernel
theorem dX9_lay_74 : decode cX9_lay 74 = .ok (.istore 6, 2) := by decide +kernel
theorem dX9_lay_76 : decode cX9_lay 76 = .ok (.iinc 7 1, 3) := by decide +kernel
theorem dX9_lay_79 : decode cX9_lay 79 = .ok (.goto (-35), 3) := by decide +kernel
theorem dX9_lay_82 : decode cX9_lay 82 = .ok (.iload 6, 2) := by decide +kernel
theorem dX9_lay_84 : decode cX9_lay 84 = .ok (.iconst 2, 1) := by decide +kernel
theorem dX9_lay_85 : decode cX9_lay 85 = .ok (.if_icmp .ne 6, 3) := by decide +kernel
theorem dX9_lay_88 : decode cX9_lay 88 = .ok (.bipush (-4), 2) := by decide +kernel
theorem dX9_lay_90 : decode cX9_lay 90 = .ok (.ireturn, 1) := by decide +kernel
theorem dX9_lay_91 : decode cX9_lay 91 = .ok (.iload 6, 2) := by decide +kernel
theorem dX9_lay_93 : decode cX9_lay 93 = .ok (.iconst 1, 1) := by decide +kernel
theorem dX9_lay_94 : decode cX9_lay 94 = .ok (.if_icmp .ne 6, 3) := by decide +kernel
theorem dX9_lay_97 : decode cX9_lay 97 = .ok (.goto (-81), 3) := by decide +kernel
theorem dX9_lay_100 : decode cX9_lay 100 = .ok (.aload_n 0, 1) := by decide +kernel
theorem dX9_lay_101 : decode cX9_lay 101 = .ok (.getfield 47, 3) := by decide +kernel
theorem dX9_lay_104 : decode cX9_lay 104 = .ok (.iload_n 2, 1) := by decide +kernel
theorem dX9_lay_105 : decode cX9_lay 105 = .ok (.iload 5, 2) := by decide +kernel
theorem dX9_lay_107 : decode cX9_lay 107 = .ok (.iastore, 1) := by decide +kernel
theorem dX9_lay_108 : decode cX9_lay 108 = .ok (.iconst 0, 1) := by decide +kernel
theorem dX9_lay_109 : decode cX9_lay 109 = .ok (.ireturn, 1) := by decide +kernel
/-- WriteOnceDiscModel.lay(IIZ)I -/
def wX9_lay_L82 (post : Int32 → Hp → Prop) (rc16 : Hp → Prop) (x0 : Nat) (x1 : Int32) (x2 : Int32) (x3 : Int32) (x4 : Int32) (x5 : Int32) (x6 : Int32) (σ : Hp) : Prop :=
((¬ x6 = (2 : Int32) →
  ((¬ x6 = (1 : Int32) →
   (tg_ σ x0 = 9 ∧ (tg_ σ (fR_ σ 8 18 x0) = 102 ∧ (lo_ σ < (fR_ σ 8 18 x0) ∧ (vp_in x2 (ln_ σ (fR_ σ 8 18 x0)) ∧ (∀ σ7, σ7 = wI_ σ (fR_ σ 8 18 x0) (x2).toNatClampNeg x5 → post (0 : Int32) σ7)))))) ∧
  (x6 = (1 : Int32) →
   rc16 σ))) ∧
 (x6 = (2 : Int32) →
  post (-4 : Int32) σ))
def wX9_lay_B44 (post : Int32 → Hp → Prop) (rc16 : Hp → Prop) (rc44 : Int32 → Int32 → Hp → Prop) (x0 : Nat) (x1 : Int32) (x2 : Int32) (x3 : Int32) (x4 : Int32) (x5 : Int32) (x6 : Int32) (x7 : Int32) (σ : Hp) : Prop :=
((x4 ≤ x7 →
  wX9_lay_L82 post rc16 x0 x1 x2 x3 x4 x5 x6 σ) ∧
 (¬ x4 ≤ x7 →
  ((¬ x6 = 0 →
   wX9_lay_L82 post rc16 x0 x1 x2 x3 x4 x5 x6 σ) ∧
  (x6 = 0 →
   (tg_ σ x0 = 9 ∧ (wX9_fill x0 x2 x7 x3 σ (fun σ11 => (tg_ σ11 x0 = 9 ∧ (wX9_burn x0 x1 (x5 + x7) σ11 (fun r13 σ14 => (∀ y15 : Int32, y15 = x7 + 1 → rc44 r13 y15 σ14)))))))))))
def wX9_lay_L44 (post : Int32 → Hp → Prop) (rc16 : Hp → Prop) (x0 : Nat) (x1 : Int32) (x2 : Int32) (x3 : Int32) (x4 : Int32) (x5 : Int32) (x6 : Int32) (x7 : Int32) (σ : Hp) : Prop :=
 ∃ (I : Int32 → Int32 → Hp → Prop) (μ : Int32 → Int32 → Hp → Nat), I x6 x7 σ ∧ ∀ (x6 : Int32) (x7 : Int32) (σ : Hp), I x6 x7 σ → wX9_lay_B44 post rc16 (fun x6' x7' σ' => I x6' x7' σ' ∧ μ x6' x7' σ' < μ x6 x7 σ) x0 x1 x2 x3 x4 x5 x6 x7 σ
def wX9_lay_B16 (post : Int32 → Hp → Prop) (rc16 : Hp → Prop) (x0 : Nat) (x1 : Int32) (x2 : Int32) (x3 : Int32) (x4 : Int32) (σ : Hp) : Prop :=
(tg_ σ x0 = 9 ∧ (wX9_frontOf x0 x1 σ (fun r17 => (((r17 + x4) ≤ (fI_ σ 8 1 x0) →
  wX9_lay_L44 post rc16 x0 x1 x2 x3 x4 r17 (0 : Int32) (0 : Int32) σ) ∧
 (¬ (r17 + x4) ≤ (fI_ σ 8 1 x0) →
  post (-3 : Int32) σ)))))
def wX9_lay_L16 (post : Int32 → Hp → Prop) (x0 : Nat) (x1 : Int32) (x2 : Int32) (x3 : Int32) (x4 : Int32) (σ : Hp) : Prop :=
 ∃ (I : Hp → Prop) (μ : Hp → Nat), I σ ∧ ∀  (σ : Hp), I σ → wX9_lay_B16 post (fun σ' => I σ' ∧ μ σ' < μ σ) x0 x1 x2 x3 x4 σ
def wX9_lay (x0 : Nat) (x1 : Int32) (x2 : Int32) (x3 : Int32) (σ : Hp) (post : Int32 → Hp → Prop) : Prop :=
(tg_ σ x0 = 9 ∧ (tg_ σ (fR_ σ 8 15 x0) = 102 ∧ (vp_in x2 (ln_ σ (fR_ σ 8 15 x0)) ∧ (∀ y22 : Int32, y22 = (((aI_ σ (fR_ σ 8 15 x0) (x2).toNatClampNeg) + (2047 : Int32)) / (2048 : Int32)) → wX9_lay_L16 post x0 x1 x2 x3 y22 σ))))
set_option maxHeartbeats 4000000 in
theorem sX9_lay_L82 {G : GG_} {p : Program} {l : Launch} {e : Env} {R : Room} {s : State} {m : MethodId} {args : Array Value} {below : List Frame} {meth : Method} {c : Code} (Y : MX_ G p R s m args meth c cX9_lay 8 RX9 (some Jvm.ClassFile.FieldType.int) 3 67 0 0 "lay") {post : Int32 → Hp → Prop} {rc16 : Hp → Prop} {x0 : Nat} {x1 : Int32} {x2 : Int32} {x3 : Int32} {x4 : Int32} {x5 : Int32} {x6 : Int32} {σ : Hp} (hrc16 : ∀  (σ : Hp), rc16 σ → WG_ G p l e R s m args below meth c (MQ below (QI_ G post) args s 0 0 (FR_ G)) BN_ 8 16 [(0, rv_ x0), (1, .int x1), (2, .int x2), (3, .int x3), (4, .int x4)] [] σ) (hf : wX9_lay_L82 post rc16 x0 x1 x2 x3 x4 x5 x6 σ) : WG_ G p l e R s m args below meth c (MQ below (QI_ G post) args s 0 0 (FR_ G)) BN_ 8 82 [(0, rv_ x0), (1, .int x1), (2, .int x2), (3, .int x3), (4, .int x4), (5, .int x5), (6, .int x6)] [] σ := by
  have ⟨X, hlk, hr, hRf, hRl, hRc, hnm⟩ := Y
  have ⟨⟨hx, hb, _, hown, hts⟩, _, _⟩ := X
  intro H locs cells slots ls hP hL hB hl
  obtain ⟨rfl, rfl⟩ := hB
  unfold wX9_lay_L82 at hf
  refine lv_iload hx hb dX9_lay_82 (lv_at hl 6 rfl) ?_
  refine lv_iconst (v := 2) hx hb dX9_lay_84 (by decide) ?_
  refine lv_icmp_ne (tgt := 91) hx hb dX9_lay_85 (by decide) (fun c1 => ?_) (fun c1 => ?_)
  · have hf := hf.1 c1
    refine lv_iload hx hb dX9_lay_91 (lv_at hl 6 rfl) ?_
    refine lv_iconst (v := 1) hx hb dX9_lay_93 (by decide) ?_
    refine lv_icmp_ne (tgt := 100) hx hb dX9_lay_94 (by decide) (fun c2 => ?_) (fun c2 => ?_)
    · have hf := hf.1 c2
      refine p_aload_n hx hb dX9_lay_100 rfl (lv_at hl 0 rfl) ?_
      obtain ⟨ht3, hf⟩ := hf
      refine p_gR X cf8_ (k := 18) (by decide) rfl hP ht3 q1313 (fun _ h => h) dX9_lay_101 ?_
      refine lv_iload_n hx hb dX9_lay_104 rfl (lv_at hl 2 rfl) ?_
      refine lv_iload hx hb dX9_lay_105 (lv_at hl 5 rfl) ?_
      obtain ⟨ht4, hf⟩ := hf
      obtain ⟨hlo5, hf⟩ := hf
      obtain ⟨hi6, hf⟩ := hf
      refine p_iast X hP hL ht4 hlo5 hi6 dX9_lay_107 (fun H locs hP hL => ?_)
      refine p_nmP hP (fun σ7 hσ7 hP => ?_)
      have hf := hf σ7 hσ7
      have ht3 : tg_ σ7 x0 = 9 := by rw [hσ7]; exact ht3
      refine lv_iconst (v := 0) hx hb dX9_lay_108 (by decide) ?_
      exact p_iret X hlk hP hL (Nat.le_refl _) (Nat.le_refl _) hr dX9_lay_109 hf
    · have hf := hf.2 c2
      refine lv_goto (tgt := 16) hx hb dX9_lay_97 (by decide) ?_
      exact hrc16 _ hf _ _ _ _ _ hP hL ⟨rfl, rfl⟩ (lv_sub hl [0, 1, 2, 3, 4] rfl)
  · have hf := hf.2 c1
    refine lv_bipush (v := (-4)) hx hb dX9_lay_88 (by decide) ?_
    exact p_iret X hlk hP hL (Nat.le_refl _) (Nat.le_refl _) hr dX9_lay_90 hf
set_option maxHeartbeats 4000000 in
theorem sX9_lay_B44 {G : GG_} {p : Program} {l : Launch} {e : Env} {R : Room} {s : State} {m : MethodId} {args : Array Value} {below : List Frame} {meth : Method} {c : Code} (Y : MX_ G p R s m args meth c cX9_lay 8 RX9 (some Jvm.ClassFile.FieldType.int) 3 67 0 0 "lay") {post : Int32 → Hp → Prop} {rc16 : Hp → Prop} {rc44 : Int32 → Int32 → Hp → Prop} {x0 : Nat} {x1 : Int32} {x2 : Int32} {x3 : Int32} {x4 : Int32} {x5 : Int32} {x6 : Int32} {x7 : Int32} {σ : Hp} (hrc16 : ∀  (σ : Hp), rc16 σ → WG_ G p l e R s m args below meth c (MQ below (QI_ G post) args s 0 0 (FR_ G)) BN_ 8 16 [(0, rv_ x0), (1, .int x1), (2, .int x2), (3, .int x3), (4, .int x4)] [] σ) (hrc44 : ∀ (x6 : Int32) (x7 : Int32) (σ : Hp), rc44 x6 x7 σ → WG_ G p l e R s m args below meth c (MQ below (QI_ G post) args s 0 0 (FR_ G)) BN_ 8 44 [(0, rv_ x0), (1, .int x1), (2, .int x2), (3, .int x3), (4, .int x4), (5, .int x5), (6, .int x6), (7, .int x7)] [] σ) (hf : wX9_lay_B44 post rc16 rc44 x0 x1 x2 x3 x4 x5 x6 x7 σ) : WG_ G p l e R s m args below meth c (MQ below (QI_ G post) args s 0 0 (FR_ G)) BN_ 8 44 [(0, rv_ x0), (1, .int x1), (2, .int x2), (3, .int x3), (4, .int x4), (5, .int x5), (6, .int x6), (7, .int x7)] [] σ := by
  have ⟨X, hlk, hr, hRf, hRl, hRc, hnm⟩ := Y
  have ⟨⟨hx, hb, _, hown, hts⟩, _, _⟩ := X
  intro H locs cells slots ls hP hL hB hl
  obtain ⟨rfl, rfl⟩ := hB
  unfold wX9_lay_B44 at hf
  refine lv_iload hx hb dX9_lay_44 (lv_at hl 7 rfl) ?_
  refine lv_iload hx hb dX9_lay_46 (lv_at hl 4 rfl) ?_
  refine lv_icmp_ge (tgt := 82) hx hb dX9_lay_48 (by decide) (fun c8 => ?_) (fun c8 => ?_)
  · have hf := hf.1 c8
    exact sX9_lay_L82 Y hrc16 hf _ _ _ _ _ hP hL ⟨rfl, rfl⟩ (lv_sub hl [0, 1, 2, 3, 4, 5, 6] rfl)
  · have hf := hf.2 c8
    refine lv_iload hx hb dX9_lay_51 (lv_at hl 6 rfl) ?_
    refine lv_if_ne (tgt := 82) hx hb dX9_lay_53 (by decide) (fun c9 => ?_) (fun c9 => ?_)
    · have hf := hf.1 c9
      exact sX9_lay_L82 Y hrc16 hf _ _ _ _ _ hP hL ⟨rfl, rfl⟩ (lv_sub hl [0, 1, 2, 3, 4, 5, 6] rfl)
    · have hf := hf.2 c9
      refine p_aload_n hx hb dX9_lay_56 rfl (lv_at hl 0 rfl) ?_
      refine lv_iload_n hx hb dX9_lay_57 rfl (lv_at hl 2 rfl) ?_
      refine lv_iload hx hb dX9_lay_58 (lv_at hl 7 rfl) ?_
      refine lv_iload_n hx hb dX9_lay_60 rfl (lv_at hl 3 rfl) ?_
      obtain ⟨ht10, hf⟩ := hf
      refine p_callv hL (p_runV X cf8_ hP ht10 (metX9_fill l G _ _ _ _ _ _ X.2.2 hf) (cwV 3 hts (lw_V q1504 q1506 qs51 q106 q1507) rfl rfl rfl (by decide +kernel) ⟨Nat.le_trans (Nat.le_of_ble_eq_true rfl) hRf, Nat.le_trans (Nat.le_of_ble_eq_true rfl) hRl⟩) rfl hl.1 rfl (by decide) dX9_lay_61 ⟨Nat.zero_le _, Nat.zero_le _⟩) (fun σ11 H locs hf hP hL => ?_)
      refine p_aload_n hx hb dX9_lay_64 rfl (lv_at hl 0 rfl) ?_
      refine lv_iload_n hx hb dX9_lay_65 rfl (lv_at hl 1 rfl) ?_
      refine lv_iload hx hb dX9_lay_66 (lv_at hl 5 rfl) ?_
      refine lv_iload hx hb dX9_lay_68 (lv_at hl 7 rfl) ?_
      refine lv_iadd hx hb dX9_lay_70 ?_
      obtain ⟨ht12, hf⟩ := hf
      refine p_calli hL (p_runV X cf8_ hP ht12 (metX9_burn l G _ _ _ _ _ X.2.2 hf) (cwV 2 hts (lw_V q1512 q1514 qs53 q106 q1515) rfl rfl rfl (by decide +kernel) ⟨Nat.le_trans (Nat.le_of_ble_eq_true rfl) hRf, Nat.le_trans (Nat.le_of_ble_eq_true rfl) hRl⟩) rfl hl.1 rfl (by decide) dX9_lay_71 ⟨Nat.zero_le _, Nat.zero_le _⟩) (fun r13 σ14 H locs hf hP hL => ?_)
      have hl := lv_sub hl [0, 1, 2, 3, 4, 5, 7] rfl
      refine p_istore (i := 6) hx hb dX9_lay_74 hl (by decide) ⟨⟨ne_ rfl, Or.inl (ne_ rfl)⟩, ⟨⟨ne_ rfl, Or.inl (ne_ rfl)⟩, ⟨⟨ne_ rfl, Or.inl (ne_ rfl)⟩, ⟨⟨ne_ rfl, Or.inl (ne_ rfl)⟩, ⟨⟨ne_ rfl, Or.inl (ne_ rfl)⟩, ⟨⟨ne_ rfl, Or.inr rfl⟩, ⟨⟨ne_ rfl, Or.inl (ne_ rfl)⟩, trivial⟩⟩⟩⟩⟩⟩⟩ (fun ls hl => ?_)
      have hl := lv_sub hl [7, 0, 1, 2, 3, 4, 5, 6] rfl
      refine p_iincc (i := 7) (k := 1) hx hb (by decide) dX9_lay_76 hl (by decide) ⟨⟨ne_ rfl, Or.inr rfl⟩, ⟨⟨ne_ rfl, Or.inl (ne_ rfl)⟩, ⟨⟨ne_ rfl, Or.inl (ne_ rfl)⟩, ⟨⟨ne_ rfl, Or.inl (ne_ rfl)⟩, ⟨⟨ne_ rfl, Or.inl (ne_ rfl)⟩, ⟨⟨ne_ rfl, Or.inl (ne_ rfl)⟩, ⟨⟨ne_ rfl, Or.inl (ne_ rfl)⟩, trivial⟩⟩⟩⟩⟩⟩⟩ (fun y15 hy15 ls hl => ?_)
      have hf := hf y15 hy15
      refine lv_goto (tgt := 44) hx hb dX9_lay_79 (by decide) ?_
      exact hrc44 _ _ _ hf _ _ _ _ _ hP hL ⟨rfl, rfl⟩ (lv_sub hl [2, 3, 4, 5, 6, 7, 1, 0] rfl)
set_option maxHeartbeats 4000000 in
theorem sX9_lay_L44 {G : GG_} {p : Program} {l : Launch} {e : Env} {R : Room} {s : State} {m : MethodId} {args : Array Value} {below : List Frame} {meth : Method} {c : Code} (Y : MX_ G p R s m args meth c cX9_lay 8 RX9 (some Jvm.ClassFile.FieldType.int) 3 67 0 0 "lay") {post : Int32 → Hp → Prop} {rc16 : Hp → Prop} {x0 : Nat} {x1 : Int32} {x2 : Int32} {x3 : Int32} {x4 : Int32} {x5 : Int32} {x6 : Int32} {x7 : Int32} {σ : Hp} (hrc16 : ∀  (σ : Hp), rc16 σ → WG_ G p l e R s m args below meth c (MQ below (QI_ G post) args s 0 0 (FR_ G)) BN_ 8 16 [(0, rv_ x0), (1, .int x1), (2, .int x2), (3, .int x3), (4, .int x4)] [] σ) (hf : wX9_lay_L44 post rc16 x0 x1 x2 x3 x4 x5 x6 x7 σ) : WG_ G p l e R s m args below meth c (MQ below (QI_ G post) args s 0 0 (FR_ G)) BN_ 8 44 [(0, rv_ x0), (1, .int x1), (2, .int x2), (3, .int x3), (4, .int x4), (5, .int x5), (6, .int x6), (7, .int x7)] [] σ := by
  unfold wX9_lay_L44 at hf
  obtain ⟨I, μ, h0, hI⟩ := hf
  have key : ∀ (n : Nat) (x6 : Int32) (x7 : Int32) (σ : Hp), I x6 x7 σ → μ x6 x7 σ < n → WG_ G p l e R s m args below meth c (MQ below (QI_ G post) args s 0 0 (FR_ G)) BN_ 8 44 [(0, rv_ x0), (1, .int x1), (2, .int x2), (3, .int x3), (4, .int x4), (5, .int x5), (6, .int x6), (7, .int x7)] [] σ := by
    intro n
    induction n with
    | zero => intro x6 x7 σ _ h; exact absurd h (Nat.not_lt_zero _)
    | succ n ih => intro x6 x7 σ hi hn; exact sX9_lay_B44 Y hrc16 (fun x6' x7' σ' h => ih x6' x7' σ' h.1 (Nat.lt_of_lt_of_le h.2 (Nat.le_of_lt_succ hn))) (hI x6 x7 σ hi)
  exact key _ _ _ _ h0 (Nat.lt_succ_self _)
set_option maxHeartbeats 4000000 in
theorem sX9_lay_B16 {G : GG_} {p : Program} {l : Launch} {e : Env} {R : Room} {s : State} {m : MethodId} {args : Array Value} {below : List Frame} {meth : Method} {c : Code} (Y : MX_ G p R s m args meth c cX9_lay 8 RX9 (some Jvm.ClassFile.FieldType.int) 3 67 0 0 "lay") {post : Int32 → Hp → Prop} {rc16 : Hp → Prop} {x0 : Nat} {x1 : Int32} {x2 : Int32} {x3 : Int32} {x4 : Int32} {σ : Hp} (hrc16 : ∀  (σ : Hp), rc16 σ → WG_ G p l e R s m args below meth c (MQ below (QI_ G post) args s 0 0 (FR_ G)) BN_ 8 16 [(0, rv_ x0), (1, .int x1), (2, .int x2), (3, .int x3), (4, .int x4)] [] σ) (hf : wX9_lay_B16 post rc16 x0 x1 x2 x3 x4 σ) : WG_ G p l e R s m args below meth c (MQ below (QI_ G post) args s 0 0 (FR_ G)) BN_ 8 16 [(0, rv_ x0), (1, .int x1), (2, .int x2), (3, .int x3), (4, .int x4)] [] σ := by
  have ⟨X, hlk, hr, hRf, hRl, hRc, hnm⟩ := Y
  have ⟨⟨hx, hb, _, hown, hts⟩, _, _⟩ := X
  intro H locs cells slots ls hP hL hB hl
  obtain ⟨rfl, rfl⟩ := hB
  unfold wX9_lay_B16 at hf
  refine p_aload_n hx hb dX9_lay_16 rfl (lv_at hl 0 rfl) ?_
  refine lv_iload_n hx hb dX9_lay_17 rfl (lv_at hl 1 rfl) ?_
  obtain ⟨ht16, hf⟩ := hf
  refine p_calli hL (p_runV X cf8_ hP ht16 (metX9_frontOf l G _ _ _ _ X.2.2 hf) (cwV 1 hts (lw_V q1500 q1502 qs50 q106 q1503) rfl rfl rfl (by decide +kernel) ⟨Nat.le_trans (Nat.le_of_ble_eq_true rfl) hRf, Nat.le_trans (Nat.le_of_ble_eq_true rfl) hRl⟩) rfl hl.1 rfl (by decide) dX9_lay_18 ⟨Nat.zero_le _, Nat.zero_le _⟩) (fun r17 σ₁ H locs hf hP hL => ?_)
  obtain ⟨e₁, hf⟩ := hf
  rw [e₁] at hP
  refine p_istore (i := 5) hx hb dX9_lay_21 hl (by decide) ⟨⟨ne_ rfl, Or.inl (ne_ rfl)⟩, ⟨⟨ne_ rfl, Or.inl (ne_ rfl)⟩, ⟨⟨ne_ rfl, Or.inl (ne_ rfl)⟩, ⟨⟨ne_ rfl, Or.inl (ne_ rfl)⟩, ⟨⟨ne_ rfl, Or.inr rfl⟩, trivial⟩⟩⟩⟩⟩ (fun ls hl => ?_)
  refine lv_iload hx hb dX9_lay_23 (lv_at hl 0 rfl) ?_
  refine lv_iload hx hb dX9_lay_25 (lv_at hl 5 rfl) ?_
  refine lv_iadd hx hb dX9_lay_27 ?_
  refine p_aload_n hx hb dX9_lay_28 rfl (lv_at hl 1 rfl) ?_
  refine p_gI X cf8_ (k := 1) (by decide) rfl hP ht16 q1296 (fun _ h => h) dX9_lay_29 ?_
  refine lv_icmp_le (tgt := 38) hx hb dX9_lay_32 (by decide) (fun c18 => ?_) (fun c18 => ?_)
  · have hf := hf.1 c18
    refine lv_iconst (v := 0) hx hb dX9_lay_38 (by decide) ?_
    refine p_istore (i := 6) hx hb dX9_lay_39 hl (by decide) ⟨⟨ne_ rfl, Or.inr rfl⟩, ⟨⟨ne_ rfl, Or.inl (ne_ rfl)⟩, ⟨⟨ne_ rfl, Or.inl (ne_ rfl)⟩, ⟨⟨ne_ rfl, Or.inl (ne_ rfl)⟩, ⟨⟨ne_ rfl, Or.inl (ne_ rfl)⟩, ⟨⟨ne_ rfl, Or.inl (ne_ rfl)⟩, trivial⟩⟩⟩⟩⟩⟩ (fun ls hl => ?_)
    refine lv_iconst (v := 0) hx hb dX9_lay_41 (by decide) ?_
    refine p_istore (i := 7) hx hb dX9_lay_42 hl (by decide) ⟨⟨ne_ rfl, Or.inr rfl⟩, ⟨⟨ne_ rfl, Or.inl (ne_ rfl)⟩, ⟨⟨ne_ rfl, Or.inl (ne_ rfl)⟩, ⟨⟨ne_ rfl, Or.inl (ne_ rfl)⟩, ⟨⟨ne_ rfl, Or.inl (ne_ rfl)⟩, ⟨⟨ne_ rfl, Or.inl (ne_ rfl)⟩, ⟨⟨ne_ rfl, Or.inl (ne_ rfl)⟩, trivial⟩⟩⟩⟩⟩⟩⟩ (fun ls hl => ?_)
    exact sX9_lay_L44 Y hrc16 hf _ _ _ _ _ hP hL ⟨rfl, rfl⟩ (lv_sub hl [3, 4, 5, 6, 7, 2, 1, 0] rfl)
  · have hf := hf.2 c18
    refine lv_bipush (v := (-3)) hx hb dX9_lay_35 (by decide) ?_
    exact p_iret X hlk hP hL (Nat.le_refl _) (Nat.le_refl _) hr dX9_lay_37 hf
set_option maxHeartbeats 4000000 in
theorem sX9_lay_L16 {G : GG_} {p : Program} {l : Launch} {e : Env} {R : Room} {s : State} {m : MethodId} {args : Array Value} {below : List Frame} {meth : Method} {c : Code} (Y : MX_ G p R s m args meth c cX9_lay 8 RX9 (some Jvm.ClassFile.FieldType.int) 3 67 0 0 "lay") {post : Int32 → Hp → Prop} {x0 : Nat} {x1 : Int32} {x2 : Int32} {x3 : Int32} {x4 : Int32} {σ : Hp} (hf : wX9_lay_L16 post x0 x1 x2 x3 x4 σ) : WG_ G p l e R s m args below meth c (MQ below (QI_ G post) args s 0 0 (FR_ G)) BN_ 8 16 [(0, rv_ x0), (1, .int x1), (2, .int x2), (3, .int x3), (4, .int x4)] [] σ := by
  unfold wX9_lay_L16 at hf
  obtain ⟨I, μ, h0, hI⟩ := hf
  have key : ∀ (n : Nat)  (σ : Hp), I σ → μ σ < n → WG_ G p l e R s m args below meth c (MQ below (QI_ G post) args s 0 0 (FR_ G)) BN_ 8 16 [(0, rv_ x0), (1, .int x1), (2, .int x2), (3, .int x3), (4, .int x4)] [] σ := by
    intro n
    induction n with
    | zero => intro σ _ h; exact absurd h (Nat.not_lt_zero _)
    | succ n ih => intro σ hi hn; exact sX9_lay_B16 Y (fun σ' h => ih σ' h.1 (Nat.lt_of_lt_of_le h.2 (Nat.le_of_lt_succ hn))) (hI σ hi)
  exact key _ _ h0 (Nat.lt_succ_self _)
set_option maxHeartbeats 4000000 in
theorem sX9_lay {G : GG_} {p : Program} {l : Launch} {e : Env} {R : Room} {s : State} {m : MethodId} {args : Array Value} {below : List Frame} {meth : Method} {c : Code} (Y : MX_ G p R s m args meth c cX9_lay 8 RX9 (some Jvm.ClassFile.FieldType.int) 3 67 0 0 "lay") {post : Int32 → Hp → Prop} {x0 : Nat} {x1 : Int32} {x2 : Int32} {x3 : Int32} {σ : Hp} (hf : wX9_lay x0 x1 x2 x3 σ post) : WG_ G p l e R s m args below meth c (MQ below (QI_ G post) args s 0 0 (FR_ G)) BN_ 8 0 [(0, rv_ x0), (1, .int x1), (2, .int x2), (3, .int x3)] [] σ := by
  have ⟨X, hlk, hr, hRf, hRl, hRc, hnm⟩ := Y
  have ⟨⟨hx, hb, _, hown, hts⟩, _, _⟩ := X
  intro H locs cells slots ls hP hL hB hl
  obtain ⟨rfl, rfl⟩ := hB
  unfold wX9_lay at hf
  refine p_aload_n hx hb dX9_lay_0 rfl (lv_at hl 0 rfl) ?_
  obtain ⟨ht19, hf⟩ := hf
  refine p_gR X cf8_ (k := 15) (by decide) rfl hP ht19 q1310 (fun _ h => h) dX9_lay_1 ?_
  refine lv_iload_n hx hb dX9_lay_4 rfl (lv_at hl 2 rfl) ?_
  obtain ⟨ht20, hf⟩ := hf
  obtain ⟨hi21, hf⟩ := hf
  refine p_iald X hP ht20 hi21 dX9_lay_5 ?_
  refine lv_sipush (v := 2047) hx hb dX9_lay_6 (by decide) ?_
  refine lv_iadd hx hb dX9_lay_9 ?_
  refine lv_sipush (v := 2048) hx hb dX9_lay_10 (by decide) ?_
  refine lv_idiv hx hb dX9_lay_13 (by decide) ?_
  refine lv_topi (fun y22 hy22 => ?_)
  have hf := hf y22 hy22
  refine p_istore (i := 4) hx hb dX9_lay_14 hl (by decide) ⟨⟨ne_ rfl, Or.inl (ne_ rfl)⟩, ⟨⟨ne_ rfl, Or.inl (ne_ rfl)⟩, ⟨⟨ne_ rfl, Or.inl (ne_ rfl)⟩, ⟨⟨ne_ rfl, Or.inr rfl⟩, trivial⟩⟩⟩⟩ (fun ls hl => ?_)
  exact sX9_lay_L16 Y hf _ _ _ _ _ hP hL ⟨rfl, rfl⟩ (lv_sub hl [1, 2, 3, 4, 0] rfl)
set_option maxHeartbeats 4000000 in
theorem metX9_lay (l : Launch) (G : GG_) (x0 : Nat) (x1 : Int32) (x2 : Int32) (x3 : Int32) (σ : Hp) (post : Int32 → Hp → Prop) (hG : GOK_ G) (hf : wX9_lay x0 x1 x2 x3 σ post) : Met l yX9_lay (ws_ yX9_lay cX9_lay 8 (some Jvm.ClassFile.FieldType.int)) { frames := 3, cells := 0, slots := 0, locals := 67 } (PC_ G [rv_ x0, .int x1, .int x2, .int x3] σ) (QI_ G post) 0 0 (FR_ G) := by
  refine Met.ofW (cc := cX9_lay) (maxL := 8) (ret := (some Jvm.ClassFile.FieldType.int)) (by decide) rfl ?_
  intro p e s m args below meth c s₁ B hml hv
  obtain ⟨rfl, hP, hW⟩ := hv
  have hts := atoms_spec (ws := ws_ yX9_lay cX9_lay 8 (some Jvm.ClassFile.FieldType.int)) B.pre
  have hts : ∀ w ∈ lw_all, w.before _ s = true := fun w h => hts w (List.mem_cons_of_mem _ h)
  rw [lg_entry_eq]
  have hl := en_entry [rv_ x0, .int x1, .int x2, .int x3] [1, 1, 1, 1] (n := 8) (ca_r (ca_i (ca_i (ca_i ca_n)))) (by decide)
  exact sX9_lay ⟨⟨⟨B.exec, B.bytes, hml, findClass_of_methodNamed B.named, hts⟩, hW, hG⟩, B.notSynchronized, B.returns, Nat.le_refl _, Nat.le_refl _, ⟨rfl, rfl⟩, (name_of_methodNamed B.named B.method).1⟩ hf _ _ _ _ _ hP (LO_nil G) ⟨rfl, rfl⟩ hl
abbrev cX9_lettersOf : ByteArray := prog_11_method_26_code
def yX9_lettersOf : MethodName := ⟨RX9, "lettersOf", "(J)I"⟩
theorem dX9_lettersOf_0 : decode cX9_lettersOf 0 = .ok (.iconst 0, 1) := by decide +kernel
theorem dX9_lettersOf_1 : decode cX9_lettersOf 1 = .ok (.istore_n 2, 1) := by decide +kernel
theorem dX9_lettersOf_2 : decode cX9_lettersOf 2 = .ok (.iload_n 2, 1) := by decide +kernel
theorem dX9_lettersOf_3 : decode cX9_lettersOf 3 = .ok (.bipush 8, 2) := by decide +kernel
theorem dX9_lettersOf_5 : decode cX9_lettersOf 5 = .ok (.if_icmp .ge 20, 3) := by decide +kernel
theorem dX9_lettersOf_8 : decode cX9_lettersOf 8 = .ok (.lload_n 0, 1) := by decide +kernel
theorem dX9_lettersOf_9 : decode cX9_lettersOf 9 = .ok (.bipush 8, 2) := by decide +kernel
theorem dX9_lettersOf_11 : decode cX9_lettersOf 11 = .ok (.iload_n 2, 1) := by decide +kernel
theorem dX9_lettersOf_12 : decode cX9_lettersOf 12 = .ok (.imul, 1) := by decide +kernel
theorem dX9_lettersOf_13 : decode cX9_lettersOf 13 = .ok (.lushr, 1) := by decide +kernel
theorem dX9_lettersOf_14 : decode cX9_lettersOf 14 = .ok (.lconst 0, 1) := by decide +kernel
theorem dX9_lettersOf_15 : decode cX9_lettersOf 15 = .ok (.lcmp, 1) := by decide +kernel
theorem dX9_lettersOf_16 : decode cX9_lettersOf 16 = .ok (.ifCond .eq 9, 3) := by decide +kernel
theorem dX9_lettersOf_19 : decode cX9_lettersOf 19 = .ok (.iinc 2 1, 3) := by decide +kernel
theorem dX9_lettersOf_22 : decode cX9_lettersOf 22 = .ok (.goto (-20), 3) := by decide +kernel
theorem dX9_lettersOf_25 : decode cX9_lettersOf 25 = .ok (.iload_n 2, 1) := by decide +kernel
theorem dX9_lettersOf_26 : decode cX9_lettersOf 26 = .ok (.ireturn, 1) := by decide +kernel
/-- WriteOnceDiscModel.lettersOf(J)I -/
def wX9_lettersOf_B2 (post : Int32 → Prop) (rc2 : Int32 → Prop) (x0 : Int64) (x2 : Int32) (σ : Hp) : Prop :=
(((8 : Int32) ≤ x2 →
  post x2) ∧
 (¬ (8 : Int32) ≤ x2 →
  (((lg_cmp ((x0).toUInt64 >>> ((((8 : Int32) * x2)).toInt64.toUInt64 &&& Int64.toUInt64 63)).toInt64 (0 : Int64)) = 0 →
   post x2) ∧
  (¬ (lg_cmp ((x0).toUInt64 >>> ((((8 : Int32) * x2)).toInt64.toUInt64 &&& Int64.toUInt64 63)).toInt64 (0 : Int64)) = 0 →
   (∀ y3 : Int32, y3 = x2 + 1 → rc2 y3)))))
def wX9_lettersOf_L2 (post : Int32 → Prop) (x0 : Int64) (x2 : Int32) (σ : Hp) : Prop :=
 ∃ (I : Int32 → Prop) (μ : Int32 → Nat), I x2 ∧ ∀ (x2 : Int32), I x2 → wX9_lettersOf_B2 post (fun x2' => I x2' ∧ μ x2' < μ x2) x0 x2 σ
def wX9_lettersOf (x0 : Int64) (σ : Hp) (post : Int32 → Prop) : Prop :=
wX9_lettersOf_L2 post x0 (0 : Int32) σ
set_option maxHeartbeats 4000000 in
theorem sX9_lettersOf_B2 {G : GG_} {p : Program} {l : Launch} {e : Env} {R : Room} {s : State} {m : MethodId} {args : Array Value} {below : List Frame} {meth : Method} {c : Code} (Y : MX_ G p R s m args meth c cX9_lettersOf 3 RX9 (some Jvm.ClassFile.FieldType.int) 1 20 0 0 "lettersOf") {post : Int32 → Prop} {rc2 : Int32 → Prop} {x0 : Int64} {x2 : Int32} {σ : Hp} (hrc2 : ∀ (x2 : Int32), rc2 x2 → WG_ G p l e R s m args below meth c (MQ below (QI_ G (fun r τ => τ = σ ∧ post r)) args s 0 0 (FR_ G)) BN_ 3 2 [(0, .long x0), (2, .int x2)] [] σ) (hf : wX9_lettersOf_B2 post rc2 x0 x2 σ) : WG_ G p l e R s m args below meth c (MQ below (QI_ G (fun r τ => τ = σ ∧ post r)) args s 0 0 (FR_ G)) BN_ 3 2 [(0, .long x0), (2, .int x2)] [] σ := by
  have ⟨X, hlk, hr, hRf, hRl, hRc, hnm⟩ := Y
  have ⟨⟨hx, hb, _, hown, hts⟩, _, _⟩ := X
  intro H locs cells slots ls hP hL hB hl
  obtain ⟨rfl, rfl⟩ := hB
  unfold wX9_lettersOf_B2 at hf
  refine lv_iload_n hx hb dX9_lettersOf_2 rfl (lv_at hl 1 rfl) ?_
  refine lv_bipush (v := 8) hx hb dX9_lettersOf_3 (by decide) ?_
  refine lv_icmp_ge (tgt := 25) hx hb dX9_lettersOf_5 (by decide) (fun c1 => ?_) (fun c1 => ?_)
  · have hf := hf.1 c1
    refine lv_iload_n hx hb dX9_lettersOf_25 rfl (lv_at hl 1 rfl) ?_
    exact p_iret X hlk hP hL (Nat.le_refl _) (Nat.le_refl _) hr dX9_lettersOf_26 ⟨rfl, hf⟩
  · have hf := hf.2 c1
    refine lv_lload_n hx hb dX9_lettersOf_8 rfl (lv_at hl 0 rfl) ?_
    refine lv_bipush (v := 8) hx hb dX9_lettersOf_9 (by decide) ?_
    refine lv_iload_n hx hb dX9_lettersOf_11 rfl (lv_at hl 1 rfl) ?_
    refine lv_imul hx hb dX9_lettersOf_12 ?_
    refine lv_lushr hx hb dX9_lettersOf_13 rfl ?_
    refine lv_lconst (v := 0) hx hb dX9_lettersOf_14 (by decide) ?_
    refine W.lcmp hx hb dX9_lettersOf_15 ?_
    refine lv_if_eq (tgt := 25) hx hb dX9_lettersOf_16 (by decide) (fun c2 => ?_) (fun c2 => ?_)
    · have hf := hf.1 c2
      refine lv_iload_n hx hb dX9_lettersOf_25 rfl (lv_at hl 1 rfl) ?_
      exact p_iret X hlk hP hL (Nat.le_refl _) (Nat.le_refl _) hr dX9_lettersOf_26 ⟨rfl, hf⟩
    · have hf := hf.2 c2
      have hl := lv_sub hl [1, 0] rfl
      refine p_iincc (i := 2) (k := 1) hx hb (by decide) dX9_lettersOf_19 hl (by decide) ⟨⟨ne_ rfl, Or.inl (ne_ rfl)⟩, trivial⟩ (fun y3 hy3 ls hl => ?_)
      have hf := hf y3 hy3
      refine lv_goto (tgt := 2) hx hb dX9_lettersOf_22 (by decide) ?_
      exact hrc2 _ hf _ _ _ _ _ hP hL ⟨rfl, rfl⟩ (lv_sub hl [1, 0] rfl)
set_option maxHeartbeats 4000000 in
theorem sX9_lettersOf_L2 {G : GG_} {p : Program} {l : Launch} {e : Env} {R : Room} {s : State} {m : MethodId} {args : Array Value} {below : List Frame} {meth : Method} {c : Code} (Y : MX_ G p R s m args meth c cX9_lettersOf 3 RX9 (some Jvm.ClassFile.FieldType.int) 1 20 0 0 "lettersOf") {post : Int32 → Prop} {x0 : Int64} {x2 : Int32} {σ : Hp} (hf : wX9_lettersOf_L2 post x0 x2 σ) : WG_ G p l e R s m args below meth c (MQ below (QI_ G (fun r τ => τ = σ ∧ post r)) args s 0 0 (FR_ G)) BN_ 3 2 [(0, .long x0), (2, .int x2)] [] σ := by
  unfold wX9_lettersOf_L2 at hf
  obtain ⟨I, μ, h0, hI⟩ := hf
  have key : ∀ (n : Nat) (x2 : Int32), I x2 → μ x2 < n → WG_ G p l e R s m args below meth c (MQ below (QI_ G (fun r τ => τ = σ ∧ post r)) args s 0 0 (FR_ G)) BN_ 3 2 [(0, .long x0), (2, .int x2)] [] σ := by
    intro n
    induction n with
    | zero => intro x2 _ h; exact absurd h (Nat.not_lt_zero _)
    | succ n ih => intro x2 hi hn; exact sX9_lettersOf_B2 Y (fun x2' h => ih x2' h.1 (Nat.lt_of_lt_of_le h.2 (Nat.le_of_lt_succ hn))) (hI x2 hi)
  exact key _ _ h0 (Nat.lt_succ_self _)
set_option maxHeartbeats 4000000 in
theorem sX9_lettersOf {G : GG_} {p : Program} {l : Launch} {e : Env} {R : Room} {s : State} {m : MethodId} {args : Array Value} {below : List Frame} {meth : Method} {c : Code} (Y : MX_ G p R s m args meth c cX9_lettersOf 3 RX9 (some Jvm.ClassFile.FieldType.int) 1 20 0 0 "lettersOf") {post : Int32 → Prop} {x0 : Int64} {σ : Hp} (hf : wX9_lettersOf x0 σ post) : WG_ G p l e R s m args below meth c (MQ below (QI_ G (fun r τ => τ = σ ∧ post r)) args s 0 0 (FR_ G)) BN_ 3 0 [(0, .long x0)] [] σ := by
  have ⟨X, hlk, hr, hRf, hRl, hRc, hnm⟩ := Y
  have ⟨⟨hx, hb, _, hown, hts⟩, _, _⟩ := X
  intro H locs cells slots ls hP hL hB hl
  obtain ⟨rfl, rfl⟩ := hB
  unfold wX9_lettersOf at hf
  refine lv_iconst (v := 0) hx hb dX9_lettersOf_0 (by decide) ?_
  refine p_istore_n (i := 2) hx hb dX9_lettersOf_1 rfl hl (by decide) ⟨⟨ne_ rfl, Or.inl (ne_ rfl)⟩, trivial⟩ (fun ls hl => ?_)
  exact sX9_lettersOf_L2 Y hf _ _ _ _ _ hP hL ⟨rfl, rfl⟩ (lv_sub hl [1, 0] rfl)
set_option maxHeartbeats 4000000 in
theorem metX9_lettersOf (l : Launch) (G : GG_) (x0 : Int64) (σ : Hp) (post : Int32 → Prop) (hG : GOK_ G) (hf : wX9_lettersOf x0 σ post) : Met l yX9_lettersOf (ws_ yX9_lettersOf cX9_lettersOf 3 (some Jvm.ClassFile.FieldType.int)) { frames := 1, cells := 0, slots := 0, locals := 20 } (PC_ G [.long x0] σ) (QI_ G (fun r τ => τ = σ ∧ post r)) 0 0 (FR_ G) := by
  refine Met.ofW (cc := cX9_lettersOf) (maxL := 3) (ret := (some Jvm.ClassFile.FieldType.int)) (by decide) rfl ?_
  intro p e s m args below meth c s₁ B hml hv
  obtain ⟨rfl, hP, hW⟩ := hv
  have hts := atoms_spec (ws := ws_ yX9_lettersOf cX9_lettersOf 3 (some Jvm.ClassFile.FieldType.int)) B.pre
  have hts : ∀ w ∈ lw_all, w.before _ s = true := fun w h => hts w (List.mem_cons_of_mem _ h)
  rw [lg_entry_eq]
  have hl := en_entry [.long x0] [2] (n := 3) (ca_l ca_n) (by decide)
  exact sX9_lettersOf ⟨⟨⟨B.exec, B.bytes, hml, findClass_of_methodNamed B.named, hts⟩, hW, hG⟩, B.notSynchronized, B.returns, Nat.le_refl _, Nat.le_refl _, ⟨rfl, rfl⟩, (name_of_methodNamed B.named B.method).1⟩ hf _ _ _ _ _ hP (LO_nil G) ⟨rfl, rfl⟩ hl
abbrev cX9_letter : ByteArray := prog_11_method_27_code
def yX9_letter : MethodName := ⟨RX9, "letter", "(JI)I"⟩
theorem dX9_letter_0 : decode cX9_letter 0 = .ok (.lload_n 0, 1) := by decide +kernel
theorem dX9_letter_1 : decode cX9_letter 1 = .ok (.bipush 8, 2) := by decide +kernel
theorem dX9_letter_3 : decode cX9_letter 3 = .ok (.lload_n 0, 1) := by decide +kernel
theorem dX9_letter_4 : decode cX9_letter 4 = .ok (.invokestatic 165, 3) := by decide +kernel
theorem dX9_letter_7 : decode cX9_letter 7 = .ok (.iconst 1, 1) := by decide +kernel
theorem dX9_letter_8 : decode cX9_letter 8 = .ok (.isub, 1) := by decide +kernel
theorem dX9_letter_9 : decode cX9_letter 9 = .ok (.iload_n 2, 1) := by decide +kernel
theorem dX9_letter_10 : decode cX9_letter 10 = .ok (.isub, 1) := by decide +kernel
theorem dX9_letter_11 : decode cX9_letter 11 = .ok (.imul, 1) := by decide +kernel
theorem dX9_letter_12 : decode cX9_letter 12 = .ok (.lushr, 1) := by decide +kernel
theorem dX9_letter_13 : decode cX9_letter 13 = .ok (.ldc2_w 129, 3) := by decide +kernel
theorem dX9_letter_16 : decode cX9_letter 16 = .ok (.land, 1) := by decide +kernel
theorem dX9_letter_17 : decode cX9_letter 17 = .ok (.l2i, 1) := by decide +kernel
theorem dX9_letter_18 : decode cX9_letter 18 = .ok (.ireturn, 1) := by decide +kernel
/-- WriteOnceDiscModel.letter(JI)I -/
def wX9_letter (x0 : Int64) (x2 : Int32) (σ : Hp) (post : Int32 → Prop) : Prop :=
(wX9_lettersOf x0 σ (fun r1 => post ((((x0).toUInt64 >>> ((((8 : Int32) * ((r1 - (1 : Int32)) - x2))).toInt64.toUInt64 &&& Int64.toUInt64 63)).toInt64 &&& (255 : Int64))).toInt32))
set_option maxHeartbeats 4000000 in
theorem sX9_letter {G : GG_} {p : Program} {l : Launch} {e : Env} {R : Room} {s : State} {m : MethodId} {args : Array Value} {below : List Frame} {meth : Method} {c : Code} (Y : MX_ G p R s m args meth c cX9_letter 3 RX9 (some Jvm.ClassFile.FieldType.int) 2 42 0 0 "letter") {post : Int32 → Prop} {x0 : Int64} {x2 : Int32} {σ : Hp} (hf : wX9_letter x0 x2 σ post) : WG_ G p l e R s m args below meth c (MQ below (QI_ G (fun r τ => τ = σ ∧ post r)) args s 0 0 (FR_ G)) BN_ 3 0 [(0, .long x0), (2, .int x2)] [] σ := by
  have ⟨X, hlk, hr, hRf, hRl, hRc, hnm⟩ := Y
  have ⟨⟨hx, hb, _, hown, hts⟩, _, _⟩ := X
  intro H locs cells slots ls hP hL hB hl
  obtain ⟨rfl, rfl⟩ := hB
  unfold wX9_letter at hf
  refine lv_lload_n hx hb dX9_letter_0 rfl (lv_at hl 0 rfl) ?_
  refine lv_bipush (v := 8) hx hb dX9_letter_1 (by decide) ?_
  refine lv_lload_n hx hb dX9_letter_3 rfl (lv_at hl 0 rfl) ?_
  refine p_calli hL (p_runS X hP (metX9_lettersOf l G _ _ _ X.2.2 hf) (va_cwS 1 hts (lw_S q1538 q1539 q106 q1540) rfl rfl rfl (by decide +kernel) ⟨Nat.le_trans (Nat.le_of_ble_eq_true rfl) hRf, Nat.le_trans (Nat.le_of_ble_eq_true rfl) hRl⟩) rfl hl.1 rfl (by rw [(ca_i (ca_l ca_n))]; decide) dX9_letter_4 ⟨Nat.zero_le _, Nat.zero_le _⟩) (fun r1 σ₁ H locs hf hP hL => ?_)
  obtain ⟨e₁, hf⟩ := hf
  rw [e₁] at hP
  refine lv_iconst (v := 1) hx hb dX9_letter_7 (by decide) ?_
  refine lv_isub hx hb dX9_letter_8 ?_
  refine lv_iload_n hx hb dX9_letter_9 rfl (lv_at hl 1 rfl) ?_
  refine lv_isub hx hb dX9_letter_10 ?_
  refine lv_imul hx hb dX9_letter_11 ?_
  refine lv_lushr hx hb dX9_letter_12 rfl ?_
  refine lv_ldc2 hx hb hown (hts _ q1445) dX9_letter_13 ?_
  refine lv_land hx hb dX9_letter_16 ?_
  refine lv_l2i hx hb dX9_letter_17 rfl ?_
  exact p_iret X hlk hP hL (Nat.le_refl _) (Nat.le_refl _) hr dX9_letter_18 ⟨rfl, hf⟩
set_option maxHeartbeats 4000000 in
theorem metX9_letter (l : Launch) (G : GG_) (x0 : Int64) (x2 : Int32) (σ : Hp) (post : Int32 → Prop) (hG : GOK_ G) (hf : wX9_letter x0 x2 σ post) : Met l yX9_letter (ws_ yX9_letter cX9_letter 3 (some Jvm.ClassFile.FieldType.int)) { frames := 2, cells := 0, slots := 0, locals := 42 } (PC_ G [.long x0, .int x2] σ) (QI_ G (fun r τ => τ = σ ∧ post r)) 0 0 (FR_ G) := by
  refine Met.ofW (cc := cX9_letter) (maxL := 3) (ret := (some Jvm.ClassFile.FieldType.int)) (by decide) rfl ?_
  intro p e s m args below meth c s₁ B hml hv
  obtain ⟨rfl, hP, hW⟩ := hv
  have hts := atoms_spec (ws := ws_ yX9_letter cX9_letter 3 (some Jvm.ClassFile.FieldType.int)) B.pre
  have hts : ∀ w ∈ lw_all, w.before _ s = true := fun w h => hts w (List.mem_cons_of_mem _ h)
  rw [lg_entry_eq]
  have hl := en_entry [.long x0, .int x2] [2, 1] (n := 3) (ca_l (ca_i ca_n)) (by decide)
  exact sX9_letter ⟨⟨⟨B.exec, B.bytes, hml, findClass_of_methodNamed B.named, hts⟩, hW, hG⟩, B.notSynchronized, B.returns, Nat.le_refl _, Nat.le_refl _, ⟨rfl, rfl⟩, (name_of_methodNamed B.named B.method).1⟩ hf _ _ _ _ _ hP (LO_nil G) ⟨rfl, rfl⟩ hl
abbrev cX9_idByte : ByteArray := prog_11_method_29_code
def yX9_idByte : MethodName := ⟨RX9, "idByte", "(JZI)I"⟩
theorem dX9_idByte_0 : decode cX9_idByte 0 = .ok (.lload_n 0, 1) := by decide +kernel
theorem dX9_idByte_1 : decode cX9_idByte 1 = .ok (.invokestatic 165, 3) := by decide +kernel
theorem dX9_idByte_4 : decode cX9_idByte 4 = .ok (.istore 4, 2) := by decide +kernel
theorem dX9_idByte_6 : decode cX9_idByte 6 = .ok (.iload_n 3, 1) := by decide +kernel
theorem dX9_idByte_7 : decode cX9_idByte 7 = .ok (.iload 4, 2) := by decide +kernel
theorem dX9_idByte_9 : decode cX9_idByte 9 = .ok (.if_icmp .ge 9, 3) := by decide +kernel
theorem dX9_idByte_12 : decode cX9_idByte 12 = .ok (.lload_n 0, 1) := by decide +kernel
theorem dX9_idByte_13 : decode cX9_idByte 13 = .ok (.iload_n 3, 1) := by decide +kernel
theorem dX9_idByte_14 : decode cX9_idByte 14 = .ok (.invokestatic 169, 3) := by decide +kernel
theorem dX9_idByte_17 : decode cX9_idByte 17 = .ok (.ireturn, 1) := by decide +kernel
theorem dX9_idByte_18 : decode cX9_idByte 18 = .ok (.iload_n 2, 1) := by decide +kernel
theorem dX9_idByte_19 : decode cX9_idByte 19 = .ok (.ifCond .ne 11, 3) := by decide +kernel
theorem dX9_idByte_22 : decode cX9_idByte 22 = .ok (.iload_n 3, 1) := by decide +kernel
theorem dX9_idByte_23 : decode cX9_idByte 23 = .ok (.iload 4, 2) := by decide +kernel
theorem dX9_idByte_25 : decode cX9_idByte 25 = .ok (.iconst 2, 1) := by decide +kernel
theorem dX9_idByte_26 : decode cX9_idByte 26 = .ok (.iadd, 1) := by decide +kernel
theorem dX9_idByte_27 : decode cX9_idByte 27 = .ok (.if_icmp .le 7, 3) := by decide +kernel
theorem dX9_idByte_30 : decode cX9_idByte 30 = .ok (.iconst 0, 1) := by decide +kernel
theorem dX9_idByte_31 : decode cX9_idByte 31 = .ok (.goto 29, 3) := by decide +kernel
theorem dX9_idByte_34 : decode cX9_idByte 34 = .ok (.iload_n 3, 1) := by decide +kernel
theorem dX9_idByte_35 : decode cX9_idByte 35 = .ok (.iload 4, 2) := by decide +kernel
theorem dX9_idByte_37 : decode cX9_idByte 37 = .ok (.if_icmp .ne 8, 3) := by decide +kernel
theorem dX9_idByte_40 : decode cX9_idByte 40 = .ok (.bipush 46, 2) := by decide +kernel
theorem dX9_idByte_42 : decode cX9_idByte 42 = .ok (.goto 18, 3) := by decide +kernel
theorem dX9_idByte_45 : decode cX9_idByte 45 = .ok (.iload_n 3, 1) := by decide +kernel
theorem dX9_idByte_46 : decode cX9_idByte 46 = .ok (.iload 4, 2) := by decide +kernel
theorem dX9_idByte_48 : decode cX9_idByte 48 = .ok (.iconst 1, 1) := by decide +kernel
theorem dX9_idByte_49 : decode cX9_idByte 49 = .ok (.iadd, 1) := by decide +kernel
theorem dX9_idByte_50 : decode cX9_idByte 50 = .ok (.if_icmp .ne 8, 3) := by decide +kernel
theorem dX9_idByte_53 : decode cX9_idByte 53 = .ok (.bipush 59, 2) := by decide +kernel
theorem dX9_idByte_55 : decode cX9_idByte 55 = .ok (.goto 5, 3) := by decide +kernel
theorem dX9_idByte_58 : decode cX9_idByte 58 = .ok (.bipush 49, 2) := by decide +kernel
theorem dX9_idByte_60 : decode cX9_idByte 60 = .ok (.ireturn, 1) := by decide +kernel
/-- WriteOnceDiscModel.idByte(JZI)I -/
def wX9_idByte_L30 (post : Int32 → Prop) (σ : Hp) : Prop :=
post (0 : Int32)
def wX9_idByte (x0 : Int64) (x2 : Int32) (x3 : Int32) (σ : Hp) (post : Int32 → Prop) : Prop :=
(wX9_lettersOf x0 σ (fun r1 => ((r1 ≤ x3 →
  ((¬ x2 = 0 →
   wX9_idByte_L30 post σ) ∧
  (x2 = 0 →
   ((x3 ≤ (r1 + (2 : Int32)) →
    ((¬ x3 = r1 →
     ((¬ x3 = (r1 + (1 : Int32)) →
      post (49 : Int32)) ∧
     (x3 = (r1 + (1 : Int32)) →
      post (59 : Int32)))) ∧
    (x3 = r1 →
     post (46 : Int32)))) ∧
   (¬ x3 ≤ (r1 + (2 : Int32)) →
    wX9_idByte_L30 post σ))))) ∧
 (¬ r1 ≤ x3 →
  (wX9_letter x0 x3 σ (fun r7 => post r7))))))
set_option maxHeartbeats 4000000 in
theorem sX9_idByte_L30 {G : GG_} {p : Program} {l : Launch} {e : Env} {R : Room} {s : State} {m : MethodId} {args : Array Value} {below : List Frame} {meth : Method} {c : Code} (Y : MX_ G p R s m args meth c cX9_idByte 5 RX9 (some Jvm.ClassFile.FieldType.int) 3 64 0 0 "idByte") {post : Int32 → Prop} {σ : Hp} (hf : wX9_idByte_L30 post σ) : WG_ G p l e R s m args below meth c (MQ below (QI_ G (fun r τ => τ = σ ∧ post r)) args s 0 0 (FR_ G)) BN_ 5 30 [] [] σ := by
  have ⟨X, hlk, hr, hRf, hRl, hRc, hnm⟩ := Y
  have ⟨⟨hx, hb, _, hown, hts⟩, _, _⟩ := X
  intro H locs cells slots ls hP hL hB hl
  obtain ⟨rfl, rfl⟩ := hB
  unfold wX9_idByte_L30 at hf
  refine lv_iconst (v := 0) hx hb dX9_idByte_30 (by decide) ?_
  refine lv_goto (tgt := 60) hx hb dX9_idByte_31 (by decide) ?_
  exact p_iret X hlk hP hL (Nat.le_refl _) (Nat.le_refl _) hr dX9_idByte_60 ⟨rfl, hf⟩
set_option maxHeartbeats 4000000 in
theorem sX9_idByte {G : GG_} {p : Program} {l : Launch} {e : Env} {R : Room} {s : State} {m : MethodId} {args : Array Value} {below : List Frame} {meth : Method} {c : Code} (Y : MX_ G p R s m args meth c cX9_idByte 5 RX9 (some Jvm.ClassFile.FieldType.int) 3 64 0 0 "idByte") {post : Int32 → Prop} {x0 : Int64} {x2 : Int32} {x3 : Int32} {σ : Hp} (hf : wX9_idByte x0 x2 x3 σ post) : WG_ G p l e R s m args below meth c (MQ below (QI_ G (fun r τ => τ = σ ∧ post r)) args s 0 0 (FR_ G)) BN_ 5 0 [(0, .long x0), (2, .int x2), (3, .int x3)] [] σ := by
  have ⟨X, hlk, hr, hRf, hRl, hRc, hnm⟩ := Y
  have ⟨⟨hx, hb, _, hown, hts⟩, _, _⟩ := X
  intro H locs cells slots ls hP hL hB hl
  obtain ⟨rfl, rfl⟩ := hB
  unfold wX9_idByte at hf
  refine lv_lload_n hx hb dX9_idByte_0 rfl (lv_at hl 0 rfl) ?_
  refine p_calli hL (p_runS X hP (metX9_lettersOf l G _ _ _ X.2.2 hf) (va_cwS 1 hts (lw_S q1538 q1539 q106 q1540) rfl rfl rfl (by decide +kernel) ⟨Nat.le_trans (Nat.le_of_ble_eq_true rfl) hRf, Nat.le_trans (Nat.le_of_ble_eq_true rfl) hRl⟩) rfl hl.1 rfl (by decide) dX9_idByte_1 ⟨Nat.zero_le _, Nat.zero_le _⟩) (fun r1 σ₁ H locs hf hP hL => ?_)
  obtain ⟨e₁, hf⟩ := hf
  rw [e₁] at hP
  refine p_istore (i := 4) hx hb dX9_idByte_4 hl (by decide) ⟨⟨ne_ rfl, Or.inl (ne_ rfl)⟩, ⟨⟨ne_ rfl, Or.inl (ne_ rfl)⟩, ⟨⟨ne_ rfl, Or.inr rfl⟩, trivial⟩⟩⟩ (fun ls hl => ?_)
  refine lv_iload_n hx hb dX9_idByte_6 rfl (lv_at hl 3 rfl) ?_
  refine lv_iload hx hb dX9_idByte_7 (lv_at hl 0 rfl) ?_
  refine lv_icmp_ge (tgt := 18) hx hb dX9_idByte_9 (by decide) (fun c2 => ?_) (fun c2 => ?_)
  · have hf := hf.1 c2
    refine lv_iload_n hx hb dX9_idByte_18 rfl (lv_at hl 2 rfl) ?_
    refine lv_if_ne (tgt := 30) hx hb dX9_idByte_19 (by decide) (fun c3 => ?_) (fun c3 => ?_)
    · have hf := hf.1 c3
      exact sX9_idByte_L30 Y hf _ _ _ _ _ hP hL ⟨rfl, rfl⟩ (lv_sub hl [] rfl)
    · have hf := hf.2 c3
      refine lv_iload_n hx hb dX9_idByte_22 rfl (lv_at hl 3 rfl) ?_
      refine lv_iload hx hb dX9_idByte_23 (lv_at hl 0 rfl) ?_
      refine lv_iconst (v := 2) hx hb dX9_idByte_25 (by decide) ?_
      refine lv_iadd hx hb dX9_idByte_26 ?_
      refine lv_icmp_le (tgt := 34) hx hb dX9_idByte_27 (by decide) (fun c4 => ?_) (fun c4 => ?_)
      · have hf := hf.1 c4
        refine lv_iload_n hx hb dX9_idByte_34 rfl (lv_at hl 3 rfl) ?_
        refine lv_iload hx hb dX9_idByte_35 (lv_at hl 0 rfl) ?_
        refine lv_icmp_ne (tgt := 45) hx hb dX9_idByte_37 (by decide) (fun c5 => ?_) (fun c5 => ?_)
        · have hf := hf.1 c5
          refine lv_iload_n hx hb dX9_idByte_45 rfl (lv_at hl 3 rfl) ?_
          refine lv_iload hx hb dX9_idByte_46 (lv_at hl 0 rfl) ?_
          refine lv_iconst (v := 1) hx hb dX9_idByte_48 (by decide) ?_
          refine lv_iadd hx hb dX9_idByte_49 ?_
          refine lv_icmp_ne (tgt := 58) hx hb dX9_idByte_50 (by decide) (fun c6 => ?_) (fun c6 => ?_)
          · have hf := hf.1 c6
            refine lv_bipush (v := 49) hx hb dX9_idByte_58 (by decide) ?_
            exact p_iret X hlk hP hL (Nat.le_refl _) (Nat.le_refl _) hr dX9_idByte_60 ⟨rfl, hf⟩
          · have hf := hf.2 c6
            refine lv_bipush (v := 59) hx hb dX9_idByte_53 (by decide) ?_
            refine lv_goto (tgt := 60) hx hb dX9_idByte_55 (by decide) ?_
            exact p_iret X hlk hP hL (Nat.le_refl _) (Nat.le_refl _) hr dX9_idByte_60 ⟨rfl, hf⟩
        · have hf := hf.2 c5
          refine lv_bipush (v := 46) hx hb dX9_idByte_40 (by decide) ?_
          refine lv_goto (tgt := 60) hx hb dX9_idByte_42 (by decide) ?_
          exact p_iret X hlk hP hL (Nat.le_refl _) (Nat.le_refl _) hr dX9_idByte_60 ⟨rfl, hf⟩
      · have hf := hf.2 c4
        exact sX9_idByte_L30 Y hf _ _ _ _ _ hP hL ⟨rfl, rfl⟩ (lv_sub hl [] rfl)
  · have hf := hf.2 c2
    refine lv_lload_n hx hb dX9_idByte_12 rfl (lv_at hl 1 rfl) ?_
    refine lv_iload_n hx hb dX9_idByte_13 rfl (lv_at hl 3 rfl) ?_
    refine p_calli hL (p_runS X hP (metX9_letter l G _ _ _ _ X.2.2 hf) (va_cwS 2 hts (lw_S q1541 q1542 q106 q1543) rfl rfl rfl (by decide +kernel) ⟨Nat.le_trans (Nat.le_of_ble_eq_true rfl) hRf, Nat.le_trans (Nat.le_of_ble_eq_true rfl) hRl⟩) rfl hl.1 rfl (by decide) dX9_idByte_14 ⟨Nat.zero_le _, Nat.zero_le _⟩) (fun r7 σ₁ H locs hf hP hL => ?_)
    obtain ⟨e₁, hf⟩ := hf
    rw [e₁] at hP
    exact p_iret X hlk hP hL (Nat.le_refl _) (Nat.le_refl _) hr dX9_idByte_17 ⟨rfl, hf⟩
set_option maxHeartbeats 4000000 in
theorem metX9_idByte (l : Launch) (G : GG_) (x0 : Int64) (x2 : Int32) (x3 : Int32) (σ : Hp) (post : Int32 → Prop) (hG : GOK_ G) (hf : wX9_idByte x0 x2 x3 σ post) : Met l yX9_idByte (ws_ yX9_idByte cX9_idByte 5 (some Jvm.ClassFile.FieldType.int)) { frames := 3, cells := 0, slots := 0, locals := 64 } (PC_ G [.long x0, .int x2, .int x3] σ) (QI_ G (fun r τ => τ = σ ∧ post r)) 0 0 (FR_ G) := by
  refine Met.ofW (cc := cX9_idByte) (maxL := 5) (ret := (some Jvm.ClassFile.FieldType.int)) (by decide) rfl ?_
  intro p e s m args below meth c s₁ B hml hv
  obtain ⟨rfl, hP, hW⟩ := hv
  have hts := atoms_spec (ws := ws_ yX9_idByte cX9_idByte 5 (some Jvm.ClassFile.FieldType.int)) B.pre
  have hts : ∀ w ∈ lw_all, w.before _ s = true := fun w h => hts w (List.mem_cons_of_mem _ h)
  rw [lg_entry_eq]
  have hl := en_entry [.long x0, .int x2, .int x3] [2, 1, 1] (n := 5) (ca_l (ca_i (ca_i ca_n))) (by decide)
  exact sX9_idByte ⟨⟨⟨B.exec, B.bytes, hml, findClass_of_methodNamed B.named, hts⟩, hW, hG⟩, B.notSynchronized, B.returns, Nat.le_refl _, Nat.le_refl _, ⟨rfl, rfl⟩, (name_of_methodNamed B.named B.method).1⟩ hf _ _ _ _ _ hP (LO_nil G) ⟨rfl, rfl⟩ hl
abbrev cX9_compare : ByteArray := prog_11_method_30_code
def yX9_compare : MethodName := ⟨RX9, "compare", "(JZJZ)I"⟩
theorem dX9_compare_0 : decode cX9_compare 0 = .ok (.iconst 0, 1) := by decide +kernel
theorem dX9_compare_1 : decode cX9_compare 1 = .ok (.istore 6, 2) := by decide +kernel
theorem dX9_compare_3 : decode cX9_compare 3 = .ok (.iload 6, 2) := by decide +kernel
theorem dX9_compare_5 : decode cX9_compare 5 = .ok (.bipush 12, 2) := by decide +kernel
theorem dX9_compare_7 : decode cX9_compare 7 = .ok (.if_icmp .ge 35, 3) := by decide +kernel
theorem dX9_compare_10 : decode cX9_compare 10 = .ok (.lload_n 0, 1) := by decide +kernel
theorem dX9_compare_11 : decode cX9_compare 11 = .ok (.iload_n 2, 1) := by decide +kernel
theorem dX9_compare_12 : decode cX9_compare 12 = .ok (.iload 6, 2) := by decide +kernel
theorem dX9_compare_14 : decode cX9_compare 14 = .ok (.invokestatic 173, 3) := by decide +kernel
theorem dX9_compare_17 : decode cX9_compare 17 = .ok (.lload_n 3, 1) := by decide +kernel
theorem dX9_compare_18 : decode cX9_compare 18 = .ok (.iload 5, 2) := by decide +kernel
theorem dX9_compare_20 : decode cX9_compare 20 = .ok (.iload 6, 2) := by decide +kernel
theorem dX9_compare_22 : decode cX9_compare 22 = .ok (.invokestatic 173, 3) := by decide +kernel
theorem dX9_compare_25 : decode cX9_compare 25 = .ok (.isub, 1) := by decide +kernel
theorem dX9_compare_26 : decode cX9_compare 26 = .ok (.istore 7, 2) := by decide +kernel
theorem dX9_compare_28 : decode cX9_compare 28 = .ok (.iload 7, 2) := by decide +kernel
theorem dX9_compare_30 : decode cX9_compare 30 = .ok (.ifCond .eq 6, 3) := by decide +kernel
theorem dX9_compare_33 : decode cX9_compare 33 = .ok (.iload 7, 2) := by decide +kernel
theorem dX9_compare_35 : decode cX9_compare 35 = .ok (.ireturn, 1) := by decide +kernel
theorem dX9_compare_36 : decode cX9_compare 36 = .ok (.iinc 6 1, 3) := by decide +kernel
theorem dX9_compare_39 : decode cX9_compare 39 = .ok (.goto (-36), 3) := by decide +kernel
theorem dX9_compare_42 : decode cX9_compare 42 = .ok (.iconst 0, 1) := by decide +kernel
theorem dX9_compare_43 : decode cX9_compare 43 = .ok (.ireturn, 1) := by decide +kernel
/-- WriteOnceDiscModel.compare(JZJZ)I -/
def wX9_compare_B3 (post : Int32 → Prop) (rc3 : Int32 → Prop) (x0 : Int64) (x2 : Int32) (x3 : Int64) (x5 : Int32) (x6 : Int32) (σ : Hp) : Prop :=
(((12 : Int32) ≤ x6 →
  post (0 : Int32)) ∧
 (¬ (12 : Int32) ≤ x6 →
  (wX9_idByte x0 x2 x6 σ (fun r2 => (wX9_idByte x3 x5 x6 σ (fun r3 => (∀ y4 : Int32, y4 = (r2 - r3) → ((y4 = 0 →
   (∀ y6 : Int32, y6 = x6 + 1 → rc3 y6)) ∧
  (¬ y4 = 0 →
   post y4)))))))))
def wX9_compare_L3 (post : Int32 → Prop) (x0 : Int64) (x2 : Int32) (x3 : Int64) (x5 : Int32) (x6 : Int32) (σ : Hp) : Prop :=
 ∃ (I : Int32 → Prop) (μ : Int32 → Nat), I x6 ∧ ∀ (x6 : Int32), I x6 → wX9_compare_B3 post (fun x6' => I x6' ∧ μ x6' < μ x6) x0 x2 x3 x5 x6 σ
def wX9_compare (x0 : Int64) (x2 : Int32) (x3 : Int64) (x5 : Int32) (σ : Hp) (post : Int32 → Prop) : Prop :=
wX9_compare_L3 post x0 x2 x3 x5 (0 : Int32) σ
set_option maxHeartbeats 4000000 in
theorem sX9_compare_B3 {G : GG_} {p : Program} {l : Launch} {e : Env} {R : Room} {s : State} {m : MethodId} {args : Array Value} {below : List Frame} {meth : Method} {c : Code} (Y : MX_ G p R s m args meth c cX9_compare 8 RX9 (some Jvm.ClassFile.FieldType.int) 4 88 0 0 "compare") {post : Int32 → Prop} {rc3 : Int32 → Prop} {x0 : Int64} {x2 : Int32} {x3 : Int64} {x5 : Int32} {x6 : Int32} {σ : Hp} (hrc3 : ∀ (x6 : Int32), rc3 x6 → WG_ G p l e R s m args below meth c (MQ below (QI_ G (fun r τ => τ = σ ∧ post r)) args s 0 0 (FR_ G)) BN_ 8 3 [(0, .long x0), (2, .int x2), (3, .long x3), (5, .int x5), (6, .int x6)] [] σ) (hf : wX9_compare_B3 post rc3 x0 x2 x3 x5 x6 σ) : WG_ G p l e R s m args below meth c (MQ below (QI_ G (fun r τ => τ = σ ∧ post r)) args s 0 0 (FR_ G)) BN_ 8 3 [(0, .long x0), (2, .int x2), (3, .long x3), (5, .int x5), (6, .int x6)] [] σ := by
  have ⟨X, hlk, hr, hRf, hRl, hRc, hnm⟩ := Y
  have ⟨⟨hx, hb, _, hown, hts⟩, _, _⟩ := X
  intro H locs cells slots ls hP hL hB hl
  obtain ⟨rfl, rfl⟩ := hB
  unfold wX9_compare_B3 at hf
  refine lv_iload hx hb dX9_compare_3 (lv_at hl 4 rfl) ?_
  refine lv_bipush (v := 12) hx hb dX9_compare_5 (by decide) ?_
  refine lv_icmp_ge (tgt := 42) hx hb dX9_compare_7 (by decide) (fun c1 => ?_) (fun c1 => ?_)
  · have hf := hf.1 c1
    refine lv_iconst (v := 0) hx hb dX9_compare_42 (by decide) ?_
    exact p_iret X hlk hP hL (Nat.le_refl _) (Nat.le_refl _) hr dX9_compare_43 ⟨rfl, hf⟩
  · have hf := hf.2 c1
    refine lv_lload_n hx hb dX9_compare_10 rfl (lv_at hl 0 rfl) ?_
    refine lv_iload_n hx hb dX9_compare_11 rfl (lv_at hl 1 rfl) ?_
    refine lv_iload hx hb dX9_compare_12 (lv_at hl 4 rfl) ?_
    refine p_calli hL (p_runS X hP (metX9_idByte l G _ _ _ _ _ X.2.2 hf) (va_cwS 3 hts (lw_S q1535 q1536 q106 q1537) rfl rfl rfl (by decide +kernel) ⟨Nat.le_trans (Nat.le_of_ble_eq_true rfl) hRf, Nat.le_trans (Nat.le_of_ble_eq_true rfl) hRl⟩) rfl hl.1 rfl (by decide) dX9_compare_14 ⟨Nat.zero_le _, Nat.zero_le _⟩) (fun r2 σ₁ H locs hf hP hL => ?_)
    obtain ⟨e₁, hf⟩ := hf
    rw [e₁] at hP
    refine lv_lload_n hx hb dX9_compare_17 rfl (lv_at hl 2 rfl) ?_
    refine lv_iload hx hb dX9_compare_18 (lv_at hl 3 rfl) ?_
    refine lv_iload hx hb dX9_compare_20 (lv_at hl 4 rfl) ?_
    refine p_calli hL (p_runS X hP (metX9_idByte l G _ _ _ _ _ X.2.2 hf) (va_cwS 3 hts (lw_S q1535 q1536 q106 q1537) rfl rfl rfl (by decide +kernel) ⟨Nat.le_trans (Nat.le_of_ble_eq_true rfl) hRf, Nat.le_trans (Nat.le_of_ble_eq_true rfl) hRl⟩) rfl hl.1 rfl (by rw [(ca_i ca_n)]; decide) dX9_compare_22 ⟨Nat.zero_le _, Nat.zero_le _⟩) (fun r3 σ₁ H locs hf hP hL => ?_)
    obtain ⟨e₁, hf⟩ := hf
    rw [e₁] at hP
    refine lv_isub hx hb dX9_compare_25 ?_
    refine lv_topi (fun y4 hy4 => ?_)
    have hf := hf y4 hy4
    refine p_istore (i := 7) hx hb dX9_compare_26 hl (by decide) ⟨⟨ne_ rfl, Or.inl (ne_ rfl)⟩, ⟨⟨ne_ rfl, Or.inl (ne_ rfl)⟩, ⟨⟨ne_ rfl, Or.inl (ne_ rfl)⟩, ⟨⟨ne_ rfl, Or.inl (ne_ rfl)⟩, ⟨⟨ne_ rfl, Or.inr rfl⟩, trivial⟩⟩⟩⟩⟩ (fun ls hl => ?_)
    refine lv_iload hx hb dX9_compare_28 (lv_at hl 0 rfl) ?_
    refine lv_if_eq (tgt := 36) hx hb dX9_compare_30 (by decide) (fun c5 => ?_) (fun c5 => ?_)
    · have hf := hf.1 c5
      have hl := lv_sub hl [5, 1, 2, 3, 4] rfl
      refine p_iincc (i := 6) (k := 1) hx hb (by decide) dX9_compare_36 hl (by decide) ⟨⟨ne_ rfl, Or.inl (ne_ rfl)⟩, ⟨⟨ne_ rfl, Or.inl (ne_ rfl)⟩, ⟨⟨ne_ rfl, Or.inl (ne_ rfl)⟩, ⟨⟨ne_ rfl, Or.inr rfl⟩, trivial⟩⟩⟩⟩ (fun y6 hy6 ls hl => ?_)
      have hf := hf y6 hy6
      refine lv_goto (tgt := 3) hx hb dX9_compare_39 (by decide) ?_
      exact hrc3 _ hf _ _ _ _ _ hP hL ⟨rfl, rfl⟩ (lv_sub hl [1, 2, 3, 4, 0] rfl)
    · have hf := hf.2 c5
      refine lv_iload hx hb dX9_compare_33 (lv_at hl 0 rfl) ?_
      exact p_iret X hlk hP hL (Nat.le_refl _) (Nat.le_refl _) hr dX9_compare_35 ⟨rfl, hf⟩
set_option maxHeartbeats 4000000 in
theorem sX9_compare_L3 {G : GG_} {p : Program} {l : Launch} {e : Env} {R : Room} {s : State} {m : MethodId} {args : Array Value} {below : List Frame} {meth : Method} {c : Code} (Y : MX_ G p R s m args meth c cX9_compare 8 RX9 (some Jvm.ClassFile.FieldType.int) 4 88 0 0 "compare") {post : Int32 → Prop} {x0 : Int64} {x2 : Int32} {x3 : Int64} {x5 : Int32} {x6 : Int32} {σ : Hp} (hf : wX9_compare_L3 post x0 x2 x3 x5 x6 σ) : WG_ G p l e R s m args below meth c (MQ below (QI_ G (fun r τ => τ = σ ∧ post r)) args s 0 0 (FR_ G)) BN_ 8 3 [(0, .long x0), (2, .int x2), (3, .long x3), (5, .int x5), (6, .int x6)] [] σ := by
  unfold wX9_compare_L3 at hf
  obtain ⟨I, μ, h0, hI⟩ := hf
  have key : ∀ (n : Nat) (x6 : Int32), I x6 → μ x6 < n → WG_ G p l e R s m args below meth c (MQ below (QI_ G (fun r τ => τ = σ ∧ post r)) args s 0 0 (FR_ G)) BN_ 8 3 [(0, .long x0), (2, .int x2), (3, .long x3), (5, .int x5), (6, .int x6)] [] σ := by
    intro n
    induction n with
    | zero => intro x6 _ h; exact absurd h (Nat.not_lt_zero _)
    | succ n ih => intro x6 hi hn; exact sX9_compare_B3 Y (fun x6' h => ih x6' h.1 (Nat.lt_of_lt_of_le h.2 (Nat.le_of_lt_succ hn))) (hI x6 hi)
  exact key _ _ h0 (Nat.lt_succ_self _)
set_option maxHeartbeats 4000000 in
theorem sX9_compare {G : GG_} {p : Program} {l : Launch} {e : Env} {R : Room} {s : State} {m : MethodId} {args : Array Value} {below : List Frame} {meth : Method} {c : Code} (Y : MX_ G p R s m args meth c cX9_compare 8 RX9 (some Jvm.ClassFile.FieldType.int) 4 88 0 0 "compare") {post : Int32 → Prop} {x0 : Int64} {x2 : Int32} {x3 : Int64} {x5 : Int32} {σ : Hp} (hf : wX9_compare x0 x2 x3 x5 σ post) : WG_ G p l e R s m args below meth c (MQ below (QI_ G (fun r τ => τ = σ ∧ post r)) args s 0 0 (FR_ G)) BN_ 8 0 [(0, .long x0), (2, .int x2), (3, .long x3), (5, .int x5)] [] σ := by
  have ⟨X, hlk, hr, hRf, hRl, hRc, hnm⟩ := Y
  have ⟨⟨hx, hb, _, hown, hts⟩, _, _⟩ := X
  intro H locs cells slots ls hP hL hB hl
  obtain ⟨rfl, rfl⟩ := hB
  unfold wX9_compare at hf
  refine lv_iconst (v := 0) hx hb dX9_compare_0 (by decide) ?_
  refine p_istore (i := 6) hx hb dX9_compare_1 hl (by decide) ⟨⟨ne_ rfl, Or.inl (ne_ rfl)⟩, ⟨⟨ne_ rfl, Or.inl (ne_ rfl)⟩, ⟨⟨ne_ rfl, Or.inl (ne_ rfl)⟩, ⟨⟨ne_ rfl, Or.inr rfl⟩, trivial⟩⟩⟩⟩ (fun ls hl => ?_)
  exact sX9_compare_L3 Y hf _ _ _ _ _ hP hL ⟨rfl, rfl⟩ (lv_sub hl [1, 2, 3, 4, 0] rfl)
set_option maxHeartbeats 4000000 in
theorem metX9_compare (l : Launch) (G : GG_) (x0 : Int64) (x2 : Int32) (x3 : Int64) (x5 : Int32) (σ : Hp) (post : Int32 → Prop) (hG : GOK_ G) (hf : wX9_compare x0 x2 x3 x5 σ post) : Met l yX9_compare (ws_ yX9_compare cX9_compare 8 (some Jvm.ClassFile.FieldType.int)) { frames := 4, cells := 0, slots := 0, locals := 88 } (PC_ G [.long x0, .int x2, .long x3, .int x5] σ) (QI_ G (fun r τ => τ = σ ∧ post r)) 0 0 (FR_ G) := by
  refine Met.ofW (cc := cX9_compare) (maxL := 8) (ret := (some Jvm.ClassFile.FieldType.int)) (by decide) rfl ?_
  intro p e s m args below meth c s₁ B hml hv
  obtain ⟨rfl, hP, hW⟩ := hv
  have hts := atoms_spec (ws := ws_ yX9_compare cX9_compare 8 (some Jvm.ClassFile.FieldType.int)) B.pre
  have hts : ∀ w ∈ lw_all, w.before _ s = true := fun w h => hts w (List.mem_cons_of_mem _ h)
  rw [lg_entry_eq]
  have hl := en_entry [.long x0, .int x2, .long x3, .int x5] [2, 1, 2, 1] (n := 8) (ca_l (ca_i (ca_l (ca_i ca_n)))) (by decide)
  exact sX9_compare ⟨⟨⟨B.exec, B.bytes, hml, findClass_of_methodNamed B.named, hts⟩, hW, hG⟩, B.notSynchronized, B.returns, Nat.le_refl _, Nat.le_refl _, ⟨rfl, rfl⟩, (name_of_methodNamed B.named B.method).1⟩ hf _ _ _ _ _ hP (LO_nil G) ⟨rfl, rfl⟩ hl
abbrev cX9_next : ByteArray := prog_11_method_31_code
def yX9_next : MethodName := ⟨RX9, "next", "(II)I"⟩
theorem dX9_next_0 : decode cX9_next 0 = .ok (.iconst (-1), 1) := by decide +kernel
theorem dX9_next_1 : decode cX9_next 1 = .ok (.istore_n 3, 1) := by decide +kernel
theorem dX9_next_2 : decode cX9_next 2 = .ok (.iconst 1, 1) := by decide +kernel
theorem dX9_next_3 : decode cX9_next 3 = .ok (.istore 4, 2) := by decide +kernel
theorem dX9_next_5 : decode cX9_next 5 = .ok (.iload 4, 2) := by decide +kernel
theorem dX9_next_7 : decode cX9_next 7 = .ok (.aload_n 0, 1) := by decide +kernel
theorem dX9_next_8 : decode cX9_next 8 = .ok (.getfield 112, 3) := by decide +kernel
theorem dX9_next_11 : decode cX9_next 11 = .ok (.if_icmp .ge 108, 3) := by decide +kernel
theorem dX9_next_14 : decode cX9_next 14 = .ok (.aload_n 0, 1) := by decide +kernel
theorem dX9_next_15 : decode cX9_next 15 = .ok (.getfield 24, 3) := by decide +kernel
theorem dX9_next_18 : decode cX9_next 18 = .ok (.iload 4, 2) := by decide +kernel
theorem dX9_next_20 : decode cX9_next 20 = .ok (.baload, 1) := by decide +kernel
theorem dX9_next_21 : decode cX9_next 21 = .ok (.ifCond .eq 92, 3) := by decide +kernel
theorem dX9_next_24 : decode cX9_next 24 = .ok (.aload_n 0, 1) := by decide +kernel
theorem dX9_next_25 : decode cX9_next 25 = .ok (.getfield 30, 3) := by decide +kernel
theorem dX9_next_28 : decode cX9_next 28 = .ok (.iload 4, 2) := by decide +kernel
theorem dX9_next_30 : decode cX9_next 30 = .ok (.iaload, 1) := by decide +kernel
theorem dX9_next_31 : decode cX9_next 31 = .ok (.iload_n 1, 1) := by decide +kernel
theorem dX9_next_32 : decode cX9_next 32 = .ok (.if_icmp .ne 81, 3) := by decide +kernel
theorem dX9_next_35 : decode cX9_next 35 = .ok (.iload_n 2, 1) := by decide +kernel
theorem dX9_next_36 : decode cX9_next 36 = .ok (.ifCond .lt 38, 3) := by decide +kernel
theorem dX9_next_39 : decode cX9_next 39 = .ok (.aload_n 0, 1) := by decide +kernel
theorem dX9_next_40 : decode cX9_next 40 = .ok (.getfield 34, 3) := by decide +kernel
theorem dX9_next_43 : decode cX9_next 43 = .ok (.iload 4, 2) := by decide +kernel
theorem dX9_next_45 : decode cX9_next 45 = .ok (.laload, 1) := by decide +kernel
theorem dX9_next_46 : decode cX9_next 46 = .ok (.aload_n 0, 1) := by decide +kernel
theorem dX9_next_47 : decode cX9_next 47 = .ok (.getfield 27, 3) := by decide +kernel
theorem dX9_next_50 : decode cX9_next 50 = .ok (.iload 4, 2) := by decide +kernel
theorem dX9_next_52 : decode cX9_next 52 = .ok (.baload, 1) := by decide +kernel
theorem dX9_next_53 : decode cX9_next 53 = .ok (.aload_n 0, 1) := by decide +kernel
theorem dX9_next_54 : decode cX9_next 54 = .ok (.getfield 34, 3) := by decide +kernel
theorem dX9_next_57 : decode cX9_next 57 = .ok (.iload_n 2, 1) := by decide +kernel
theorem dX9_next_58 : decode cX9_next 58 = .ok (.laload, 1) := by decide +kernel
theorem dX9_next_59 : decode cX9_next 59 = .ok (.aload_n 0, 1) := by decide +kernel
theorem dX9_next_60 : decode cX9_next 60 = .ok (.getfield 27, 3) := by decide +kernel
theorem dX9_next_63 : decode cX9_next 63 = .ok (.iload_n 2, 1) := by decide +kernel
theorem dX9_next_64 : decode cX9_next 64 = .ok (.baload, 1) := by decide +kernel
theorem dX9_next_65 : decode cX9_next 65 = .ok (.invokestatic 177, 3) := by decide +kernel
theorem dX9_next_68 : decode cX9_next 68 = .ok (.ifCond .gt 6, 3) := by decide +kernel
theorem dX9_next_71 : decode cX9_next 71 = .ok (.goto 42, 3) := by decide +kernel
theorem dX9_next_74 : decode cX9_next 74 = .ok (.iload_n 3, 1) := by decide +kernel
theorem dX9_next_75 : decode cX9_next 75 = .ok (.ifCond .lt 35, 3) := by decide +kernel
theorem dX9_next_78 : decode cX9_next 78 = .ok (.aload_n 0, 1) := by decide +kernel
theorem dX9_next_79 : decode cX9_next 79 = .ok (.getfield 34, 3) := by decide +kernel
theorem dX9_next_82 : decode cX9_next 82 = .ok (.iload 4, 2) := by decide +kernel
theorem dX9_next_84 : decode cX9_next 84 = .ok (.laload, 1) := by decide +kernel
theorem dX9_next_85 : decode cX9_next 85 = .ok (.aload_n 0, 1) := by decide +kernel
theorem dX9_next_86 : decode cX9_next 86 = .ok (.getfield 27, 3) := by decide +kernel
theorem dX9_next_89 : decode cX9_next 89 = .ok (.iload 4, 2) := by decide +kernel
theorem dX9_next_91 : decode cX9_next 91 = .ok (.baload, 1) := by decide +kernel
theorem dX9_next_92 : decode cX9_next 92 = .ok (.aload_n 0, 1) := by decide +kernel
theorem dX9_next_93 : decode cX9_next 93 = .ok (.getfield 34, 3) := by decide +kernel
theorem dX9_next_96 : decode cX9_next 96 = .ok (.iload_n 3, 1) := by decide +kernel
theorem dX9_next_97 : decode cX9_next 97 = .ok (.laload, 1) := by decide +kernel
theorem dX9_next_98 : decode cX9_next 98 = .ok (.aload_n 0, 1) := by decide +kernel
theorem dX9_next_99 : decode cX9_next 99 = .ok (.getfield 27, 3) := by decide +kernel
theorem dX9_next_102 : decode cX9_next 102 = .ok (.iload_n 3, 1) := by decide +kernel
theorem dX9_next_103 : decode cX9_next 103 = .ok (.baload, 1) := by decide +kernel
theorem dX9_next_104 : decode cX9_next 104 = .ok (.invokestatic 177, 3) := by decide +kernel
theorem dX9_next_107 : decode cX9_next 107 = .ok (.ifCond .ge 6, 3) := by decide +kernel
theorem dX9_next_110 : decode cX9_next 110 = .ok (.iload 4, 2) := by decide +kernel
theorem dX9_next_112 : decode cX9_next 112 = .ok (.istore_n 3, 1) := by decide +kernel
theorem dX9_next_113 : decode cX9_next 113 = .ok (.iinc 4 1, 3) := by decide +kernel
theorem dX9_next_116 : decode cX9_next 116 = .ok (.goto (-111), 3) := by decide +kernel
theorem dX9_next_119 : decode cX9_next 119 = .ok (.iload_n 3, 1) := by decide +kernel
theorem dX9_next_120 : decode cX9_next 120 = .ok (.ireturn, 1) := by decide +kernel
/-- WriteOnceDiscModel.next(II)I -/
def wX9_next_L113 (post : Int32 → Prop) (rc5 : Int32 → Int32 → Prop) (x0 : Nat) (x1 : Int32) (x2 : Int32) (x3 : Int32) (x4 : Int32) (σ : Hp) : Prop :=
(∀ y1 : Int32, y1 = x4 + 1 → rc5 x3 y1)
def wX9_next_L110 (post : Int32 → Prop) (rc5 : Int32 → Int32 → Prop) (x0 : Nat) (x1 : Int32) (x2 : Int32) (x4 : Int32) (σ : Hp) : Prop :=
wX9_next_L113 post rc5 x0 x1 x2 x4 x4 σ
def wX9_next_L74 (post : Int32 → Prop) (rc5 : Int32 → Int32 → Prop) (x0 : Nat) (x1 : Int32) (x2 : Int32) (x3 : Int32) (x4 : Int32) (σ : Hp) : Prop :=
((x3 < 0 →
  wX9_next_L110 post rc5 x0 x1 x2 x4 σ) ∧
 (¬ x3 < 0 →
  (tg_ σ x0 = 9 ∧ (tg_ σ (fR_ σ 8 14 x0) = 103 ∧ (vp_in x4 (ln_ σ (fR_ σ 8 14 x0)) ∧ (tg_ σ (fR_ σ 8 12 x0) = 101 ∧ (vp_in x4 (ln_ σ (fR_ σ 8 12 x0)) ∧ (vp_in x3 (ln_ σ (fR_ σ 8 14 x0)) ∧ (vp_in x3 (ln_ σ (fR_ σ 8 12 x0)) ∧ (wX9_compare (aL_ σ (fR_ σ 8 14 x0) (x4).toNatClampNeg) (aI_ σ (fR_ σ 8 12 x0) (x4).toNatClampNeg) (aL_ σ (fR_ σ 8 14 x0) (x3).toNatClampNeg) (aI_ σ (fR_ σ 8 12 x0) (x3).toNatClampNeg) σ (fun r10 => ((0 ≤ r10 →
   wX9_next_L113 post rc5 x0 x1 x2 x3 x4 σ) ∧
  (¬ 0 ≤ r10 →
   wX9_next_L110 post rc5 x0 x1 x2 x4 σ)))))))))))))
def wX9_next_B5 (post : Int32 → Prop) (rc5 : Int32 → Int32 → Prop) (x0 : Nat) (x1 : Int32) (x2 : Int32) (x3 : Int32) (x4 : Int32) (σ : Hp) : Prop :=
(tg_ σ x0 = 9 ∧ (((fI_ σ 8 10 x0) ≤ x4 →
  post x3) ∧
 (¬ (fI_ σ 8 10 x0) ≤ x4 →
  (tg_ σ (fR_ σ 8 11 x0) = 101 ∧ (vp_in x4 (ln_ σ (fR_ σ 8 11 x0)) ∧ (((aI_ σ (fR_ σ 8 11 x0) (x4).toNatClampNeg) = 0 →
   wX9_next_L113 post rc5 x0 x1 x2 x3 x4 σ) ∧
  (¬ (aI_ σ (fR_ σ 8 11 x0) (x4).toNatClampNeg) = 0 →
   (tg_ σ (fR_ σ 8 13 x0) = 102 ∧ (vp_in x4 (ln_ σ (fR_ σ 8 13 x0)) ∧ ((¬ (aI_ σ (fR_ σ 8 13 x0) (x4).toNatClampNeg) = x1 →
    wX9_next_L113 post rc5 x0 x1 x2 x3 x4 σ) ∧
   ((aI_ σ (fR_ σ 8 13 x0) (x4).toNatClampNeg) = x1 →
    ((x2 < 0 →
     wX9_next_L74 post rc5 x0 x1 x2 x3 x4 σ) ∧
    (¬ x2 < 0 →
     (tg_ σ (fR_ σ 8 14 x0) = 103 ∧ (vp_in x4 (ln_ σ (fR_ σ 8 14 x0)) ∧ (tg_ σ (fR_ σ 8 12 x0) = 101 ∧ (vp_in x4 (ln_ σ (fR_ σ 8 12 x0)) ∧ (vp_in x2 (ln_ σ (fR_ σ 8 14 x0)) ∧ (vp_in x2 (ln_ σ (fR_ σ 8 12 x0)) ∧ (wX9_compare (aL_ σ (fR_ σ 8 14 x0) (x4).toNatClampNeg) (aI_ σ (fR_ σ 8 12 x0) (x4).toNatClampNeg) (aL_ σ (fR_ σ 8 14 x0) (x2).toNatClampNeg) (aI_ σ (fR_ σ 8 12 x0) (x2).toNatClampNeg) σ (fun r27 => ((0 < r27 →
      wX9_next_L74 post rc5 x0 x1 x2 x3 x4 σ) ∧
     (¬ 0 < r27 →
      wX9_next_L113 post rc5 x0 x1 x2 x3 x4 σ)))))))))))))))))))))))
def wX9_next_L5 (post : Int32 → Prop) (x0 : Nat) (x1 : Int32) (x2 : Int32) (x3 : Int32) (x4 : Int32) (σ : Hp) : Prop :=
 ∃ (I : Int32 → Int32 → Prop) (μ : Int32 → Int32 → Nat), I x3 x4 ∧ ∀ (x3 : Int32) (x4 : Int32), I x3 x4 → wX9_next_B5 post (fun x3' x4' => I x3' x4' ∧ μ x3' x4' < μ x3 x4) x0 x1 x2 x3 x4 σ
def wX9_next (x0 : Nat) (x1 : Int32) (x2 : Int32) (σ : Hp) (post : Int32 → Prop) : Prop :=
wX9_next_L5 post x0 x1 x2 (-1 : Int32) (1 : Int32) σ
set_option maxHeartbeats 4000000 in
theorem sX9_next_L113 {G : GG_} {p : Program} {l : Launch} {e : Env} {R : Room} {s : State} {m : MethodId} {args : Array Value} {below : List Frame} {meth : Method} {c : Code} (Y : MX_ G p R s m args meth c cX9_next 5 RX9 (some Jvm.ClassFile.FieldType.int) 5 115 0 0 "next") {post : Int32 → Prop} {rc5 : Int32 → Int32 → Prop} {x0 : Nat} {x1 : Int32} {x2 : Int32} {x3 : Int32} {x4 : Int32} {σ : Hp} (hrc5 : ∀ (x3 : Int32) (x4 : Int32), rc5 x3 x4 → WG_ G p l e R s m args below meth c (MQ below (QI_ G (fun r τ => τ = σ ∧ post r)) args s 0 0 (FR_ G)) BN_ 5 5 [(0, rv_ x0), (1, .int x1), (2, .int x2), (3, .int x3), (4, .int x4)] [] σ) (hf : wX9_next_L113 post rc5 x0 x1 x2 x3 x4 σ) : WG_ G p l e R s m args below meth c (MQ below (QI_ G (fun r τ => τ = σ ∧ post r)) args s 0 0 (FR_ G)) BN_ 5 113 [(0, rv_ x0), (1, .int x1), (2, .int x2), (3, .int x3), (4, .int x4)] [] σ := by
  have ⟨X, hlk, hr, hRf, hRl, hRc, hnm⟩ := Y
  have ⟨⟨hx, hb, _, hown, hts⟩, _, _⟩ := X
  intro H locs cells slots ls hP hL hB hl
  obtain ⟨rfl, rfl⟩ := hB
  unfold wX9_next_L113 at hf
  have hl := lv_sub hl [4, 0, 1, 2, 3] rfl
  refine p_iincc (i := 4) (k := 1) hx hb (by decide) dX9_next_113 hl (by decide) ⟨⟨ne_ rfl, Or.inl (ne_ rfl)⟩, ⟨⟨ne_ rfl, Or.inl (ne_ rfl)⟩, ⟨⟨ne_ rfl, Or.inl (ne_ rfl)⟩, ⟨⟨ne_ rfl, Or.inr rfl⟩, trivial⟩⟩⟩⟩ (fun y1 hy1 ls hl => ?_)
  have hf := hf y1 hy1
  refine lv_goto (tgt := 5) hx hb dX9_next_116 (by decide) ?_
  exact hrc5 _ _ hf _ _ _ _ _ hP hL ⟨rfl, rfl⟩ (lv_sub hl [1, 2, 3, 4, 0] rfl)
set_option maxHeartbeats 4000000 in
theorem sX9_next_L110 {G : GG_} {p : Program} {l : Launch} {e : Env} {R : Room} {s : State} {m : MethodId} {args : Array Value} {below : List Frame} {meth : Method} {c : Code} (Y : MX_ G p R s m args meth c cX9_next 5 RX9 (some Jvm.ClassFile.FieldType.int) 5 115 0 0 "next") {post : Int32 → Prop} {rc5 : Int32 → Int32 → Prop} {x0 : Nat} {x1 : Int32} {x2 : Int32} {x4 : Int32} {σ : Hp} (hrc5 : ∀ (x3 : Int32) (x4 : Int32), rc5 x3 x4 → WG_ G p l e R s m args below meth c (MQ below (QI_ G (fun r τ => τ = σ ∧ post r)) args s 0 0 (FR_ G)) BN_ 5 5 [(0, rv_ x0), (1, .int x1), (2, .int x2), (3, .int x3), (4, .int x4)] [] σ) (hf : wX9_next_L110 post rc5 x0 x1 x2 x4 σ) : WG_ G p l e R s m args below meth c (MQ below (QI_ G (fun r τ => τ = σ ∧ post r)) args s 0 0 (FR_ G)) BN_ 5 110 [(0, rv_ x0), (1, .int x1), (2, .int x2), (4, .int x4)] [] σ := by
  have ⟨X, hlk, hr, hRf, hRl, hRc, hnm⟩ := Y
  have ⟨⟨hx, hb, _, hown, hts⟩, _, _⟩ := X
  intro H locs cells slots ls hP hL hB hl
  obtain ⟨rfl, rfl⟩ := hB
  unfold wX9_next_L110 at hf
  refine lv_iload hx hb dX9_next_110 (lv_at hl 3 rfl) ?_
  refine p_istore_n (i := 3) hx hb dX9_next_112 rfl hl (by decide) ⟨⟨ne_ rfl, Or.inl (ne_ rfl)⟩, ⟨⟨ne_ rfl, Or.inl (ne_ rfl)⟩, ⟨⟨ne_ rfl, Or.inr rfl⟩, ⟨⟨ne_ rfl, Or.inl (ne_ rfl)⟩, trivial⟩⟩⟩⟩ (fun ls hl => ?_)
  exact sX9_next_L113 Y hrc5 hf _ _ _ _ _ hP hL ⟨rfl, rfl⟩ (lv_sub hl [1, 2, 3, 0, 4] rfl)
set_option maxHeartbeats 4000000 in
theorem sX9_next_L74 {G : GG_} {p : Program} {l : Launch} {e : Env} {R : Room} {s : State} {m : MethodId} {args : Array Value} {below : List Frame} {meth : Method} {c : Code} (Y : MX_ G p R s m args meth c cX9_next 5 RX9 (some Jvm.ClassFile.FieldType.int) 5 115 0 0 "next") {post : Int32 → Prop} {rc5 : Int32 → Int32 → Prop} {x0 : Nat} {x1 : Int32} {x2 : Int32} {x3 : Int32} {x4 : Int32} {σ : Hp} (hrc5 : ∀ (x3 : Int32) (x4 : Int32), rc5 x3 x4 → WG_ G p l e R s m args below meth c (MQ below (QI_ G (fun r τ => τ = σ ∧ post r)) args s 0 0 (FR_ G)) BN_ 5 5 [(0, rv_ x0), (1, .int x1), (2, .int x2), (3, .int x3), (4, .int x4)] [] σ) (hf : wX9_next_L74 post rc5 x0 x1 x2 x3 x4 σ) : WG_ G p l e R s m args below meth c (MQ below (QI_ G (fun r τ => τ = σ ∧ post r)) args s 0 0 (FR_ G)) BN_ 5 74 [(0, rv_ x0), (1, .int x1), (2, .int x2), (3, .int x3), (4, .int x4)] [] σ := by
  have ⟨X, hlk, hr, hRf, hRl, hRc, hnm⟩ := Y
  have ⟨⟨hx, hb, _, hown, hts⟩, _, _⟩ := X
  intro H locs cells slots ls hP hL hB hl
  obtain ⟨rfl, rfl⟩ := hB
  unfold wX9_next_L74 at hf
  refine lv_iload_n hx hb dX9_next_74 rfl (lv_at hl 3 rfl) ?_
  refine lv_if_lt (tgt := 110) hx hb dX9_next_75 (by decide) (fun c2 => ?_) (fun c2 => ?_)
  · have hf := hf.1 c2
    exact sX9_next_L110 Y hrc5 hf _ _ _ _ _ hP hL ⟨rfl, rfl⟩ (lv_sub hl [0, 1, 2, 4] rfl)
  · have hf := hf.2 c2
    refine p_aload_n hx hb dX9_next_78 rfl (lv_at hl 0 rfl) ?_
    obtain ⟨ht3, hf⟩ := hf
    refine p_gR X cf8_ (k := 14) (by decide) rfl hP ht3 q1309 (fun _ h => h) dX9_next_79 ?_
    refine lv_iload hx hb dX9_next_82 (lv_at hl 4 rfl) ?_
    obtain ⟨ht4, hf⟩ := hf
    obtain ⟨hi5, hf⟩ := hf
    refine p_lald X hP ht4 hi5 dX9_next_84 ?_
    refine p_aload_n hx hb dX9_next_85 rfl (lv_at hl 0 rfl) ?_
    refine p_gR X cf8_ (k := 12) (by decide) rfl hP ht3 q1307 (fun _ h => h) dX9_next_86 ?_
    refine lv_iload hx hb dX9_next_89 (lv_at hl 4 rfl) ?_
    obtain ⟨ht6, hf⟩ := hf
    obtain ⟨hi7, hf⟩ := hf
    refine p_zald X hP ht6 hi7 dX9_next_91 ?_
    refine p_aload_n hx hb dX9_next_92 rfl (lv_at hl 0 rfl) ?_
    refine p_gR X cf8_ (k := 14) (by decide) rfl hP ht3 q1309 (fun _ h => h) dX9_next_93 ?_
    refine lv_iload_n hx hb dX9_next_96 rfl (lv_at hl 3 rfl) ?_
    obtain ⟨hi8, hf⟩ := hf
    refine p_lald X hP ht4 hi8 dX9_next_97 ?_
    refine p_aload_n hx hb dX9_next_98 rfl (lv_at hl 0 rfl) ?_
    refine p_gR X cf8_ (k := 12) (by decide) rfl hP ht3 q1307 (fun _ h => h) dX9_next_99 ?_
    refine lv_iload_n hx hb dX9_next_102 rfl (lv_at hl 3 rfl) ?_
    obtain ⟨hi9, hf⟩ := hf
    refine p_zald X hP ht6 hi9 dX9_next_103 ?_
    refine p_calli hL (p_runS X hP (metX9_compare l G _ _ _ _ _ _ X.2.2 hf) (va_cwS 4 hts (lw_S q1532 q1533 q106 q1534) rfl rfl rfl (by decide +kernel) ⟨Nat.le_trans (Nat.le_of_ble_eq_true rfl) hRf, Nat.le_trans (Nat.le_of_ble_eq_true rfl) hRl⟩) rfl hl.1 rfl (by decide) dX9_next_104 ⟨Nat.zero_le _, Nat.zero_le _⟩) (fun r10 σ₁ H locs hf hP hL => ?_)
    obtain ⟨e₁, hf⟩ := hf
    rw [e₁] at hP
    refine lv_if_ge (tgt := 113) hx hb dX9_next_107 (by decide) (fun c11 => ?_) (fun c11 => ?_)
    · have hf := hf.1 c11
      exact sX9_next_L113 Y hrc5 hf _ _ _ _ _ hP hL ⟨rfl, rfl⟩ (lv_sub hl [0, 1, 2, 3, 4] rfl)
    · have hf := hf.2 c11
      exact sX9_next_L110 Y hrc5 hf _ _ _ _ _ hP hL ⟨rfl, rfl⟩ (lv_sub hl [0, 1, 2, 4] rfl)
set_option maxHeartbeats 4000000 in
theorem sX9_next_B5 {G : GG_} {p : Program} {l : Launch} {e : Env} {R : Room} {s : State} {m : MethodId} {args : Array Value} {below : List Frame} {meth : Method} {c : Code} (Y : MX_ G p R s m args meth c cX9_next 5 RX9 (some Jvm.ClassFile.FieldType.int) 5 115 0 0 "next") {post : Int32 → Prop} {rc5 : Int32 → Int32 → Prop} {x0 : Nat} {x1 : Int32} {x2 : Int32} {x3 : Int32} {x4 : Int32} {σ : Hp} (hrc5 : ∀ (x3 : Int32) (x4 : Int32), rc5 x3 x4 → WG_ G p l e R s m args below meth c (MQ below (QI_ G (fun r τ => τ = σ ∧ post r)) args s 0 0 (FR_ G)) BN_ 5 5 [(0, rv_ x0), (1, .int x1), (2, .int x2), (3, .int x3), (4, .int x4)] [] σ) (hf : wX9_next_B5 post rc5 x0 x1 x2 x3 x4 σ) : WG_ G p l e R s m args below meth c (MQ below (QI_ G (fun r τ => τ = σ ∧ post r)) args s 0 0 (FR_ G)) BN_ 5 5 [(0, rv_ x0), (1, .int x1), (2, .int x2), (3, .int x3), (4, .int x4)] [] σ := by
  have ⟨X, hlk, hr, hRf, hRl, hRc, hnm⟩ := Y
  have ⟨⟨hx, hb, _, hown, hts⟩, _, _⟩ := X
  intro H locs cells slots ls hP hL hB hl
  obtain ⟨rfl, rfl⟩ := hB
  unfold wX9_next_B5 at hf
  refine lv_iload hx hb dX9_next_5 (lv_at hl 4 rfl) ?_
  refine p_aload_n hx hb dX9_next_7 rfl (lv_at hl 0 rfl) ?_
  obtain ⟨ht12, hf⟩ := hf
  refine p_gI X cf8_ (k := 10) (by decide) rfl hP ht12 q1305 (fun _ h => h) dX9_next_8 ?_
  refine lv_icmp_ge (tgt := 119) hx hb dX9_next_11 (by decide) (fun c13 => ?_) (fun c13 => ?_)
  · have hf := hf.1 c13
    refine lv_iload_n hx hb dX9_next_119 rfl (lv_at hl 3 rfl) ?_
    exact p_iret X hlk hP hL (Nat.le_refl _) (Nat.le_refl _) hr dX9_next_120 ⟨rfl, hf⟩
  · have hf := hf.2 c13
    refine p_aload_n hx hb dX9_next_14 rfl (lv_at hl 0 rfl) ?_
    refine p_gR X cf8_ (k := 11) (by decide) rfl hP ht12 q1306 (fun _ h => h) dX9_next_15 ?_
    refine lv_iload hx hb dX9_next_18 (lv_at hl 4 rfl) ?_
    obtain ⟨ht14, hf⟩ := hf
    obtain ⟨hi15, hf⟩ := hf
    refine p_zald X hP ht14 hi15 dX9_next_20 ?_
    refine lv_if_eq (tgt := 113) hx hb dX9_next_21 (by decide) (fun c16 => ?_) (fun c16 => ?_)
    · have hf := hf.1 c16
      exact sX9_next_L113 Y hrc5 hf _ _ _ _ _ hP hL ⟨rfl, rfl⟩ (lv_sub hl [0, 1, 2, 3, 4] rfl)
    · have hf := hf.2 c16
      refine p_aload_n hx hb dX9_next_24 rfl (lv_at hl 0 rfl) ?_
      refine p_gR X cf8_ (k := 13) (by decide) rfl hP ht12 q1308 (fun _ h => h) dX9_next_25 ?_
      refine lv_iload hx hb dX9_next_28 (lv_at hl 4 rfl) ?_
      obtain ⟨ht17, hf⟩ := hf
      obtain ⟨hi18, hf⟩ := hf
      refine p_iald X hP ht17 hi18 dX9_next_30 ?_
      refine lv_iload_n hx hb dX9_next_31 rfl (lv_at hl 1 rfl) ?_
      refine lv_icmp_ne (tgt := 113) hx hb dX9_next_32 (by decide) (fun c19 => ?_) (fun c19 => ?_)
      · have hf := hf.1 c19
        exact sX9_next_L113 Y hrc5 hf _ _ _ _ _ hP hL ⟨rfl, rfl⟩ (lv_sub hl [0, 1, 2, 3, 4] rfl)
      · have hf := hf.2 c19
        refine lv_iload_n hx hb dX9_next_35 rfl (lv_at hl 2 rfl) ?_
        refine lv_if_lt (tgt := 74) hx hb dX9_next_36 (by decide) (fun c20 => ?_) (fun c20 => ?_)
        · have hf := hf.1 c20
          exact sX9_next_L74 Y hrc5 hf _ _ _ _ _ hP hL ⟨rfl, rfl⟩ (lv_sub hl [0, 1, 2, 3, 4] rfl)
        · have hf := hf.2 c20
          refine p_aload_n hx hb dX9_next_39 rfl (lv_at hl 0 rfl) ?_
          refine p_gR X cf8_ (k := 14) (by decide) rfl hP ht12 q1309 (fun _ h => h) dX9_next_40 ?_
          refine lv_iload hx hb dX9_next_43 (lv_at hl 4 rfl) ?_
          obtain ⟨ht21, hf⟩ := hf
          obtain ⟨hi22, hf⟩ := hf
          refine p_lald X hP ht21 hi22 dX9_next_45 ?_
          refine p_aload_n hx hb dX9_next_46 rfl (lv_at hl 0 rfl) ?_
          refine p_gR X cf8_ (k := 12) (by decide) rfl hP ht12 q1307 (fun _ h => h) dX9_next_47 ?_
          refine lv_iload hx hb dX9_next_50 (lv_at hl 4 rfl) ?_
          obtain ⟨ht23, hf⟩ := hf
          obtain ⟨hi24, hf⟩ := hf
          refine p_zald X hP ht23 hi24 dX9_next_52 ?_
          refine p_aload_n hx hb dX9_next_53 rfl (lv_at hl 0 rfl) ?_
          refine p_gR X cf8_ (k := 14) (by decide) rfl hP ht12 q1309 (fun _ h => h) dX9_next_54 ?_
          refine lv_iload_n hx hb dX9_next_57 rfl (lv_at hl 2 rfl) ?_
          obtain ⟨hi25, hf⟩ := hf
          refine p_lald X hP ht21 hi25 dX9_next_58 ?_
          refine p_aload_n hx hb dX9_next_59 rfl (lv_at hl 0 rfl) ?_
          refine p_gR X cf8_ (k := 12) (by decide) rfl hP ht12 q1307 (fun _ h => h) dX9_next_60 ?_
          refine lv_iload_n hx hb dX9_next_63 rfl (lv_at hl 2 rfl) ?_
          obtain ⟨hi26, hf⟩ := hf
          refine p_zald X hP ht23 hi26 dX9_next_64 ?_
          refine p_calli hL (p_runS X hP (metX9_compare l G _ _ _ _ _ _ X.2.2 hf) (va_cwS 4 hts (lw_S q1532 q1533 q106 q1534) rfl rfl rfl (by decide +kernel) ⟨Nat.le_trans (Nat.le_of_ble_eq_true rfl) hRf, Nat.le_trans (Nat.le_of_ble_eq_true rfl) hRl⟩) rfl hl.1 rfl (by decide) dX9_next_65 ⟨Nat.zero_le _, Nat.zero_le _⟩) (fun r27 σ₁ H locs hf hP hL => ?_)
          obtain ⟨e₁, hf⟩ := hf
          rw [e₁] at hP
          refine lv_if_gt (tgt := 74) hx hb dX9_next_68 (by decide) (fun c28 => ?_) (fun c28 => ?_)
          · have hf := hf.1 c28
            exact sX9_next_L74 Y hrc5 hf _ _ _ _ _ hP hL ⟨rfl, rfl⟩ (lv_sub hl [0, 1, 2, 3, 4] rfl)
          · have hf := hf.2 c28
            refine lv_goto (tgt := 113) hx hb dX9_next_71 (by decide) ?_
            exact sX9_next_L113 Y hrc5 hf _ _ _ _ _ hP hL ⟨rfl, rfl⟩ (lv_sub hl [0, 1, 2, 3, 4] rfl)
set_option maxHeartbeats 4000000 in
theorem sX9_next_L5 {G : GG_} {p : Program} {l : Launch} {e : Env} {R : Room} {s : State} {m : MethodId} {args : Array Value} {below : List Frame} {meth : Method} {c : Code} (Y : MX_ G p R s m args meth c cX9_next 5 RX9 (some Jvm.ClassFile.FieldType.int) 5 115 0 0 "next") {post : Int32 → Prop} {x0 : Nat} {x1 : Int32} {x2 : Int32} {x3 : Int32} {x4 : Int32} {σ : Hp} (hf : wX9_next_L5 post x0 x1 x2 x3 x4 σ) : WG_ G p l e R s m args below meth c (MQ below (QI_ G (fun r τ => τ = σ ∧ post r)) args s 0 0 (FR_ G)) BN_ 5 5 [(0, rv_ x0), (1, .int x1), (2, .int x2), (3, .int x3), (4, .int x4)] [] σ := by
  unfold wX9_next_L5 at hf
  obtain ⟨I, μ, h0, hI⟩ := hf
  have key : ∀ (n : Nat) (x3 : Int32) (x4 : Int32), I x3 x4 → μ x3 x4 < n → WG_ G p l e R s m args below meth c (MQ below (QI_ G (fun r τ => τ = σ ∧ post r)) args s 0 0 (FR_ G)) BN_ 5 5 [(0, rv_ x0), (1, .int x1), (2, .int x2), (3, .int x3), (4, .int x4)] [] σ := by
    intro n
    induction n with
    | zero => intro x3 x4 _ h; exact absurd h (Nat.not_lt_zero _)
    | succ n ih => intro x3 x4 hi hn; exact sX9_next_B5 Y (fun x3' x4' h => ih x3' x4' h.1 (Nat.lt_of_lt_of_le h.2 (Nat.le_of_lt_succ hn))) (hI x3 x4 hi)
  exact key _ _ _ h0 (Nat.lt_succ_self _)
set_option maxHeartbeats 4000000 in
theorem sX9_next {G : GG_} {p : Program} {l : Launch} {e : Env} {R : Room} {s : State} {m : MethodId} {args : Array Value} {below : List Frame} {meth : Method} {c : Code} (Y : MX_ G p R s m args meth c cX9_next 5 RX9 (some Jvm.ClassFile.FieldType.int) 5 115 0 0 "next") {post : Int32 → Prop} {x0 : Nat} {x1 : Int32} {x2 : Int32} {σ : Hp} (hf : wX9_next x0 x1 x2 σ post) : WG_ G p l e R s m args below meth c (MQ below (QI_ G (fun r τ => τ = σ ∧ post r)) args s 0 0 (FR_ G)) BN_ 5 0 [(0, rv_ x0), (1, .int x1), (2, .int x2)] [] σ := by
  have ⟨X, hlk, hr, hRf, hRl, hRc, hnm⟩ := Y
  have ⟨⟨hx, hb, _, hown, hts⟩, _, _⟩ := X
  intro H locs cells slots ls hP hL hB hl
  obtain ⟨rfl, rfl⟩ := hB
  unfold wX9_next at hf
  refine lv_iconst (v := (-1)) hx hb dX9_next_0 (by decide) ?_
  refine p_istore_n (i := 3) hx hb dX9_next_1 rfl hl (by decide) ⟨⟨ne_ rfl, Or.inl (ne_ rfl)⟩, ⟨⟨ne_ rfl, Or.inl (ne_ rfl)⟩, ⟨⟨ne_ rfl, Or.inr rfl⟩, trivial⟩⟩⟩ (fun ls hl => ?_)
  refine lv_iconst (v := 1) hx hb dX9_next_2 (by decide) ?_
  refine p_istore (i := 4) hx hb dX9_next_3 hl (by decide) ⟨⟨ne_ rfl, Or.inr rfl⟩, ⟨⟨ne_ rfl, Or.inl (ne_ rfl)⟩, ⟨⟨ne_ rfl, Or.inl (ne_ rfl)⟩, ⟨⟨ne_ rfl, Or.inl (ne_ rfl)⟩, trivial⟩⟩⟩⟩ (fun ls hl => ?_)
  exact sX9_next_L5 Y hf _ _ _ _ _ hP hL ⟨rfl, rfl⟩ (lv_sub hl [2, 3, 4, 1, 0] rfl)
set_option maxHeartbeats 4000000 in
theorem metX9_next (l : Launch) (G : GG_) (x0 : Nat) (x1 : Int32) (x2 : Int32) (σ : Hp) (post : Int32 → Prop) (hG : GOK_ G) (hf : wX9_next x0 x1 x2 σ post) : Met l yX9_next (ws_ yX9_next cX9_next 5 (some Jvm.ClassFile.FieldType.int)) { frames := 5, cells := 0, slots := 0, locals := 115 } (PC_ G [rv_ x0, .int x1, .int x2] σ) (QI_ G (fun r τ => τ = σ ∧ post r)) 0 0 (FR_ G) := by
  refine Met.ofW (cc := cX9_next) (maxL := 5) (ret := (some Jvm.ClassFile.FieldType.int)) (by decide) rfl ?_
  intro p e s m args below meth c s₁ B hml hv
  obtain ⟨rfl, hP, hW⟩ := hv
  have hts := atoms_spec (ws := ws_ yX9_next cX9_next 5 (some Jvm.ClassFile.FieldType.int)) B.pre
  have hts : ∀ w ∈ lw_all, w.before _ s = true := fun w h => hts w (List.mem_cons_of_mem _ h)
  rw [lg_entry_eq]
  have hl := en_entry [rv_ x0, .int x1, .int x2] [1, 1, 1] (n := 5) (ca_r (ca_i (ca_i ca_n))) (by decide)
  exact sX9_next ⟨⟨⟨B.exec, B.bytes, hml, findClass_of_methodNamed B.named, hts⟩, hW, hG⟩, B.notSynchronized, B.returns, Nat.le_refl _, Nat.le_refl _, ⟨rfl, rfl⟩, (name_of_methodNamed B.named B.method).1⟩ hf _ _ _ _ _ hP (LO_nil G) ⟨rfl, rfl⟩ hl
abbrev cX9_tables : ByteArray := prog_11_method_39_code
def yX9_tables : MethodName := ⟨RX9, "tables", "()V"⟩
theorem dX9_tables_0 : decode cX9_tables 0 = .ok (.aload_n 0, 1) := by decide +kernel
theorem dX9_tables_1 : decode cX9_tables 1 = .ok (.iconst 1, 1) := by decide +kernel
theorem dX9_tables_2 : decode cX9_tables 2 = .ok (.putfield 208, 3) := by decide +kernel
theorem dX9_tables_5 : decode cX9_tables 5 = .ok (.aload_n 0, 1) := by decide +kernel
theorem dX9_tables_6 : decode cX9_tables 6 = .ok (.getfield 57, 3) := by decide +kernel
theorem dX9_tables_9 : decode cX9_tables 9 = .ok (.iconst 0, 1) := by decide +kernel
theorem dX9_tables_10 : decode cX9_tables 10 = .ok (.iconst 0, 1) := by decide +kernel
theorem dX9_tables_11 : decode cX9_tables 11 = .ok (.iastore, 1) := by decide +kernel
theorem dX9_tables_12 : decode cX9_tables 12 = .ok (.iconst 0, 1) := by decide +kernel
theorem dX9_tables_13 : decode cX9_tables 13 = .ok (.istore_n 1, 1) := by decide +kernel
theorem dX9_tables_14 : decode cX9_tables 14 = .ok (.iload_n 1, 1) := by decide +kernel
theorem dX9_tables_15 : decode cX9_tables 15 = .ok (.aload_n 0, 1) := by decide +kernel
theorem dX9_tables_16 : decode cX9_tables 16 = .ok (.getfield 208, 3) := by decide +kernel
theorem dX9_tables_19 : decode cX9_tables 19 = .ok (.if_icmp .ge 72, 3) := by decide +kernel
theorem dX9_tables_22 : decode cX9_tables 22 = .ok (.aload_n 0, 1) := by decide +kernel
theorem dX9_tables_23 : decode cX9_tables 23 = .ok (.aload_n 0, 1) := by decide +kernel
theorem dX9_tables_24 : decode cX9_tables 24 = .ok (.getfield 57, 3) := by decide +kernel
theorem dX9_tables_27 : decode cX9_tables 27 = .ok (.iload_n 1, 1) := by decide +kernel
theorem dX9_tables_28 : decode cX9_tables 28 = .ok (.iaload, 1) := by decide +kernel
theorem dX9_tables_29 : decode cX9_tables 29 = .ok (.iconst (-1), 1) := by decide +kernel
theorem dX9_tables_30 : decode cX9_tables 30 = .ok (.invokevirtual 202, 3) := by decide +kernel
theorem dX9_tables_33 : decode cX9_tables 33 = .ok (.istore_n 2, 1) := by decide +kernel
theorem dX9_tables_34 : decode cX9_tables 34 = .ok (.iload_n 2, 1) := by decide +kernel
theorem dX9_tables_35 : decode cX9_tables 35 = .ok (.ifCond .lt 50, 3) := by decide +kernel
theorem dX9_tables_38 : decode cX9_tables 38 = .ok (.aload_n 0, 1) := by decide +kernel
theorem dX9_tables_39 : decode cX9_tables 39 = .ok (.getfield 27, 3) := by decide +kernel
theorem dX9_tables_42 : decode cX9_tables 42 = .ok (.iload_n 2, 1) := by decide +kernel
theorem dX9_tables_43 : decode cX9_tables 43 = .ok (.baload, 1) := by decide +kernel
theorem dX9_tables_44 : decode cX9_tables 44 = .ok (.ifCond .ne 6, 3) := by decide +kernel
theorem dX9_tables_47 : decode cX9_tables 47 = .ok (.goto 23, 3) := by decide +kernel
theorem dX9_tables_50 : decode cX9_tables 50 = .ok (.aload_n 0, 1) := by decide +kernel
theorem dX9_tables_51 : decode cX9_tables 51 = .ok (.getfield 57, 3) := by decide +kernel
theorem dX9_tables_54 : decode cX9_tables 54 = .ok (.aload_n 0, 1) := by decide +kernel
theorem dX9_tables_55 : decode cX9_tables 55 = .ok (.getfield 208, 3) := by decide +kernel
theorem dX9_tables_58 : decode cX9_tables 58 = .ok (.iload_n 2, 1) := by decide +kernel
theorem dX9_tables_59 : decode cX9_tables 59 = .ok (.iastore, 1) := by decide +kernel
theorem dX9_tables_60 : decode cX9_tables 60 = .ok (.aload_n 0, 1) := by decide +kernel
theorem dX9_tables_61 : decode cX9_tables 61 = .ok (.dup, 1) := by decide +kernel
theorem dX9_tables_62 : decode cX9_tables 62 = .ok (.getfield 208, 3) := by decide +kernel
theorem dX9_tables_65 : decode cX9_tables 65 = .ok (.iconst 1, 1) := by decide +kernel
theorem dX9_tables_66 : decode cX9_tables 66 = .ok (.iadd, 1) := by decide +kernel
theorem dX9_tables_67 : decode cX9_tables 67 = .ok (.putfield 208, 3) := by decide +kernel
theorem dX9_tables_70 : decode cX9_tables 70 = .ok (.aload_n 0, 1) := by decide +kernel
theorem dX9_tables_71 : decode cX9_tables 71 = .ok (.aload_n 0, 1) := by decide +kernel
theorem dX9_tables_72 : decode cX9_tables 72 = .ok (.getfield 57, 3) := by decide +kernel
theorem dX9_tables_75 : decode cX9_tables 75 = .ok (.iload_n 1, 1) := by decide +kernel
theorem dX9_tables_76 : decode cX9_tables 76 = .ok (.iaload, 1) := by decide +kernel
theorem dX9_tables_77 : decode cX9_tables 77 = .ok (.iload_n 2, 1) := by decide +kernel
theorem dX9_tables_78 : decode cX9_tables 78 = .ok (.invokevirtual 202, 3) := by decide +kernel
theorem dX9_tables_81 : decode cX9_tables 81 = .ok (.istore_n 2, 1) := by decide +kernel
theorem dX9_tables_82 : decode cX9_tables 82 = .ok (.goto (-48), 3) := by decide +kernel
theorem dX9_tables_85 : decode cX9_tables 85 = .ok (.iinc 1 1, 3) := by decide +kernel
theorem dX9_tables_88 : decode cX9_tables 88 = .ok (.goto (-74), 3) := by decide +kernel
theorem dX9_tables_91 : decode cX9_tables 91 = .ok (.return_, 1) := by decide +kernel
/-- WriteOnceDiscModel.tables()V -/
def wX9_tables_L70 (post : Hp → Prop) (rc14 : Int32 → Hp → Prop) (rc34 : Int32 → Hp → Prop) (x0 : Nat) (x1 : Int32) (x2 : Int32) (σ : Hp) : Prop :=
(tg_ σ x0 = 9 ∧ (tg_ σ (fR_ σ 8 24 x0) = 102 ∧ (vp_in x1 (ln_ σ (fR_ σ 8 24 x0)) ∧ (wX9_next x0 (aI_ σ (fR_ σ 8 24 x0) (x1).toNatClampNeg) x2 σ (fun r4 => rc34 r4 σ)))))
def wX9_tables_B34 (post : Hp → Prop) (rc14 : Int32 → Hp → Prop) (rc34 : Int32 → Hp → Prop) (x0 : Nat) (x1 : Int32) (x2 : Int32) (σ : Hp) : Prop :=
((x2 < 0 →
  (∀ y6 : Int32, y6 = x1 + 1 → rc14 y6 σ)) ∧
 (¬ x2 < 0 →
  (tg_ σ x0 = 9 ∧ (tg_ σ (fR_ σ 8 12 x0) = 101 ∧ (vp_in x2 (ln_ σ (fR_ σ 8 12 x0)) ∧ ((¬ (aI_ σ (fR_ σ 8 12 x0) (x2).toNatClampNeg) = 0 →
   (tg_ σ (fR_ σ 8 24 x0) = 102 ∧ (lo_ σ < (fR_ σ 8 24 x0) ∧ (vp_in (fI_ σ 8 22 x0) (ln_ σ (fR_ σ 8 24 x0)) ∧ (∀ σ14, σ14 = wI_ σ (fR_ σ 8 24 x0) ((fI_ σ 8 22 x0)).toNatClampNeg x2 → (∀ σ15, σ15 = sI_ σ14 8 22 x0 ((fI_ σ14 8 22 x0) + (1 : Int32)) → wX9_tables_L70 post rc14 rc34 x0 x1 x2 σ15)))))) ∧
  ((aI_ σ (fR_ σ 8 12 x0) (x2).toNatClampNeg) = 0 →
   wX9_tables_L70 post rc14 rc34 x0 x1 x2 σ)))))))
def wX9_tables_L34 (post : Hp → Prop) (rc14 : Int32 → Hp → Prop) (x0 : Nat) (x1 : Int32) (x2 : Int32) (σ : Hp) : Prop :=
 ∃ (I : Int32 → Hp → Prop) (μ : Int32 → Hp → Nat), I x2 σ ∧ ∀ (x2 : Int32) (σ : Hp), I x2 σ → wX9_tables_B34 post rc14 (fun x2' σ' => I x2' σ' ∧ μ x2' σ' < μ x2 σ) x0 x1 x2 σ
def wX9_tables_B14 (post : Hp → Prop) (rc14 : Int32 → Hp → Prop) (x0 : Nat) (x1 : Int32) (σ : Hp) : Prop :=
(tg_ σ x0 = 9 ∧ (((fI_ σ 8 22 x0) ≤ x1 →
  post σ) ∧
 (¬ (fI_ σ 8 22 x0) ≤ x1 →
  (tg_ σ (fR_ σ 8 24 x0) = 102 ∧ (vp_in x1 (ln_ σ (fR_ σ 8 24 x0)) ∧ (wX9_next x0 (aI_ σ (fR_ σ 8 24 x0) (x1).toNatClampNeg) (-1 : Int32) σ (fun r20 => wX9_tables_L34 post rc14 x0 x1 r20 σ)))))))
def wX9_tables_L14 (post : Hp → Prop) (x0 : Nat) (x1 : Int32) (σ : Hp) : Prop :=
 ∃ (I : Int32 → Hp → Prop) (μ : Int32 → Hp → Nat), I x1 σ ∧ ∀ (x1 : Int32) (σ : Hp), I x1 σ → wX9_tables_B14 post (fun x1' σ' => I x1' σ' ∧ μ x1' σ' < μ x1 σ) x0 x1 σ
def wX9_tables (x0 : Nat) (σ : Hp) (post : Hp → Prop) : Prop :=
(tg_ σ x0 = 9 ∧ (∀ σ22, σ22 = sI_ σ 8 22 x0 (1 : Int32) → (tg_ σ22 (fR_ σ22 8 24 x0) = 102 ∧ (lo_ σ22 < (fR_ σ22 8 24 x0) ∧ (vp_in (0 : Int32) (ln_ σ22 (fR_ σ22 8 24 x0)) ∧ (∀ σ26, σ26 = wI_ σ22 (fR_ σ22 8 24 x0) ((0 : Int32)).toNatClampNeg (0 : Int32) → wX9_tables_L14 post x0 (0 : Int32) σ26))))))
set_option maxHeartbeats 4000000 in
theorem sX9_tables_L70 {G : GG_} {p : Program} {l : Launch} {e : Env} {R : Room} {s : State} {m : MethodId} {args : Array Value} {below : List Frame} {meth : Method} {c : Code} (Y : MX_ G p R s m args meth c cX9_tables 3 RX9 none 6 139 0 0 "tables") {post : Hp → Prop} {rc14 : Int32 → Hp → Prop} {rc34 : Int32 → Hp → Prop} {x0 : Nat} {x1 : Int32} {x2 : Int32} {σ : Hp} (hrc14 : ∀ (x1 : Int32) (σ : Hp), rc14 x1 σ → WG_ G p l e R s m args below meth c (MQ below (QV_ G post) args s 0 0 (FR_ G)) BN_ 3 14 [(0, rv_ x0), (1, .int x1)] [] σ) (hrc34 : ∀ (x2 : Int32) (σ : Hp), rc34 x2 σ → WG_ G p l e R s m args below meth c (MQ below (QV_ G post) args s 0 0 (FR_ G)) BN_ 3 34 [(0, rv_ x0), (1, .int x1), (2, .int x2)] [] σ) (hf : wX9_tables_L70 post rc14 rc34 x0 x1 x2 σ) : WG_ G p l e R s m args below meth c (MQ below (QV_ G post) args s 0 0 (FR_ G)) BN_ 3 70 [(0, rv_ x0), (1, .int x1), (2, .int x2)] [] σ := by
  have ⟨X, hlk, hr, hRf, hRl, hRc, hnm⟩ := Y
  have ⟨⟨hx, hb, _, hown, hts⟩, _, _⟩ := X
  intro H locs cells slots ls hP hL hB hl
  obtain ⟨rfl, rfl⟩ := hB
  unfold wX9_tables_L70 at hf
  refine p_aload_n hx hb dX9_tables_70 rfl (lv_at hl 0 rfl) ?_
  refine p_aload_n hx hb dX9_tables_71 rfl (lv_at hl 0 rfl) ?_
  obtain ⟨ht1, hf⟩ := hf
  refine p_gR X cf8_ (k := 24) (by decide) rfl hP ht1 q1318 (fun _ h => h) dX9_tables_72 ?_
  refine lv_iload_n hx hb dX9_tables_75 rfl (lv_at hl 1 rfl) ?_
  obtain ⟨ht2, hf⟩ := hf
  obtain ⟨hi3, hf⟩ := hf
  refine p_iald X hP ht2 hi3 dX9_tables_76 ?_
  refine lv_iload_n hx hb dX9_tables_77 rfl (lv_at hl 2 rfl) ?_
  refine p_calli hL (p_runV X cf8_ hP ht1 (metX9_next l G _ _ _ _ _ X.2.2 hf) (cwV 2 hts (lw_V q1528 q1530 qs57 q106 q1531) rfl rfl rfl (by decide +kernel) ⟨Nat.le_trans (Nat.le_of_ble_eq_true rfl) hRf, Nat.le_trans (Nat.le_of_ble_eq_true rfl) hRl⟩) rfl hl.1 rfl (by decide) dX9_tables_78 ⟨Nat.zero_le _, Nat.zero_le _⟩) (fun r4 σ₁ H locs hf hP hL => ?_)
  obtain ⟨e₁, hf⟩ := hf
  rw [e₁] at hP
  have hl := lv_sub hl [0, 1] rfl
  refine p_istore_n (i := 2) hx hb dX9_tables_81 rfl hl (by decide) ⟨⟨ne_ rfl, Or.inl (ne_ rfl)⟩, ⟨⟨ne_ rfl, Or.inr rfl⟩, trivial⟩⟩ (fun ls hl => ?_)
  refine lv_goto (tgt := 34) hx hb dX9_tables_82 (by decide) ?_
  exact hrc34 _ _ hf _ _ _ _ _ hP hL ⟨rfl, rfl⟩ (lv_sub hl [1, 2, 0] rfl)
set_option maxHeartbeats 4000000 in
theorem sX9_tables_B34 {G : GG_} {p : Program} {l : Launch} {e : Env} {R : Room} {s : State} {m : MethodId} {args : Array Value} {below : List Frame} {meth : Method} {c : Code} (Y : MX_ G p R s m args meth c cX9_tables 3 RX9 none 6 139 0 0 "tables") {post : Hp → Prop} {rc14 : Int32 → Hp → Prop} {rc34 : Int32 → Hp → Prop} {x0 : Nat} {x1 : Int32} {x2 : Int32} {σ : Hp} (hrc14 : ∀ (x1 : Int32) (σ : Hp), rc14 x1 σ → WG_ G p l e R s m args below meth c (MQ below (QV_ G post) args s 0 0 (FR_ G)) BN_ 3 14 [(0, rv_ x0), (1, .int x1)] [] σ) (hrc34 : ∀ (x2 : Int32) (σ : Hp), rc34 x2 σ → WG_ G p l e R s m args below meth c (MQ below (QV_ G post) args s 0 0 (FR_ G)) BN_ 3 34 [(0, rv_ x0), (1, .int x1), (2, .int x2)] [] σ) (hf : wX9_tables_B34 post rc14 rc34 x0 x1 x2 σ) : WG_ G p l e R s m args below meth c (MQ below (QV_ G post) args s 0 0 (FR_ G)) BN_ 3 34 [(0, rv_ x0), (1, .int x1), (2, .int x2)] [] σ := by
  have ⟨X, hlk, hr, hRf, hRl, hRc, hnm⟩ := Y
  have ⟨⟨hx, hb, _, hown, hts⟩, _, _⟩ := X
  intro H locs cells slots ls hP hL hB hl
  obtain ⟨rfl, rfl⟩ := hB
  unfold wX9_tables_B34 at hf
  refine lv_iload_n hx hb dX9_tables_34 rfl (lv_at hl 2 rfl) ?_
  refine lv_if_lt (tgt := 85) hx hb dX9_tables_35 (by decide) (fun c5 => ?_) (fun c5 => ?_)
  · have hf := hf.1 c5
    have hl := lv_sub hl [1, 0] rfl
    refine p_iincc (i := 1) (k := 1) hx hb (by decide) dX9_tables_85 hl (by decide) ⟨⟨ne_ rfl, Or.inr (rv_cat _)⟩, trivial⟩ (fun y6 hy6 ls hl => ?_)
    have hf := hf y6 hy6
    refine lv_goto (tgt := 14) hx hb dX9_tables_88 (by decide) ?_
    exact hrc14 _ _ hf _ _ _ _ _ hP hL ⟨rfl, rfl⟩ (lv_sub hl [1, 0] rfl)
  · have hf := hf.2 c5
    refine p_aload_n hx hb dX9_tables_38 rfl (lv_at hl 0 rfl) ?_
    obtain ⟨ht7, hf⟩ := hf
    refine p_gR X cf8_ (k := 12) (by decide) rfl hP ht7 q1307 (fun _ h => h) dX9_tables_39 ?_
    refine lv_iload_n hx hb dX9_tables_42 rfl (lv_at hl 2 rfl) ?_
    obtain ⟨ht8, hf⟩ := hf
    obtain ⟨hi9, hf⟩ := hf
    refine p_zald X hP ht8 hi9 dX9_tables_43 ?_
    refine lv_if_ne (tgt := 50) hx hb dX9_tables_44 (by decide) (fun c10 => ?_) (fun c10 => ?_)
    · have hf := hf.1 c10
      refine p_aload_n hx hb dX9_tables_50 rfl (lv_at hl 0 rfl) ?_
      refine p_gR X cf8_ (k := 24) (by decide) rfl hP ht7 q1318 (fun _ h => h) dX9_tables_51 ?_
      refine p_aload_n hx hb dX9_tables_54 rfl (lv_at hl 0 rfl) ?_
      refine p_gI X cf8_ (k := 22) (by decide) rfl hP ht7 q1317 (fun _ h => h) dX9_tables_55 ?_
      refine lv_iload_n hx hb dX9_tables_58 rfl (lv_at hl 2 rfl) ?_
      obtain ⟨ht11, hf⟩ := hf
      obtain ⟨hlo12, hf⟩ := hf
      obtain ⟨hi13, hf⟩ := hf
      refine p_iast X hP hL ht11 hlo12 hi13 dX9_tables_59 (fun H locs hP hL => ?_)
      refine p_nmP hP (fun σ14 hσ14 hP => ?_)
      have hf := hf σ14 hσ14
      have ht7 : tg_ σ14 x0 = 9 := by rw [hσ14]; exact ht7
      refine p_aload_n hx hb dX9_tables_60 rfl (lv_at hl 0 rfl) ?_
      refine lv_dup hx hb dX9_tables_61 (rv_cat _) ?_
      refine p_gI X cf8_ (k := 22) (by decide) rfl hP ht7 q1317 (fun _ h => h) dX9_tables_62 ?_
      refine lv_iconst (v := 1) hx hb dX9_tables_65 (by decide) ?_
      refine lv_iadd hx hb dX9_tables_66 ?_
      refine p_pI X cf8_ (k := 22) (by decide) rfl hP hL ht7 (p_ow hP ht7 rfl) q1317 (fun _ h => h) (Or.inl rfl) rfl rfl dX9_tables_67 (fun H locs hP hL => ?_)
      refine p_nmP hP (fun σ15 hσ15 hP => ?_)
      have hf := hf σ15 hσ15
      have ht7 : tg_ σ15 x0 = 9 := by rw [hσ15]; exact ht7
      exact sX9_tables_L70 Y hrc14 hrc34 hf _ _ _ _ _ hP hL ⟨rfl, rfl⟩ (lv_sub hl [0, 1, 2] rfl)
    · have hf := hf.2 c10
      refine lv_goto (tgt := 70) hx hb dX9_tables_47 (by decide) ?_
      exact sX9_tables_L70 Y hrc14 hrc34 hf _ _ _ _ _ hP hL ⟨rfl, rfl⟩ (lv_sub hl [0, 1, 2] rfl)
set_option maxHeartbeats 4000000 in
theorem sX9_tables_L34 {G : GG_} {p : Program} {l : Launch} {e : Env} {R : Room} {s : State} {m : MethodId} {args : Array Value} {below : List Frame} {meth : Method} {c : Code} (Y : MX_ G p R s m args meth c cX9_tables 3 RX9 none 6 139 0 0 "tables") {post : Hp → Prop} {rc14 : Int32 → Hp → Prop} {x0 : Nat} {x1 : Int32} {x2 : Int32} {σ : Hp} (hrc14 : ∀ (x1 : Int32) (σ : Hp), rc14 x1 σ → WG_ G p l e R s m args below meth c (MQ below (QV_ G post) args s 0 0 (FR_ G)) BN_ 3 14 [(0, rv_ x0), (1, .int x1)] [] σ) (hf : wX9_tables_L34 post rc14 x0 x1 x2 σ) : WG_ G p l e R s m args below meth c (MQ below (QV_ G post) args s 0 0 (FR_ G)) BN_ 3 34 [(0, rv_ x0), (1, .int x1), (2, .int x2)] [] σ := by
  unfold wX9_tables_L34 at hf
  obtain ⟨I, μ, h0, hI⟩ := hf
  have key : ∀ (n : Nat) (x2 : Int32) (σ : Hp), I x2 σ → μ x2 σ < n → WG_ G p l e R s m args below meth c (MQ below (QV_ G post) args s 0 0 (FR_ G)) BN_ 3 34 [(0, rv_ x0), (1, .int x1), (2, .int x2)] [] σ := by
    intro n
    induction n with
    | zero => intro x2 σ _ h; exact absurd h (Nat.not_lt_zero _)
    | succ n ih => intro x2 σ hi hn; exact sX9_tables_B34 Y hrc14 (fun x2' σ' h => ih x2' σ' h.1 (Nat.lt_of_lt_of_le h.2 (Nat.le_of_lt_succ hn))) (hI x2 σ hi)
  exact key _ _ _ h0 (Nat.lt_succ_self _)
set_option maxHeartbeats 4000000 in
theorem sX9_tables_B14 {G : GG_} {p : Program} {l : Launch} {e : Env} {R : Room} {s : State} {m : MethodId} {args : Array Value} {below : List Frame} {meth : Method} {c : Code} (Y : MX_ G p R s m args meth c cX9_tables 3 RX9 none 6 139 0 0 "tables") {post : Hp → Prop} {rc14 : Int32 → Hp → Prop} {x0 : Nat} {x1 : Int32} {σ : Hp} (hrc14 : ∀ (x1 : Int32) (σ : Hp), rc14 x1 σ → WG_ G p l e R s m args below meth c (MQ below (QV_ G post) args s 0 0 (FR_ G)) BN_ 3 14 [(0, rv_ x0), (1, .int x1)] [] σ) (hf : wX9_tables_B14 post rc14 x0 x1 σ) : WG_ G p l e R s m args below meth c (MQ below (QV_ G post) args s 0 0 (FR_ G)) BN_ 3 14 [(0, rv_ x0), (1, .int x1)] [] σ := by
  have ⟨X, hlk, hr, hRf, hRl, hRc, hnm⟩ := Y
  have ⟨⟨hx, hb, _, hown, hts⟩, _, _⟩ := X
  intro H locs cells slots ls hP hL hB hl
  obtain ⟨rfl, rfl⟩ := hB
  unfold wX9_tables_B14 at hf
  refine lv_iload_n hx hb dX9_tables_14 rfl (lv_at hl 1 rfl) ?_
  refine p_aload_n hx hb dX9_tables_15 rfl (lv_at hl 0 rfl) ?_
  obtain ⟨ht16, hf⟩ := hf
  refine p_gI X cf8_ (k := 22) (by decide) rfl hP ht16 q1317 (fun _ h => h) dX9_tables_16 ?_
  refine lv_icmp_ge (tgt := 91) hx hb dX9_tables_19 (by decide) (fun c17 => ?_) (fun c17 => ?_)
  · have hf := hf.1 c17
    exact p_vret X hlk hP hL (Nat.le_refl _) (Nat.le_refl _) hr dX9_tables_91 hf
  · have hf := hf.2 c17
    refine p_aload_n hx hb dX9_tables_22 rfl (lv_at hl 0 rfl) ?_
    refine p_aload_n hx hb dX9_tables_23 rfl (lv_at hl 0 rfl) ?_
    refine p_gR X cf8_ (k := 24) (by decide) rfl hP ht16 q1318 (fun _ h => h) dX9_tables_24 ?_
    refine lv_iload_n hx hb dX9_tables_27 rfl (lv_at hl 1 rfl) ?_
    obtain ⟨ht18, hf⟩ := hf
    obtain ⟨hi19, hf⟩ := hf
    refine p_iald X hP ht18 hi19 dX9_tables_28 ?_
    refine lv_iconst (v := (-1)) hx hb dX9_tables_29 (by decide) ?_
    refine p_calli hL (p_runV X cf8_ hP ht16 (metX9_next l G _ _ _ _ _ X.2.2 hf) (cwV 2 hts (lw_V q1528 q1530 qs57 q106 q1531) rfl rfl rfl (by decide +kernel) ⟨Nat.le_trans (Nat.le_of_ble_eq_true rfl) hRf, Nat.le_trans (Nat.le_of_ble_eq_true rfl) hRl⟩) rfl hl.1 rfl (by decide) dX9_tables_30 ⟨Nat.zero_le _, Nat.zero_le _⟩) (fun r20 σ₁ H locs hf hP hL => ?_)
    obtain ⟨e₁, hf⟩ := hf
    rw [e₁] at hP
    refine p_istore_n (i := 2) hx hb dX9_tables_33 rfl hl (by decide) ⟨⟨ne_ rfl, Or.inl (ne_ rfl)⟩, ⟨⟨ne_ rfl, Or.inr rfl⟩, trivial⟩⟩ (fun ls hl => ?_)
    exact sX9_tables_L34 Y hrc14 hf _ _ _ _ _ hP hL ⟨rfl, rfl⟩ (lv_sub hl [1, 2, 0] rfl)
set_option maxHeartbeats 4000000 in
theorem sX9_tables_L14 {G : GG_} {p : Program} {l : Launch} {e : Env} {R : Room} {s : State} {m : MethodId} {args : Array Value} {below : List Frame} {meth : Method} {c : Code} (Y : MX_ G p R s m args meth c cX9_tables 3 RX9 none 6 139 0 0 "tables") {post : Hp → Prop} {x0 : Nat} {x1 : Int32} {σ : Hp} (hf : wX9_tables_L14 post x0 x1 σ) : WG_ G p l e R s m args below meth c (MQ below (QV_ G post) args s 0 0 (FR_ G)) BN_ 3 14 [(0, rv_ x0), (1, .int x1)] [] σ := by
  unfold wX9_tables_L14 at hf
  obtain ⟨I, μ, h0, hI⟩ := hf
  have key : ∀ (n : Nat) (x1 : Int32) (σ : Hp), I x1 σ → μ x1 σ < n → WG_ G p l e R s m args below meth c (MQ below (QV_ G post) args s 0 0 (FR_ G)) BN_ 3 14 [(0, rv_ x0), (1, .int x1)] [] σ := by
    intro n
    induction n with
    | zero => intro x1 σ _ h; exact absurd h (Nat.not_lt_zero _)
    | succ n ih => intro x1 σ hi hn; exact sX9_tables_B14 Y (fun x1' σ' h => ih x1' σ' h.1 (Nat.lt_of_lt_of_le h.2 (Nat.le_of_lt_succ hn))) (hI x1 σ hi)
  exact key _ _ _ h0 (Nat.lt_succ_self _)
set_option maxHeartbeats 4000000 in
theorem sX9_tables {G : GG_} {p : Program} {l : Launch} {e : Env} {R : Room} {s : State} {m : MethodId} {args : Array Value} {below : List Frame} {meth : Method} {c : Code} (Y : MX_ G p R s m args meth c cX9_tables 3 RX9 none 6 139 0 0 "tables") {post : Hp → Prop} {x0 : Nat} {σ : Hp} (hf : wX9_tables x0 σ post) : WG_ G p l e R s m args below meth c (MQ below (QV_ G post) args s 0 0 (FR_ G)) BN_ 3 0 [(0, rv_ x0)] [] σ := by
  have ⟨X, hlk, hr, hRf, hRl, hRc, hnm⟩ := Y
  have ⟨⟨hx, hb, _, hown, hts⟩, _, _⟩ := X
  intro H locs cells slots ls hP hL hB hl
  obtain ⟨rfl, rfl⟩ := hB
  unfold wX9_tables at hf
  refine p_aload_n hx hb dX9_tables_0 rfl (lv_at hl 0 rfl) ?_
  refine lv_iconst (v := 1) hx hb dX9_tables_1 (by decide) ?_
  obtain ⟨ht21, hf⟩ := hf
  refine p_pI X cf8_ (k := 22) (by decide) rfl hP hL ht21 (p_ow hP ht21 rfl) q1317 (fun _ h => h) (Or.inl rfl) rfl rfl dX9_tables_2 (fun H locs hP hL => ?_)
  refine p_nmP hP (fun σ22 hσ22 hP => ?_)
  have hf := hf σ22 hσ22
  have ht21 : tg_ σ22 x0 = 9 := by rw [hσ22]; exact ht21
  refine p_aload_n hx hb dX9_tables_5 rfl (lv_at hl 0 rfl) ?_
  refine p_gR X cf8_ (k := 24) (by decide) rfl hP ht21 q1318 (fun _ h => h) dX9_tables_6 ?_
  refine lv_iconst (v := 0) hx hb dX9_tables_9 (by decide) ?_
  refine lv_iconst (v := 0) hx hb dX9_tables_10 (by decide) ?_
  obtain ⟨ht23, hf⟩ := hf
  obtain ⟨hlo24, hf⟩ := hf
  obtain ⟨hi25, hf⟩ := hf
  refine p_iast X hP hL ht23 hlo24 hi25 dX9_tables_11 (fun H locs hP hL => ?_)
  refine p_nmP hP (fun σ26 hσ26 hP => ?_)
  have hf := hf σ26 hσ26
  have ht21 : tg_ σ26 x0 = 9 := by rw [hσ26]; exact ht21
  refine lv_iconst (v := 0) hx hb dX9_tables_12 (by decide) ?_
  refine p_istore_n (i := 1) hx hb dX9_tables_13 rfl hl (by decide) ⟨⟨ne_ rfl, Or.inr (rv_cat _)⟩, trivial⟩ (fun ls hl => ?_)
  exact sX9_tables_L14 Y hf _ _ _ _ _ hP hL ⟨rfl, rfl⟩ (lv_sub hl [1, 0] rfl)
set_option maxHeartbeats 4000000 in
theorem metX9_tables (l : Launch) (G : GG_) (x0 : Nat) (σ : Hp) (post : Hp → Prop) (hG : GOK_ G) (hf : wX9_tables x0 σ post) : Met l yX9_tables (ws_ yX9_tables cX9_tables 3 none) { frames := 6, cells := 0, slots := 0, locals := 139 } (PC_ G [rv_ x0] σ) (QV_ G post) 0 0 (FR_ G) := by
  refine Met.ofW (cc := cX9_tables) (maxL := 3) (ret := none) (by decide) rfl ?_
  intro p e s m args below meth c s₁ B hml hv
  obtain ⟨rfl, hP, hW⟩ := hv
  have hts := atoms_spec (ws := ws_ yX9_tables cX9_tables 3 none) B.pre
  have hts : ∀ w ∈ lw_all, w.before _ s = true := fun w h => hts w (List.mem_cons_of_mem _ h)
  rw [lg_entry_eq]
  have hl := en_entry [rv_ x0] [1] (n := 3) (ca_r ca_n) (by decide)
  exact sX9_tables ⟨⟨⟨B.exec, B.bytes, hml, findClass_of_methodNamed B.named, hts⟩, hW, hG⟩, B.notSynchronized, B.returns, Nat.le_refl _, Nat.le_refl _, ⟨rfl, rfl⟩, (name_of_methodNamed B.named B.method).1⟩ hf _ _ _ _ _ hP (LO_nil G) ⟨rfl, rfl⟩ hl
abbrev cX9_idSize : ByteArray := prog_11_method_28_code
def yX9_idSize : MethodName := ⟨RX9, "idSize", "(JZ)I"⟩
theorem dX9_idSize_0 : decode cX9_idSize 0 = .ok (.iload_n 2, 1) := by decide +kernel
theorem dX9_idSize_1 : decode cX9_idSize 1 = .ok (.ifCond .eq 10, 3) := by decide +kernel
theorem dX9_idSize_4 : decode cX9_idSize 4 = .ok (.lload_n 0, 1) := by decide +kernel
theorem dX9_idSize_5 : decode cX9_idSize 5 = .ok (.invokestatic 165, 3) := by decide +kernel
theorem dX9_idSize_8 : decode cX9_idSize 8 = .ok (.goto 9, 3) := by decide +kernel
theorem dX9_idSize_11 : decode cX9_idSize 11 = .ok (.lload_n 0, 1) := by decide +kernel
theorem dX9_idSize_12 : decode cX9_idSize 12 = .ok (.invokestatic 165, 3) := by decide +kernel
theorem dX9_idSize_15 : decode cX9_idSize 15 = .ok (.iconst 3, 1) := by decide +kernel
theorem dX9_idSize_16 : decode cX9_idSize 16 = .ok (.iadd, 1) := by decide +kernel
theorem dX9_idSize_17 : decode cX9_idSize 17 = .ok (.ireturn, 1) := by decide +kernel
/-- WriteOnceDiscModel.idSize(JZ)I -/
def wX9_idSize (x0 : Int64) (x2 : Int32) (σ : Hp) (post : Int32 → Prop) : Prop :=
((x2 = 0 →
  (wX9_lettersOf x0 σ (fun r2 => post (r2 + (3 : Int32))))) ∧
 (¬ x2 = 0 →
  (wX9_lettersOf x0 σ (fun r3 => post r3))))
set_option maxHeartbeats 4000000 in
theorem sX9_idSize {G : GG_} {p : Program} {l : Launch} {e : Env} {R : Room} {s : State} {m : MethodId} {args : Array Value} {below : List Frame} {meth : Method} {c : Code} (Y : MX_ G p R s m args meth c cX9_idSize 3 RX9 (some Jvm.ClassFile.FieldType.int) 2 42 0 0 "idSize") {post : Int32 → Prop} {x0 : Int64} {x2 : Int32} {σ : Hp} (hf : wX9_idSize x0 x2 σ post) : WG_ G p l e R s m args below meth c (MQ below (QI_ G (fun r τ => τ = σ ∧ post r)) args s 0 0 (FR_ G)) BN_ 3 0 [(0, .long x0), (2, .int x2)] [] σ := by
  have ⟨X, hlk, hr, hRf, hRl, hRc, hnm⟩ := Y
  have ⟨⟨hx, hb, _, hown, hts⟩, _, _⟩ := X
  intro H locs cells slots ls hP hL hB hl
  obtain ⟨rfl, rfl⟩ := hB
  unfold wX9_idSize at hf
  refine lv_iload_n hx hb dX9_idSize_0 rfl (lv_at hl 1 rfl) ?_
  refine lv_if_eq (tgt := 11) hx hb dX9_idSize_1 (by decide) (fun c1 => ?_) (fun c1 => ?_)
  · have hf := hf.1 c1
    refine lv_lload_n hx hb dX9_idSize_11 rfl (lv_at hl 0 rfl) ?_
    refine p_calli hL (p_runS X hP (metX9_lettersOf l G _ _ _ X.2.2 hf) (va_cwS 1 hts (lw_S q1538 q1539 q106 q1540) rfl rfl rfl (by decide +kernel) ⟨Nat.le_trans (Nat.le_of_ble_eq_true rfl) hRf, Nat.le_trans (Nat.le_of_ble_eq_true rfl) hRl⟩) rfl hl.1 rfl (by decide) dX9_idSize_12 ⟨Nat.zero_le _, Nat.zero_le _⟩) (fun r2 σ₁ H locs hf hP hL => ?_)
    obtain ⟨e₁, hf⟩ := hf
    rw [e₁] at hP
    refine lv_iconst (v := 3) hx hb dX9_idSize_15 (by decide) ?_
    refine lv_iadd hx hb dX9_idSize_16 ?_
    exact p_iret X hlk hP hL (Nat.le_refl _) (Nat.le_refl _) hr dX9_idSize_17 ⟨rfl, hf⟩
  · have hf := hf.2 c1
    refine lv_lload_n hx hb dX9_idSize_4 rfl (lv_at hl 0 rfl) ?_
    refine p_calli hL (p_runS X hP (metX9_lettersOf l G _ _ _ X.2.2 hf) (va_cwS 1 hts (lw_S q1538 q1539 q106 q1540) rfl rfl rfl (by decide +kernel) ⟨Nat.le_trans (Nat.le_of_ble_eq_true rfl) hRf, Nat.le_trans (Nat.le_of_ble_eq_true rfl) hRl⟩) rfl hl.1 rfl (by decide) dX9_idSize_5 ⟨Nat.zero_le _, Nat.zero_le _⟩) (fun r3 σ₁ H locs hf hP hL => ?_)
    obtain ⟨e₁, hf⟩ := hf
    rw [e₁] at hP
    refine lv_goto (tgt := 17) hx hb dX9_idSize_8 (by decide) ?_
    exact p_iret X hlk hP hL (Nat.le_refl _) (Nat.le_refl _) hr dX9_idSize_17 ⟨rfl, hf⟩
set_option maxHeartbeats 4000000 in
theorem metX9_idSize (l : Launch) (G : GG_) (x0 : Int64) (x2 : Int32) (σ : Hp) (post : Int32 → Prop) (hG : GOK_ G) (hf : wX9_idSize x0 x2 σ post) : Met l yX9_idSize (ws_ yX9_idSize cX9_idSize 3 (some Jvm.ClassFile.FieldType.int)) { frames := 2, cells := 0, slots := 0, locals := 42 } (PC_ G [.long x0, .int x2] σ) (QI_ G (fun r τ => τ = σ ∧ post r)) 0 0 (FR_ G) := by
  refine Met.ofW (cc := cX9_idSize) (maxL := 3) (ret := (some Jvm.ClassFile.FieldType.int)) (by decide) rfl ?_
  intro p e s m args below meth c s₁ B hml hv
  obtain ⟨rfl, hP, hW⟩ := hv
  have hts := atoms_spec (ws := ws_ yX9_idSize cX9_idSize 3 (some Jvm.ClassFile.FieldType.int)) B.pre
  have hts : ∀ w ∈ lw_all, w.before _ s = true := fun w h => hts w (List.mem_cons_of_mem _ h)
  rw [lg_entry_eq]
  have hl := en_entry [.long x0, .int x2] [2, 1] (n := 3) (ca_l (ca_i ca_n)) (by decide)
  exact sX9_idSize ⟨⟨⟨B.exec, B.bytes, hml, findClass_of_methodNamed B.named, hts⟩, hW, hG⟩, B.notSynchronized, B.returns, Nat.le_refl _, Nat.le_refl _, ⟨rfl, rfl⟩, (name_of_methodNamed B.named B.method).1⟩ hf _ _ _ _ _ hP (LO_nil G) ⟨rfl, rfl⟩ hl
abbrev cX9_recordId : ByteArray := prog_11_method_36_code
def yX9_recordId : MethodName := ⟨RX9, "recordId", "(II)I"⟩
theorem dX9_recordId_0 : decode cX9_recordId 0 = .ok (.iload_n 1, 1) := by decide +kernel
theorem dX9_recordId_1 : decode cX9_recordId 1 = .ok (.iconst 2, 1) := by decide +kernel
theorem dX9_recordId_2 : decode cX9_recordId 2 = .ok (.if_icmp .ge 7, 3) := by decide +kernel
theorem dX9_recordId_5 : decode cX9_recordId 5 = .ok (.iconst 1, 1) := by decide +kernel
theorem dX9_recordId_6 : decode cX9_recordId 6 = .ok (.goto 18, 3) := by decide +kernel
theorem dX9_recordId_9 : decode cX9_recordId 9 = .ok (.aload_n 0, 1) := by decide +kernel
theorem dX9_recordId_10 : decode cX9_recordId 10 = .ok (.getfield 34, 3) := by decide +kernel
theorem dX9_recordId_13 : decode cX9_recordId 13 = .ok (.iload_n 2, 1) := by decide +kernel
theorem dX9_recordId_14 : decode cX9_recordId 14 = .ok (.laload, 1) := by decide +kernel
theorem dX9_recordId_15 : decode cX9_recordId 15 = .ok (.aload_n 0, 1) := by decide +kernel
theorem dX9_recordId_16 : decode cX9_recordId 16 = .ok (.getfield 27, 3) := by decide +kernel
theorem dX9_recordId_19 : decode cX9_recordId 19 = .ok (.iload_n 2, 1) := by decide +kernel
theorem dX9_recordId_20 : decode cX9_recordId 20 = .ok (.baload, 1) := by decide +kernel
theorem dX9_recordId_21 : decode cX9_recordId 21 = .ok (.invokestatic 188, 3) := by decide +kernel
theorem dX9_recordId_24 : decode cX9_recordId 24 = .ok (.ireturn, 1) := by decide +kernel
/-- WriteOnceDiscModel.recordId(II)I -/
def wX9_recordId (x0 : Nat) (x1 : Int32) (x2 : Int32) (σ : Hp) (post : Int32 → Prop) : Prop :=
(((2 : Int32) ≤ x1 →
  (tg_ σ x0 = 9 ∧ (tg_ σ (fR_ σ 8 14 x0) = 103 ∧ (vp_in x2 (ln_ σ (fR_ σ 8 14 x0)) ∧ (tg_ σ (fR_ σ 8 12 x0) = 101 ∧ (vp_in x2 (ln_ σ (fR_ σ 8 12 x0)) ∧ (wX9_idSize (aL_ σ (fR_ σ 8 14 x0) (x2).toNatClampNeg) (aI_ σ (fR_ σ 8 12 x0) (x2).toNatClampNeg) σ (fun r7 => post r7)))))))) ∧
 (¬ (2 : Int32) ≤ x1 →
  post (1 : Int32)))
set_option maxHeartbeats 4000000 in
theorem sX9_recordId {G : GG_} {p : Program} {l : Launch} {e : Env} {R : Room} {s : State} {m : MethodId} {args : Array Value} {below : List Frame} {meth : Method} {c : Code} (Y : MX_ G p R s m args meth c cX9_recordId 3 RX9 (some Jvm.ClassFile.FieldType.int) 3 64 0 0 "recordId") {post : Int32 → Prop} {x0 : Nat} {x1 : Int32} {x2 : Int32} {σ : Hp} (hf : wX9_recordId x0 x1 x2 σ post) : WG_ G p l e R s m args below meth c (MQ below (QI_ G (fun r τ => τ = σ ∧ post r)) args s 0 0 (FR_ G)) BN_ 3 0 [(0, rv_ x0), (1, .int x1), (2, .int x2)] [] σ := by
  have ⟨X, hlk, hr, hRf, hRl, hRc, hnm⟩ := Y
  have ⟨⟨hx, hb, _, hown, hts⟩, _, _⟩ := X
  intro H locs cells slots ls hP hL hB hl
  obtain ⟨rfl, rfl⟩ := hB
  unfold wX9_recordId at hf
  refine lv_iload_n hx hb dX9_recordId_0 rfl (lv_at hl 1 rfl) ?_
  refine lv_iconst (v := 2) hx hb dX9_recordId_1 (by decide) ?_
  refine lv_icmp_ge (tgt := 9) hx hb dX9_recordId_2 (by decide) (fun c1 => ?_) (fun c1 => ?_)
  · have hf := hf.1 c1
    refine p_aload_n hx hb dX9_recordId_9 rfl (lv_at hl 0 rfl) ?_
    obtain ⟨ht2, hf⟩ := hf
    refine p_gR X cf8_ (k := 14) (by decide) rfl hP ht2 q1309 (fun _ h => h) dX9_recordId_10 ?_
    refine lv_iload_n hx hb dX9_recordId_13 rfl (lv_at hl 2 rfl) ?_
    obtain ⟨ht3, hf⟩ := hf
    obtain ⟨hi4, hf⟩ := hf
    refine p_lald X hP ht3 hi4 dX9_recordId_14 ?_
    refine p_aload_n hx hb dX9_recordId_15 rfl (lv_at hl 0 rfl) ?_
    refine p_gR X cf8_ (k := 12) (by decide) rfl hP ht2 q1307 (fun _ h => h) dX9_recordId_16 ?_
    refine lv_iload_n hx hb dX9_recordId_19 rfl (lv_at hl 2 rfl) ?_
    obtain ⟨ht5, hf⟩ := hf
    obtain ⟨hi6, hf⟩ := hf
    refine p_zald X hP ht5 hi6 dX9_recordId_20 ?_
    refine p_calli hL (p_runS X hP (metX9_idSize l G _ _ _ _ X.2.2 hf) (va_cwS 2 hts (lw_S q1552 q1553 q106 q1554) rfl rfl rfl (by decide +kernel) ⟨Nat.le_trans (Nat.le_of_ble_eq_true rfl) hRf, Nat.le_trans (Nat.le_of_ble_eq_true rfl) hRl⟩) rfl hl.1 rfl (by decide) dX9_recordId_21 ⟨Nat.zero_le _, Nat.zero_le _⟩) (fun r7 σ₁ H locs hf hP hL => ?_)
    obtain ⟨e₁, hf⟩ := hf
    rw [e₁] at hP
    exact p_iret X hlk hP hL (Nat.le_refl _) (Nat.le_refl _) hr dX9_recordId_24 ⟨rfl, hf⟩
  · have hf := hf.2 c1
    refine lv_iconst (v := 1) hx hb dX9_recordId_5 (by decide) ?_
    refine lv_goto (tgt := 24) hx hb dX9_recordId_6 (by decide) ?_
    exact p_iret X hlk hP hL (Nat.le_refl _) (Nat.le_refl _) hr dX9_recordId_24 ⟨rfl, hf⟩
set_option maxHeartbeats 4000000 in
theorem metX9_recordId (l : Launch) (G : GG_) (x0 : Nat) (x1 : Int32) (x2 : Int32) (σ : Hp) (post : Int32 → Prop) (hG : GOK_ G) (hf : wX9_recordId x0 x1 x2 σ post) : Met l yX9_recordId (ws_ yX9_recordId cX9_recordId 3 (some Jvm.ClassFile.FieldType.int)) { frames := 3, cells := 0, slots := 0, locals := 64 } (PC_ G [rv_ x0, .int x1, .int x2] σ) (QI_ G (fun r τ => τ = σ ∧ post r)) 0 0 (FR_ G) := by
  refine Met.ofW (cc := cX9_recordId) (maxL := 3) (ret := (some Jvm.ClassFile.FieldType.int)) (by decide) rfl ?_
  intro p e s m args below meth c s₁ B hml hv
  obtain ⟨rfl, hP, hW⟩ := hv
  have hts := atoms_spec (ws := ws_ yX9_recordId cX9_recordId 3 (some Jvm.ClassFile.FieldType.int)) B.pre
  have hts : ∀ w ∈ lw_all, w.before _ s = true := fun w h => hts w (List.mem_cons_of_mem _ h)
  rw [lg_entry_eq]
  have hl := en_entry [rv_ x0, .int x1, .int x2] [1, 1, 1] (n := 3) (ca_r (ca_i (ca_i ca_n))) (by decide)
  exact sX9_recordId ⟨⟨⟨B.exec, B.bytes, hml, findClass_of_methodNamed B.named, hts⟩, hW, hG⟩, B.notSynchronized, B.returns, Nat.le_refl _, Nat.le_refl _, ⟨rfl, rfl⟩, (name_of_methodNamed B.named B.method).1⟩ hf _ _ _ _ _ hP (LO_nil G) ⟨rfl, rfl⟩ hl
