set_option maxRecDepth 100000
abbrev cX8_rises : ByteArray := prog_8_method_9_code
def yX8_rises : MethodName := ⟨RX8, "rises", "()Z"⟩
theorem dX8_rises_0 : decode cX8_rises 0 = .ok (.iconst 0, 1) := by decide +kernel
theorem dX8_rises_1 : decode cX8_rises 1 = .ok (.istore_n 1, 1) := by decide +kernel
theorem dX8_rises_2 : decode cX8_rises 2 = .ok (.iload_n 1, 1) := by decide +kernel
theorem dX8_rises_3 : decode cX8_rises 3 = .ok (.aload_n 0, 1) := by decide +kernel
theorem dX8_rises_4 : decode cX8_rises 4 = .ok (.getfield 61, 3) := by decide +kernel
theorem dX8_rises_7 : decode cX8_rises 7 = .ok (.if_icmp .ge 56, 3) := by decide +kernel
theorem dX8_rises_10 : decode cX8_rises 10 = .ok (.iload_n 1, 1) := by decide +kernel
theorem dX8_rises_11 : decode cX8_rises 11 = .ok (.aload_n 0, 1) := by decide +kernel
theorem dX8_rises_12 : decode cX8_rises 12 = .ok (.getfield 72, 3) := by decide +kernel
theorem dX8_rises_15 : decode cX8_rises 15 = .ok (.if_icmp .ge 48, 3) := by decide +kernel
theorem dX8_rises_18 : decode cX8_rises 18 = .ok (.aload_n 0, 1) := by decide +kernel
theorem dX8_rises_19 : decode cX8_rises 19 = .ok (.getfield 28, 3) := by decide +kernel
theorem dX8_rises_22 : decode cX8_rises 22 = .ok (.aload_n 0, 1) := by decide +kernel
theorem dX8_rises_23 : decode cX8_rises 23 = .ok (.getfield 75, 3) := by decide +kernel
theorem dX8_rises_26 : decode cX8_rises 26 = .ok (.iload_n 1, 1) := by decide +kernel
theorem dX8_rises_27 : decode cX8_rises 27 = .ok (.i2l, 1) := by decide +kernel
theorem dX8_rises_28 : decode cX8_rises 28 = .ok (.ladd, 1) := by decide +kernel
theorem dX8_rises_29 : decode cX8_rises 29 = .ok (.invokevirtual 39, 3) := by decide +kernel
theorem dX8_rises_32 : decode cX8_rises 32 = .ok (.istore_n 2, 1) := by decide +kernel
theorem dX8_rises_33 : decode cX8_rises 33 = .ok (.iload_n 2, 1) := by decide +kernel
theorem dX8_rises_34 : decode cX8_rises 34 = .ok (.aload_n 0, 1) := by decide +kernel
theorem dX8_rises_35 : decode cX8_rises 35 = .ok (.iload_n 1, 1) := by decide +kernel
theorem dX8_rises_36 : decode cX8_rises 36 = .ok (.invokevirtual 64, 3) := by decide +kernel
theorem dX8_rises_39 : decode cX8_rises 39 = .ok (.if_icmp .eq 18, 3) := by decide +kernel
theorem dX8_rises_42 : decode cX8_rises 42 = .ok (.iload_n 2, 1) := by decide +kernel
theorem dX8_rises_43 : decode cX8_rises 43 = .ok (.aload_n 0, 1) := by decide +kernel
theorem dX8_rises_44 : decode cX8_rises 44 = .ok (.iload_n 1, 1) := by decide +kernel
theorem dX8_rises_45 : decode cX8_rises 45 = .ok (.invokevirtual 64, 3) := by decide +kernel
theorem dX8_rises_48 : decode cX8_rises 48 = .ok (.if_icmp .ge 7, 3) := by decide +kernel
theorem dX8_rises_51 : decode cX8_rises 51 = .ok (.iconst 1, 1) := by decide +kernel
theorem dX8_rises_52 : decode cX8_rises 52 = .ok (.goto 4, 3) := by decide +kernel
theorem dX8_rises_55 : decode cX8_rises 55 = .ok (.iconst 0, 1) := by decide +kernel
theorem dX8_rises_56 : decode cX8_rises 56 = .ok (.ireturn, 1) := by decide +kernel
theorem dX8_rises_57 : decode cX8_rises 57 = .ok (.iinc 1 1, 3) := by decide +kernel
theorem dX8_rises_60 : decode cX8_rises 60 = .ok (.goto (-58), 3) := by decide +kernel
theorem dX8_rises_63 : decode cX8_rises 63 = .ok (.aload_n 0, 1) := by decide +kernel
theorem dX8_rises_64 : decode cX8_rises 64 = .ok (.getfield 72, 3) := by decide +kernel
theorem dX8_rises_67 : decode cX8_rises 67 = .ok (.aload_n 0, 1) := by decide +kernel
theorem dX8_rises_68 : decode cX8_rises 68 = .ok (.getfield 61, 3) := by decide +kernel
theorem dX8_rises_71 : decode cX8_rises 71 = .ok (.if_icmp .ge 7, 3) := by decide +kernel
theorem dX8_rises_74 : decode cX8_rises 74 = .ok (.iconst 1, 1) := by decide +kernel
theorem dX8_rises_75 : decode cX8_rises 75 = .ok (.goto 4, 3) := by decide +kernel
theorem dX8_rises_78 : decode cX8_rises 78 = .ok (.iconst 0, 1) := by decide +kernel
theorem dX8_rises_79 : decode cX8_rises 79 = .ok (.ireturn, 1) := by decide +kernel
/-- WriteOnceDisc$Reader.rises()Z -/
def wX8_rises_L63 (post : Int32 → Prop) (x0 : Nat) (σ : Hp) : Prop :=
(tg_ σ x0 = 8 ∧ (((fI_ σ 7 6 x0) ≤ (fI_ σ 7 7 x0) →
  post (0 : Int32)) ∧
 (¬ (fI_ σ 7 6 x0) ≤ (fI_ σ 7 7 x0) →
  post (1 : Int32))))
def wX8_rises_B2 (post : Int32 → Prop) (rc2 : Int32 → Prop) (x0 : Nat) (x1 : Int32) (σ : Hp) : Prop :=
(tg_ σ x0 = 8 ∧ (((fI_ σ 7 6 x0) ≤ x1 →
  wX8_rises_L63 post x0 σ) ∧
 (¬ (fI_ σ 7 6 x0) ≤ x1 →
  (((fI_ σ 7 7 x0) ≤ x1 →
   wX8_rises_L63 post x0 σ) ∧
  (¬ (fI_ σ 7 7 x0) ≤ x1 →
   (tg_ σ (fR_ σ 7 3 x0) = 7 ∧ (wX7_at (fR_ σ 7 3 x0) ((fL_ σ 7 5 x0) + (x1).toInt64) σ (fun r7 => (wX8_letter x0 x1 σ (fun r8 => ((r7 = r8 →
    (∀ y10 : Int32, y10 = x1 + 1 → rc2 y10)) ∧
   (¬ r7 = r8 →
    (wX8_letter x0 x1 σ (fun r11 => ((r11 ≤ r7 →
     post (0 : Int32)) ∧
    (¬ r11 ≤ r7 →
     post (1 : Int32)))))))))))))))))
def wX8_rises_L2 (post : Int32 → Prop) (x0 : Nat) (x1 : Int32) (σ : Hp) : Prop :=
 ∃ (I : Int32 → Prop) (μ : Int32 → Nat), I x1 ∧ ∀ (x1 : Int32), I x1 → wX8_rises_B2 post (fun x1' => I x1' ∧ μ x1' < μ x1) x0 x1 σ
def wX8_rises (x0 : Nat) (σ : Hp) (post : Int32 → Prop) : Prop :=
wX8_rises_L2 post x0 (0 : Int32) σ
set_option maxHeartbeats 4000000 in
theorem sX8_rises_L63 {G : GG_} {p : Program} {l : Launch} {e : Env} {R : Room} {s : State} {m : MethodId} {args : Array Value} {below : List Frame} {meth : Method} {c : Code} (Y : MX_ G p R s m args meth c cX8_rises 3 RX8 (some Jvm.ClassFile.FieldType.boolean) 3 63 0 0 "rises") {post : Int32 → Prop} {x0 : Nat} {σ : Hp} (hf : wX8_rises_L63 post x0 σ) : WG_ G p l e R s m args below meth c (MQ below (QI_ G (fun r τ => τ = σ ∧ post r)) args s 0 0 (FR_ G)) BN_ 3 63 [(0, rv_ x0)] [] σ := by
  have ⟨X, hlk, hr, hRf, hRl, hRc, hnm⟩ := Y
  have ⟨⟨hx, hb, _, hown, hts⟩, _, _⟩ := X
  intro H locs cells slots ls hP hL hB hl
  obtain ⟨rfl, rfl⟩ := hB
  unfold wX8_rises_L63 at hf
  refine p_aload_n hx hb dX8_rises_63 rfl (lv_at hl 0 rfl) ?_
  obtain ⟨ht1, hf⟩ := hf
  refine p_gI X cf7_ (k := 7) (by decide) rfl hP ht1 q598 (fun _ h => h) dX8_rises_64 ?_
  refine p_aload_n hx hb dX8_rises_67 rfl (lv_at hl 0 rfl) ?_
  refine p_gI X cf7_ (k := 6) (by decide) rfl hP ht1 q597 (fun _ h => h) dX8_rises_68 ?_
  refine lv_icmp_ge (tgt := 78) hx hb dX8_rises_71 (by decide) (fun c2 => ?_) (fun c2 => ?_)
  · have hf := hf.1 c2
    refine lv_iconst (v := 0) hx hb dX8_rises_78 (by decide) ?_
    exact p_zret X hlk hP hL (Nat.le_refl _) (Nat.le_refl _) hr nr_0 dX8_rises_79 ⟨rfl, hf⟩
  · have hf := hf.2 c2
    refine lv_iconst (v := 1) hx hb dX8_rises_74 (by decide) ?_
    refine lv_goto (tgt := 79) hx hb dX8_rises_75 (by decide) ?_
    exact p_zret X hlk hP hL (Nat.le_refl _) (Nat.le_refl _) hr nr_1 dX8_rises_79 ⟨rfl, hf⟩
set_option maxHeartbeats 4000000 in
theorem sX8_rises_B2 {G : GG_} {p : Program} {l : Launch} {e : Env} {R : Room} {s : State} {m : MethodId} {args : Array Value} {below : List Frame} {meth : Method} {c : Code} (Y : MX_ G p R s m args meth c cX8_rises 3 RX8 (some Jvm.ClassFile.FieldType.boolean) 3 63 0 0 "rises") {post : Int32 → Prop} {rc2 : Int32 → Prop} {x0 : Nat} {x1 : Int32} {σ : Hp} (hrc2 : ∀ (x1 : Int32), rc2 x1 → WG_ G p l e R s m args below meth c (MQ below (QI_ G (fun r τ => τ = σ ∧ post r)) args s 0 0 (FR_ G)) BN_ 3 2 [(0, rv_ x0), (1, .int x1)] [] σ) (hf : wX8_rises_B2 post rc2 x0 x1 σ) : WG_ G p l e R s m args below meth c (MQ below (QI_ G (fun r τ => τ = σ ∧ post r)) args s 0 0 (FR_ G)) BN_ 3 2 [(0, rv_ x0), (1, .int x1)] [] σ := by
  have ⟨X, hlk, hr, hRf, hRl, hRc, hnm⟩ := Y
  have ⟨⟨hx, hb, _, hown, hts⟩, _, _⟩ := X
  intro H locs cells slots ls hP hL hB hl
  obtain ⟨rfl, rfl⟩ := hB
  unfold wX8_rises_B2 at hf
  refine lv_iload_n hx hb dX8_rises_2 rfl (lv_at hl 1 rfl) ?_
  refine p_aload_n hx hb dX8_rises_3 rfl (lv_at hl 0 rfl) ?_
  obtain ⟨ht3, hf⟩ := hf
  refine p_gI X cf7_ (k := 6) (by decide) rfl hP ht3 q597 (fun _ h => h) dX8_rises_4 ?_
  refine lv_icmp_ge (tgt := 63) hx hb dX8_rises_7 (by decide) (fun c4 => ?_) (fun c4 => ?_)
  · have hf := hf.1 c4
    exact sX8_rises_L63 Y hf _ _ _ _ _ hP hL ⟨rfl, rfl⟩ (lv_sub hl [0] rfl)
  · have hf := hf.2 c4
    refine lv_iload_n hx hb dX8_rises_10 rfl (lv_at hl 1 rfl) ?_
    refine p_aload_n hx hb dX8_rises_11 rfl (lv_at hl 0 rfl) ?_
    refine p_gI X cf7_ (k := 7) (by decide) rfl hP ht3 q598 (fun _ h => h) dX8_rises_12 ?_
    refine lv_icmp_ge (tgt := 63) hx hb dX8_rises_15 (by decide) (fun c5 => ?_) (fun c5 => ?_)
    · have hf := hf.1 c5
      exact sX8_rises_L63 Y hf _ _ _ _ _ hP hL ⟨rfl, rfl⟩ (lv_sub hl [0] rfl)
    · have hf := hf.2 c5
      refine p_aload_n hx hb dX8_rises_18 rfl (lv_at hl 0 rfl) ?_
      refine p_gR X cf7_ (k := 3) (by decide) rfl hP ht3 q594 (fun _ h => h) dX8_rises_19 ?_
      refine p_aload_n hx hb dX8_rises_22 rfl (lv_at hl 0 rfl) ?_
      refine p_gL X cf7_ (k := 5) (by decide) rfl hP ht3 q596 (fun _ h => h) dX8_rises_23 ?_
      refine lv_iload_n hx hb dX8_rises_26 rfl (lv_at hl 1 rfl) ?_
      refine lv_i2l hx hb dX8_rises_27 rfl ?_
      refine lv_ladd hx hb dX8_rises_28 ?_
      obtain ⟨ht6, hf⟩ := hf
      refine p_calli hL (p_runV X cf6_ hP ht6 (metX7_at l G _ _ _ _ X.2.2 hf) (cwV 1 hts (lw_V q1004 q967 q968 q104 q969) rfl rfl rfl (by decide +kernel) ⟨Nat.le_trans (Nat.le_of_ble_eq_true rfl) hRf, Nat.le_trans (Nat.le_of_ble_eq_true rfl) hRl⟩) rfl hl.1 rfl (by decide) dX8_rises_29 ⟨Nat.zero_le _, Nat.zero_le _⟩) (fun r7 σ₁ H locs hf hP hL => ?_)
      obtain ⟨e₁, hf⟩ := hf
      rw [e₁] at hP
      refine p_istore_n (i := 2) hx hb dX8_rises_32 rfl hl (by decide) ⟨⟨ne_ rfl, Or.inl (ne_ rfl)⟩, ⟨⟨ne_ rfl, Or.inr rfl⟩, trivial⟩⟩ (fun ls hl => ?_)
      refine lv_iload_n hx hb dX8_rises_33 rfl (lv_at hl 0 rfl) ?_
      refine p_aload_n hx hb dX8_rises_34 rfl (lv_at hl 1 rfl) ?_
      refine lv_iload_n hx hb dX8_rises_35 rfl (lv_at hl 2 rfl) ?_
      refine p_calli hL (p_runV X cf7_ hP ht3 (metX8_letter l G _ _ _ _ X.2.2 hf) (cwV 1 hts (lw_V q1039 q1041 qs26 q105 q1042) rfl rfl rfl (by decide +kernel) ⟨Nat.le_trans (Nat.le_of_ble_eq_true rfl) hRf, Nat.le_trans (Nat.le_of_ble_eq_true rfl) hRl⟩) rfl hl.1 rfl (by rw [(ca_i ca_n)]; decide) dX8_rises_36 ⟨Nat.zero_le _, Nat.zero_le _⟩) (fun r8 σ₁ H locs hf hP hL => ?_)
      obtain ⟨e₁, hf⟩ := hf
      rw [e₁] at hP
      refine lv_icmp_eq (tgt := 57) hx hb dX8_rises_39 (by decide) (fun c9 => ?_) (fun c9 => ?_)
      · have hf := hf.1 c9
        have hl := lv_sub hl [2, 1] rfl
        refine p_iincc (i := 1) (k := 1) hx hb (by decide) dX8_rises_57 hl (by decide) ⟨⟨ne_ rfl, Or.inr (rv_cat _)⟩, trivial⟩ (fun y10 hy10 ls hl => ?_)
        have hf := hf y10 hy10
        refine lv_goto (tgt := 2) hx hb dX8_rises_60 (by decide) ?_
        exact hrc2 _ hf _ _ _ _ _ hP hL ⟨rfl, rfl⟩ (lv_sub hl [1, 0] rfl)
      · have hf := hf.2 c9
        refine lv_iload_n hx hb dX8_rises_42 rfl (lv_at hl 0 rfl) ?_
        refine p_aload_n hx hb dX8_rises_43 rfl (lv_at hl 1 rfl) ?_
        refine lv_iload_n hx hb dX8_rises_44 rfl (lv_at hl 2 rfl) ?_
        refine p_calli hL (p_runV X cf7_ hP ht3 (metX8_letter l G _ _ _ _ X.2.2 hf) (cwV 1 hts (lw_V q1039 q1041 qs26 q105 q1042) rfl rfl rfl (by decide +kernel) ⟨Nat.le_trans (Nat.le_of_ble_eq_true rfl) hRf, Nat.le_trans (Nat.le_of_ble_eq_true rfl) hRl⟩) rfl hl.1 rfl (by rw [(ca_i ca_n)]; decide) dX8_rises_45 ⟨Nat.zero_le _, Nat.zero_le _⟩) (fun r11 σ₁ H locs hf hP hL => ?_)
        obtain ⟨e₁, hf⟩ := hf
        rw [e₁] at hP
        refine lv_icmp_ge (tgt := 55) hx hb dX8_rises_48 (by decide) (fun c12 => ?_) (fun c12 => ?_)
        · have hf := hf.1 c12
          refine lv_iconst (v := 0) hx hb dX8_rises_55 (by decide) ?_
          exact p_zret X hlk hP hL (Nat.le_refl _) (Nat.le_refl _) hr nr_0 dX8_rises_56 ⟨rfl, hf⟩
        · have hf := hf.2 c12
          refine lv_iconst (v := 1) hx hb dX8_rises_51 (by decide) ?_
          refine lv_goto (tgt := 56) hx hb dX8_rises_52 (by decide) ?_
          exact p_zret X hlk hP hL (Nat.le_refl _) (Nat.le_refl _) hr nr_1 dX8_rises_56 ⟨rfl, hf⟩
set_option maxHeartbeats 4000000 in
theorem sX8_rises_L2 {G : GG_} {p : Program} {l : Launch} {e : Env} {R : Room} {s : State} {m : MethodId} {args : Array Value} {below : List Frame} {meth : Method} {c : Code} (Y : MX_ G p R s m args meth c cX8_rises 3 RX8 (some Jvm.ClassFile.FieldType.boolean) 3 63 0 0 "rises") {post : Int32 → Prop} {x0 : Nat} {x1 : Int32} {σ : Hp} (hf : wX8_rises_L2 post x0 x1 σ) : WG_ G p l e R s m args below meth c (MQ below (QI_ G (fun r τ => τ = σ ∧ post r)) args s 0 0 (FR_ G)) BN_ 3 2 [(0, rv_ x0), (1, .int x1)] [] σ := by
  unfold wX8_rises_L2 at hf
  obtain ⟨I, μ, h0, hI⟩ := hf
  have key : ∀ (n : Nat) (x1 : Int32), I x1 → μ x1 < n → WG_ G p l e R s m args below meth c (MQ below (QI_ G (fun r τ => τ = σ ∧ post r)) args s 0 0 (FR_ G)) BN_ 3 2 [(0, rv_ x0), (1, .int x1)] [] σ := by
    intro n
    induction n with
    | zero => intro x1 _ h; exact absurd h (Nat.not_lt_zero _)
    | succ n ih => intro x1 hi hn; exact sX8_rises_B2 Y (fun x1' h => ih x1' h.1 (Nat.lt_of_lt_of_le h.2 (Nat.le_of_lt_succ hn))) (hI x1 hi)
  exact key _ _ h0 (Nat.lt_succ_self _)
set_option maxHeartbeats 4000000 in
theorem sX8_rises {G : GG_} {p : Program} {l : Launch} {e : Env} {R : Room} {s : State} {m : MethodId} {args : Array Value} {below : List Frame} {meth : Method} {c : Code} (Y : MX_ G p R s m args meth c cX8_rises 3 RX8 (some Jvm.ClassFile.FieldType.boolean) 3 63 0 0 "rises") {post : Int32 → Prop} {x0 : Nat} {σ : Hp} (hf : wX8_rises x0 σ post) : WG_ G p l e R s m args below meth c (MQ below (QI_ G (fun r τ => τ = σ ∧ post r)) args s 0 0 (FR_ G)) BN_ 3 0 [(0, rv_ x0)] [] σ := by
  have ⟨X, hlk, hr, hRf, hRl, hRc, hnm⟩ := Y
  have ⟨⟨hx, hb, _, hown, hts⟩, _, _⟩ := X
  intro H locs cells slots ls hP hL hB hl
  obtain ⟨rfl, rfl⟩ := hB
  unfold wX8_rises at hf
  refine lv_iconst (v := 0) hx hb dX8_rises_0 (by decide) ?_
  refine p_istore_n (i := 1) hx hb dX8_rises_1 rfl hl (by decide) ⟨⟨ne_ rfl, Or.inr (rv_cat _)⟩, trivial⟩ (fun ls hl => ?_)
  exact sX8_rises_L2 Y hf _ _ _ _ _ hP hL ⟨rfl, rfl⟩ (lv_sub hl [1, 0] rfl)
set_option maxHeartbeats 4000000 in
theorem metX8_rises (l : Launch) (G : GG_) (x0 : Nat) (σ : Hp) (post : Int32 → Prop) (hG : GOK_ G) (hf : wX8_rises x0 σ post) : Met l yX8_rises (ws_ yX8_rises cX8_rises 3 (some Jvm.ClassFile.FieldType.boolean)) { frames := 3, cells := 0, slots := 0, locals := 63 } (PC_ G [rv_ x0] σ) (QI_ G (fun r τ => τ = σ ∧ post r)) 0 0 (FR_ G) := by
  refine Met.ofW (cc := cX8_rises) (maxL := 3) (ret := (some Jvm.ClassFile.FieldType.boolean)) (by decide) rfl ?_
  intro p e s m args below meth c s₁ B hml hv
  obtain ⟨rfl, hP, hW⟩ := hv
  have hts := atoms_spec (ws := ws_ yX8_rises cX8_rises 3 (some Jvm.ClassFile.FieldType.boolean)) B.pre
  have hts : ∀ w ∈ lw_all, w.before _ s = true := fun w h => hts w (List.mem_cons_of_mem _ h)
  rw [lg_entry_eq]
  have hl := en_entry [rv_ x0] [1] (n := 3) (ca_r ca_n) (by decide)
  exact sX8_rises ⟨⟨⟨B.exec, B.bytes, hml, findClass_of_methodNamed B.named, hts⟩, hW, hG⟩, B.notSynchronized, B.returns, Nat.le_refl _, Nat.le_refl _, ⟨rfl, rfl⟩, (name_of_methodNamed B.named B.method).1⟩ hf _ _ _ _ _ hP (LO_nil G) ⟨rfl, rfl⟩ hl
abbrev cX8_word : ByteArray := prog_8_method_8_code
def yX8_word : MethodName := ⟨RX8, "word", "(I)J"⟩
theorem dX8_word_0 : decode cX8_word 0 = .ok (.lconst 0, 1) := by decide +kernel
theorem dX8_word_1 : decode cX8_word 1 = .ok (.lstore_n 2, 1) := by decide +kernel
theorem dX8_word_2 : decode cX8_word 2 = .ok (.iconst 0, 1) := by decide +kernel
theorem dX8_word_3 : decode cX8_word 3 = .ok (.istore 4, 2) := by decide +kernel
theorem dX8_word_5 : decode cX8_word 5 = .ok (.iload 4, 2) := by decide +kernel
theorem dX8_word_7 : decode cX8_word 7 = .ok (.iload_n 1, 1) := by decide +kernel
theorem dX8_word_8 : decode cX8_word 8 = .ok (.if_icmp .ge 22, 3) := by decide +kernel
theorem dX8_word_11 : decode cX8_word 11 = .ok (.lload_n 2, 1) := by decide +kernel
theorem dX8_word_12 : decode cX8_word 12 = .ok (.bipush 8, 2) := by decide +kernel
theorem dX8_word_14 : decode cX8_word 14 = .ok (.lshl, 1) := by decide +kernel
theorem dX8_word_15 : decode cX8_word 15 = .ok (.aload_n 0, 1) := by decide +kernel
theorem dX8_word_16 : decode cX8_word 16 = .ok (.iload 4, 2) := by decide +kernel
theorem dX8_word_18 : decode cX8_word 18 = .ok (.invokevirtual 64, 3) := by decide +kernel
theorem dX8_word_21 : decode cX8_word 21 = .ok (.i2l, 1) := by decide +kernel
theorem dX8_word_22 : decode cX8_word 22 = .ok (.lor, 1) := by decide +kernel
theorem dX8_word_23 : decode cX8_word 23 = .ok (.lstore_n 2, 1) := by decide +kernel
theorem dX8_word_24 : decode cX8_word 24 = .ok (.iinc 4 1, 3) := by decide +kernel
theorem dX8_word_27 : decode cX8_word 27 = .ok (.goto (-22), 3) := by decide +kernel
theorem dX8_word_30 : decode cX8_word 30 = .ok (.lload_n 2, 1) := by decide +kernel
theorem dX8_word_31 : decode cX8_word 31 = .ok (.lreturn, 1) := by decide +kernel
/-- WriteOnceDisc$Reader.word(I)J -/
def wX8_word_B5 (post : Int64 → Prop) (rc5 : Int64 → Int32 → Prop) (x0 : Nat) (x1 : Int32) (x2 : Int64) (x4 : Int32) (σ : Hp) : Prop :=
((x1 ≤ x4 →
  post x2) ∧
 (¬ x1 ≤ x4 →
  (tg_ σ x0 = 8 ∧ (wX8_letter x0 x4 σ (fun r3 => (∀ y4 : Int64, y4 = ((x2 <<< (((8 : Int32)).toInt64 &&& 63)) ||| (r3).toInt64) → (∀ y5 : Int32, y5 = x4 + 1 → rc5 y4 y5)))))))
def wX8_word_L5 (post : Int64 → Prop) (x0 : Nat) (x1 : Int32) (x2 : Int64) (x4 : Int32) (σ : Hp) : Prop :=
 ∃ (I : Int64 → Int32 → Prop) (μ : Int64 → Int32 → Nat), I x2 x4 ∧ ∀ (x2 : Int64) (x4 : Int32), I x2 x4 → wX8_word_B5 post (fun x2' x4' => I x2' x4' ∧ μ x2' x4' < μ x2 x4) x0 x1 x2 x4 σ
def wX8_word (x0 : Nat) (x1 : Int32) (σ : Hp) (post : Int64 → Prop) : Prop :=
wX8_word_L5 post x0 x1 (0 : Int64) (0 : Int32) σ
set_option maxHeartbeats 4000000 in
theorem sX8_word_B5 {G : GG_} {p : Program} {l : Launch} {e : Env} {R : Room} {s : State} {m : MethodId} {args : Array Value} {below : List Frame} {meth : Method} {c : Code} (Y : MX_ G p R s m args meth c cX8_word 5 RX8 (some Jvm.ClassFile.FieldType.long) 3 63 0 0 "word") {post : Int64 → Prop} {rc5 : Int64 → Int32 → Prop} {x0 : Nat} {x1 : Int32} {x2 : Int64} {x4 : Int32} {σ : Hp} (hrc5 : ∀ (x2 : Int64) (x4 : Int32), rc5 x2 x4 → WG_ G p l e R s m args below meth c (MQ below (QL_ G (fun r τ => τ = σ ∧ post r)) args s 0 0 (FR_ G)) BN_ 5 5 [(0, rv_ x0), (1, .int x1), (2, .long x2), (4, .int x4)] [] σ) (hf : wX8_word_B5 post rc5 x0 x1 x2 x4 σ) : WG_ G p l e R s m args below meth c (MQ below (QL_ G (fun r τ => τ = σ ∧ post r)) args s 0 0 (FR_ G)) BN_ 5 5 [(0, rv_ x0), (1, .int x1), (2, .long x2), (4, .int x4)] [] σ := by
  have ⟨X, hlk, hr, hRf, hRl, hRc, hnm⟩ := Y
  have ⟨⟨hx, hb, _, hown, hts⟩, _, _⟩ := X
  intro H locs cells slots ls hP hL hB hl
  obtain ⟨rfl, rfl⟩ := hB
  unfold wX8_word_B5 at hf
  refine lv_iload hx hb dX8_word_5 (lv_at hl 3 rfl) ?_
  refine lv_iload_n hx hb dX8_word_7 rfl (lv_at hl 1 rfl) ?_
  refine lv_icmp_ge (tgt := 30) hx hb dX8_word_8 (by decide) (fun c1 => ?_) (fun c1 => ?_)
  · have hf := hf.1 c1
    refine lv_lload_n hx hb dX8_word_30 rfl (lv_at hl 2 rfl) ?_
    exact p_lret X hlk hP hL (Nat.le_refl _) (Nat.le_refl _) hr dX8_word_31 ⟨rfl, hf⟩
  · have hf := hf.2 c1
    refine lv_lload_n hx hb dX8_word_11 rfl (lv_at hl 2 rfl) ?_
    refine lv_bipush (v := 8) hx hb dX8_word_12 (by decide) ?_
    refine lv_lshl hx hb dX8_word_14 rfl ?_
    refine p_aload_n hx hb dX8_word_15 rfl (lv_at hl 0 rfl) ?_
    refine lv_iload hx hb dX8_word_16 (lv_at hl 3 rfl) ?_
    obtain ⟨ht2, hf⟩ := hf
    refine p_calli hL (p_runV X cf7_ hP ht2 (metX8_letter l G _ _ _ _ X.2.2 hf) (cwV 1 hts (lw_V q1039 q1041 qs26 q105 q1042) rfl rfl rfl (by decide +kernel) ⟨Nat.le_trans (Nat.le_of_ble_eq_true rfl) hRf, Nat.le_trans (Nat.le_of_ble_eq_true rfl) hRl⟩) rfl hl.1 rfl (by rw [(ca_l ca_n)]; decide) dX8_word_18 ⟨Nat.zero_le _, Nat.zero_le _⟩) (fun r3 σ₁ H locs hf hP hL => ?_)
    obtain ⟨e₁, hf⟩ := hf
    rw [e₁] at hP
    refine lv_i2l hx hb dX8_word_21 rfl ?_
    refine lv_lor hx hb dX8_word_22 ?_
    have hl := lv_sub hl [0, 1, 3] rfl
    refine lv_topl (fun y4 hy4 => ?_)
    have hf := hf y4 hy4
    refine p_lstore_n (i := 2) hx hb dX8_word_23 rfl hl (by decide) ⟨⟨ne_ rfl, ne_ rfl, Or.inl (ne_ rfl)⟩, ⟨⟨ne_ rfl, ne_ rfl, Or.inr rfl⟩, ⟨⟨ne_ rfl, ne_ rfl, Or.inl (ne_ rfl)⟩, trivial⟩⟩⟩ (fun ls hl => ?_)
    have hl := lv_sub hl [3, 0, 1, 2] rfl
    refine p_iincc (i := 4) (k := 1) hx hb (by decide) dX8_word_24 hl (by decide) ⟨⟨ne_ rfl, Or.inl (ne_ rfl)⟩, ⟨⟨ne_ rfl, Or.inl (ne_ rfl)⟩, ⟨⟨ne_ rfl, Or.inl (ne_ rfl)⟩, trivial⟩⟩⟩ (fun y5 hy5 ls hl => ?_)
    have hf := hf y5 hy5
    refine lv_goto (tgt := 5) hx hb dX8_word_27 (by decide) ?_
    exact hrc5 _ _ hf _ _ _ _ _ hP hL ⟨rfl, rfl⟩ (lv_sub hl [2, 3, 1, 0] rfl)
set_option maxHeartbeats 4000000 in
theorem sX8_word_L5 {G : GG_} {p : Program} {l : Launch} {e : Env} {R : Room} {s : State} {m : MethodId} {args : Array Value} {below : List Frame} {meth : Method} {c : Code} (Y : MX_ G p R s m args meth c cX8_word 5 RX8 (some Jvm.ClassFile.FieldType.long) 3 63 0 0 "word") {post : Int64 → Prop} {x0 : Nat} {x1 : Int32} {x2 : Int64} {x4 : Int32} {σ : Hp} (hf : wX8_word_L5 post x0 x1 x2 x4 σ) : WG_ G p l e R s m args below meth c (MQ below (QL_ G (fun r τ => τ = σ ∧ post r)) args s 0 0 (FR_ G)) BN_ 5 5 [(0, rv_ x0), (1, .int x1), (2, .long x2), (4, .int x4)] [] σ := by
  unfold wX8_word_L5 at hf
  obtain ⟨I, μ, h0, hI⟩ := hf
  have key : ∀ (n : Nat) (x2 : Int64) (x4 : Int32), I x2 x4 → μ x2 x4 < n → WG_ G p l e R s m args below meth c (MQ below (QL_ G (fun r τ => τ = σ ∧ post r)) args s 0 0 (FR_ G)) BN_ 5 5 [(0, rv_ x0), (1, .int x1), (2, .long x2), (4, .int x4)] [] σ := by
    intro n
    induction n with
    | zero => intro x2 x4 _ h; exact absurd h (Nat.not_lt_zero _)
    | succ n ih => intro x2 x4 hi hn; exact sX8_word_B5 Y (fun x2' x4' h => ih x2' x4' h.1 (Nat.lt_of_lt_of_le h.2 (Nat.le_of_lt_succ hn))) (hI x2 x4 hi)
  exact key _ _ _ h0 (Nat.lt_succ_self _)
set_option maxHeartbeats 4000000 in
theorem sX8_word {G : GG_} {p : Program} {l : Launch} {e : Env} {R : Room} {s : State} {m : MethodId} {args : Array Value} {below : List Frame} {meth : Method} {c : Code} (Y : MX_ G p R s m args meth c cX8_word 5 RX8 (some Jvm.ClassFile.FieldType.long) 3 63 0 0 "word") {post : Int64 → Prop} {x0 : Nat} {x1 : Int32} {σ : Hp} (hf : wX8_word x0 x1 σ post) : WG_ G p l e R s m args below meth c (MQ below (QL_ G (fun r τ => τ = σ ∧ post r)) args s 0 0 (FR_ G)) BN_ 5 0 [(0, rv_ x0), (1, .int x1)] [] σ := by
  have ⟨X, hlk, hr, hRf, hRl, hRc, hnm⟩ := Y
  have ⟨⟨hx, hb, _, hown, hts⟩, _, _⟩ := X
  intro H locs cells slots ls hP hL hB hl
  obtain ⟨rfl, rfl⟩ := hB
  unfold wX8_word at hf
  refine lv_lconst (v := 0) hx hb dX8_word_0 (by decide) ?_
  refine p_lstore_n (i := 2) hx hb dX8_word_1 rfl hl (by decide) ⟨⟨ne_ rfl, ne_ rfl, Or.inl (ne_ rfl)⟩, ⟨⟨ne_ rfl, ne_ rfl, Or.inr rfl⟩, trivial⟩⟩ (fun ls hl => ?_)
  refine lv_iconst (v := 0) hx hb dX8_word_2 (by decide) ?_
  refine p_istore (i := 4) hx hb dX8_word_3 hl (by decide) ⟨⟨ne_ rfl, Or.inl (ne_ rfl)⟩, ⟨⟨ne_ rfl, Or.inl (ne_ rfl)⟩, ⟨⟨ne_ rfl, Or.inl (ne_ rfl)⟩, trivial⟩⟩⟩ (fun ls hl => ?_)
  exact sX8_word_L5 Y hf _ _ _ _ _ hP hL ⟨rfl, rfl⟩ (lv_sub hl [2, 3, 1, 0] rfl)
set_option maxHeartbeats 4000000 in
theorem metX8_word (l : Launch) (G : GG_) (x0 : Nat) (x1 : Int32) (σ : Hp) (post : Int64 → Prop) (hG : GOK_ G) (hf : wX8_word x0 x1 σ post) : Met l yX8_word (ws_ yX8_word cX8_word 5 (some Jvm.ClassFile.FieldType.long)) { frames := 3, cells := 0, slots := 0, locals := 63 } (PC_ G [rv_ x0, .int x1] σ) (QL_ G (fun r τ => τ = σ ∧ post r)) 0 0 (FR_ G) := by
  refine Met.ofW (cc := cX8_word) (maxL := 5) (ret := (some Jvm.ClassFile.FieldType.long)) (by decide) rfl ?_
  intro p e s m args below meth c s₁ B hml hv
  obtain ⟨rfl, hP, hW⟩ := hv
  have hts := atoms_spec (ws := ws_ yX8_word cX8_word 5 (some Jvm.ClassFile.FieldType.long)) B.pre
  have hts : ∀ w ∈ lw_all, w.before _ s = true := fun w h => hts w (List.mem_cons_of_mem _ h)
  rw [lg_entry_eq]
  have hl := en_entry [rv_ x0, .int x1] [1, 1] (n := 5) (ca_r (ca_i ca_n)) (by decide)
  exact sX8_word ⟨⟨⟨B.exec, B.bytes, hml, findClass_of_methodNamed B.named, hts⟩, hW, hG⟩, B.notSynchronized, B.returns, Nat.le_refl _, Nat.le_refl _, ⟨rfl, rfl⟩, (name_of_methodNamed B.named B.method).1⟩ hf _ _ _ _ _ hP (LO_nil G) ⟨rfl, rfl⟩ hl
abbrev cX10_sectors : ByteArray := prog_3_method_2_code
def yX10_sectors : MethodName := ⟨RX10, "sectors", "()I"⟩
theorem dX10_sectors_0 : decode cX10_sectors 0 = .ok (.aload_n 0, 1) := by decide +kernel
theorem dX10_sectors_1 : decode cX10_sectors 1 = .ok (.getfield 9, 3) := by decide +kernel
theorem dX10_sectors_4 : decode cX10_sectors 4 = .ok (.sipush 2048, 3) := by decide +kernel
theorem dX10_sectors_7 : decode cX10_sectors 7 = .ok (.iadd, 1) := by decide +kernel
theorem dX10_sectors_8 : decode cX10_sectors 8 = .ok (.iconst 1, 1) := by decide +kernel
theorem dX10_sectors_9 : decode cX10_sectors 9 = .ok (.isub, 1) := by decide +kernel
theorem dX10_sectors_10 : decode cX10_sectors 10 = .ok (.sipush 2048, 3) := by decide +kernel
theorem dX10_sectors_13 : decode cX10_sectors 13 = .ok (.idiv, 1) := by decide +kernel
theorem dX10_sectors_14 : decode cX10_sectors 14 = .ok (.ireturn, 1) := by decide +kernel
/-- WriteOnceDisc$Found.sectors()I -/
def wX10_sectors (x0 : Nat) (σ : Hp) (post : Int32 → Prop) : Prop :=
(tg_ σ x0 = 10 ∧ post ((((fI_ σ 9 3 x0) + (2048 : Int32)) - (1 : Int32)) / (2048 : Int32)))
set_option maxHeartbeats 4000000 in
theorem sX10_sectors {G : GG_} {p : Program} {l : Launch} {e : Env} {R : Room} {s : State} {m : MethodId} {args : Array Value} {below : List Frame} {meth : Method} {c : Code} (Y : MX_ G p R s m args meth c cX10_sectors 1 RX10 (some Jvm.ClassFile.FieldType.int) 1 20 0 0 "sectors") {post : Int32 → Prop} {x0 : Nat} {σ : Hp} (hf : wX10_sectors x0 σ post) : WG_ G p l e R s m args below meth c (MQ below (QI_ G (fun r τ => τ = σ ∧ post r)) args s 0 0 (FR_ G)) BN_ 1 0 [(0, rv_ x0)] [] σ := by
  have ⟨X, hlk, hr, hRf, hRl, hRc, hnm⟩ := Y
  have ⟨⟨hx, hb, _, hown, hts⟩, _, _⟩ := X
  intro H locs cells slots ls hP hL hB hl
  obtain ⟨rfl, rfl⟩ := hB
  unfold wX10_sectors at hf
  refine p_aload_n hx hb dX10_sectors_0 rfl (lv_at hl 0 rfl) ?_
  obtain ⟨ht1, hf⟩ := hf
  refine p_gI X cf9_ (k := 3) (by decide) rfl hP ht1 q1064 (fun _ h => h) dX10_sectors_1 ?_
  refine lv_sipush (v := 2048) hx hb dX10_sectors_4 (by decide) ?_
  refine lv_iadd hx hb dX10_sectors_7 ?_
  refine lv_iconst (v := 1) hx hb dX10_sectors_8 (by decide) ?_
  refine lv_isub hx hb dX10_sectors_9 ?_
  refine lv_sipush (v := 2048) hx hb dX10_sectors_10 (by decide) ?_
  refine lv_idiv hx hb dX10_sectors_13 (by decide) ?_
  exact p_iret X hlk hP hL (Nat.le_refl _) (Nat.le_refl _) hr dX10_sectors_14 ⟨rfl, hf⟩
set_option maxHeartbeats 4000000 in
theorem metX10_sectors (l : Launch) (G : GG_) (x0 : Nat) (σ : Hp) (post : Int32 → Prop) (hG : GOK_ G) (hf : wX10_sectors x0 σ post) : Met l yX10_sectors (ws_ yX10_sectors cX10_sectors 1 (some Jvm.ClassFile.FieldType.int)) { frames := 1, cells := 0, slots := 0, locals := 20 } (PC_ G [rv_ x0] σ) (QI_ G (fun r τ => τ = σ ∧ post r)) 0 0 (FR_ G) := by
  refine Met.ofW (cc := cX10_sectors) (maxL := 1) (ret := (some Jvm.ClassFile.FieldType.int)) (by decide) rfl ?_
  intro p e s m args below meth c s₁ B hml hv
  obtain ⟨rfl, hP, hW⟩ := hv
  have hts := atoms_spec (ws := ws_ yX10_sectors cX10_sectors 1 (some Jvm.ClassFile.FieldType.int)) B.pre
  have hts : ∀ w ∈ lw_all, w.before _ s = true := fun w h => hts w (List.mem_cons_of_mem _ h)
  rw [lg_entry_eq]
  have hl := en_entry [rv_ x0] [1] (n := 1) (ca_r ca_n) (by decide)
  exact sX10_sectors ⟨⟨⟨B.exec, B.bytes, hml, findClass_of_methodNamed B.named, hts⟩, hW, hG⟩, B.notSynchronized, B.returns, Nat.le_refl _, Nat.le_refl _, ⟨rfl, rfl⟩, (name_of_methodNamed B.named B.method).1⟩ hf _ _ _ _ _ hP (LO_nil G) ⟨rfl, rfl⟩ hl
abbrev cX8_overlaps : ByteArray := prog_8_method_14_code
def yX8_overlaps : MethodName := ⟨RX8, "overlaps", "(LWriteOnceDisc$Found;)Z"⟩
theorem dX8_overlaps_0 : decode cX8_overlaps 0 = .ok (.iconst 0, 1) := by decide +kernel
theorem dX8_overlaps_1 : decode cX8_overlaps 1 = .ok (.istore_n 2, 1) := by decide +kernel
theorem dX8_overlaps_2 : decode cX8_overlaps 2 = .ok (.iconst 0, 1) := by decide +kernel
theorem dX8_overlaps_3 : decode cX8_overlaps 3 = .ok (.istore_n 3, 1) := by decide +kernel
theorem dX8_overlaps_4 : decode cX8_overlaps 4 = .ok (.iload_n 3, 1) := by decide +kernel
theorem dX8_overlaps_5 : decode cX8_overlaps 5 = .ok (.aload_n 0, 1) := by decide +kernel
theorem dX8_overlaps_6 : decode cX8_overlaps 6 = .ok (.getfield 12, 3) := by decide +kernel
theorem dX8_overlaps_9 : decode cX8_overlaps 9 = .ok (.invokevirtual 144, 3) := by decide +kernel
theorem dX8_overlaps_12 : decode cX8_overlaps 12 = .ok (.if_icmp .ge 75, 3) := by decide +kernel
theorem dX8_overlaps_15 : decode cX8_overlaps 15 = .ok (.aload_n 0, 1) := by decide +kernel
theorem dX8_overlaps_16 : decode cX8_overlaps 16 = .ok (.getfield 12, 3) := by decide +kernel
theorem dX8_overlaps_19 : decode cX8_overlaps 19 = .ok (.iload_n 3, 1) := by decide +kernel
theorem dX8_overlaps_20 : decode cX8_overlaps 20 = .ok (.invokevirtual 147, 3) := by decide +kernel
theorem dX8_overlaps_23 : decode cX8_overlaps 23 = .ok (.checkcast 18, 3) := by decide +kernel
theorem dX8_overlaps_26 : decode cX8_overlaps 26 = .ok (.astore 4, 2) := by decide +kernel
theorem dX8_overlaps_28 : decode cX8_overlaps 28 = .ok (.iload_n 2, 1) := by decide +kernel
theorem dX8_overlaps_29 : decode cX8_overlaps 29 = .ok (.ifCond .ne 46, 3) := by decide +kernel
theorem dX8_overlaps_32 : decode cX8_overlaps 32 = .ok (.aload 4, 2) := by decide +kernel
theorem dX8_overlaps_34 : decode cX8_overlaps 34 = .ok (.getfield 134, 3) := by decide +kernel
theorem dX8_overlaps_37 : decode cX8_overlaps 37 = .ok (.ifCond .eq 42, 3) := by decide +kernel
theorem dX8_overlaps_40 : decode cX8_overlaps 40 = .ok (.aload 4, 2) := by decide +kernel
theorem dX8_overlaps_42 : decode cX8_overlaps 42 = .ok (.getfield 138, 3) := by decide +kernel
theorem dX8_overlaps_45 : decode cX8_overlaps 45 = .ok (.aload_n 1, 1) := by decide +kernel
theorem dX8_overlaps_46 : decode cX8_overlaps 46 = .ok (.getfield 138, 3) := by decide +kernel
theorem dX8_overlaps_49 : decode cX8_overlaps 49 = .ok (.aload_n 1, 1) := by decide +kernel
theorem dX8_overlaps_50 : decode cX8_overlaps 50 = .ok (.invokevirtual 151, 3) := by decide +kernel
theorem dX8_overlaps_53 : decode cX8_overlaps 53 = .ok (.iadd, 1) := by decide +kernel
theorem dX8_overlaps_54 : decode cX8_overlaps 54 = .ok (.if_icmp .ge 25, 3) := by decide +kernel
theorem dX8_overlaps_57 : decode cX8_overlaps 57 = .ok (.aload_n 1, 1) := by decide +kernel
theorem dX8_overlaps_58 : decode cX8_overlaps 58 = .ok (.getfield 138, 3) := by decide +kernel
theorem dX8_overlaps_61 : decode cX8_overlaps 61 = .ok (.aload 4, 2) := by decide +kernel
theorem dX8_overlaps_63 : decode cX8_overlaps 63 = .ok (.getfield 138, 3) := by decide +kernel
theorem dX8_overlaps_66 : decode cX8_overlaps 66 = .ok (.aload 4, 2) := by decide +kernel
theorem dX8_overlaps_68 : decode cX8_overlaps 68 = .ok (.invokevirtual 151, 3) := by decide +kernel
theorem dX8_overlaps_71 : decode cX8_overlaps 71 = .ok (.iadd, 1) := by decide +kernel
theorem dX8_overlaps_72 : decode cX8_overlaps 72 = .ok (.if_icmp .ge 7, 3) := by decide +kernel
theorem dX8_overlaps_75 : decode cX8_overlaps 75 = .ok (.iconst 1, 1) := by decide +kernel
theorem dX8_overlaps_76 : decode cX8_overlaps 76 = .ok (.goto 4, 3) := by decide +kernel
theorem dX8_overlaps_79 : decode cX8_overlaps 79 = .ok (.iconst 0, 1) := by decide +kernel
theorem dX8_overlaps_80 : decode cX8_overlaps 80 = .ok (.istore_n 2, 1) := by decide +kernel
theorem dX8_overlaps_81 : decode cX8_overlaps 81 = .ok (.iinc 3 1, 3) := by decide +kernel
theorem dX8_overlaps_84 : decode cX8_overlaps 84 = .ok (.goto (-80), 3) := by decide +kernel
theorem dX8_overlaps_87 : decode cX8_overlaps 87 = .ok (.iload_n 2, 1) := by decide +kernel
theorem dX8_overlaps_88 : decode cX8_overlaps 88 = .ok (.ireturn, 1) := by decide +kernel
/-- WriteOnceDisc$Reader.overlaps(LWriteOnceDisc$Found;)Z -/
def wX8_overlaps_L80 (post : Int32 → Prop) (rc4 : Int32 → Int32 → Prop) (x0 : Nat) (x1 : Nat) (x3 : Int32) (s0 : Int32) (σ : Hp) : Prop :=
(∀ y1 : Int32, y1 = x3 + 1 → rc4 s0 y1)
def wX8_overlaps_L79 (post : Int32 → Prop) (rc4 : Int32 → Int32 → Prop) (x0 : Nat) (x1 : Nat) (x3 : Int32) (σ : Hp) : Prop :=
wX8_overlaps_L80 post rc4 x0 x1 x3 (0 : Int32) σ
def wX8_overlaps_L75 (post : Int32 → Prop) (rc4 : Int32 → Int32 → Prop) (x0 : Nat) (x1 : Nat) (x3 : Int32) (σ : Hp) : Prop :=
wX8_overlaps_L80 post rc4 x0 x1 x3 (1 : Int32) σ
def wX8_overlaps_B4 (post : Int32 → Prop) (rc4 : Int32 → Int32 → Prop) (x0 : Nat) (x1 : Nat) (x2 : Int32) (x3 : Int32) (σ : Hp) : Prop :=
(tg_ σ x0 = 8 ∧ (tg_ σ (fR_ σ 7 0 x0) = 11 ∧ (wJ2_size (fR_ σ 7 0 x0)  σ (fun r4 => ((r4 ≤ x3 →
  (nr_ .boolean x2 ∧ post x2)) ∧
 (¬ r4 ≤ x3 →
  (wJ2_get (fR_ σ 7 0 x0) x3 σ (fun r7 => ((r7 = 0 ∨ tg_ σ r7 = 10) ∧ ((¬ x2 = 0 →
   wX8_overlaps_L75 post rc4 x0 x1 x3 σ) ∧
  (x2 = 0 →
   (tg_ σ r7 = 10 ∧ (((fI_ σ 9 4 r7) = 0 →
    wX8_overlaps_L79 post rc4 x0 x1 x3 σ) ∧
   (¬ (fI_ σ 9 4 r7) = 0 →
    (tg_ σ x1 = 10 ∧ (wX10_sectors x1  σ (fun r13 => ((((fI_ σ 9 2 x1) + r13) ≤ (fI_ σ 9 2 r7) →
     wX8_overlaps_L79 post rc4 x0 x1 x3 σ) ∧
    (¬ ((fI_ σ 9 2 x1) + r13) ≤ (fI_ σ 9 2 r7) →
     (wX10_sectors r7  σ (fun r15 => ((((fI_ σ 9 2 r7) + r15) ≤ (fI_ σ 9 2 x1) →
      wX8_overlaps_L79 post rc4 x0 x1 x3 σ) ∧
     (¬ ((fI_ σ 9 2 r7) + r15) ≤ (fI_ σ 9 2 x1) →
      wX8_overlaps_L75 post rc4 x0 x1 x3 σ)))))))))))))))))))))))
def wX8_overlaps_L4 (post : Int32 → Prop) (x0 : Nat) (x1 : Nat) (x2 : Int32) (x3 : Int32) (σ : Hp) : Prop :=
 ∃ (I : Int32 → Int32 → Prop) (μ : Int32 → Int32 → Nat), I x2 x3 ∧ ∀ (x2 : Int32) (x3 : Int32), I x2 x3 → wX8_overlaps_B4 post (fun x2' x3' => I x2' x3' ∧ μ x2' x3' < μ x2 x3) x0 x1 x2 x3 σ
def wX8_overlaps (x0 : Nat) (x1 : Nat) (σ : Hp) (post : Int32 → Prop) : Prop :=
wX8_overlaps_L4 post x0 x1 (0 : Int32) (0 : Int32) σ
set_option maxHeartbeats 4000000 in
theorem sX8_overlaps_L80 {G : GG_} {p : Program} {l : Launch} {e : Env} {R : Room} {s : State} {m : MethodId} {args : Array Value} {below : List Frame} {meth : Method} {c : Code} (Y : MX_ G p R s m args meth c cX8_overlaps 5 RX8 (some Jvm.ClassFile.FieldType.boolean) 4 84 0 0 "overlaps") {post : Int32 → Prop} {rc4 : Int32 → Int32 → Prop} {x0 : Nat} {x1 : Nat} {x3 : Int32} {s0 : Int32} {σ : Hp} (hrc4 : ∀ (x2 : Int32) (x3 : Int32), rc4 x2 x3 → WG_ G p l e R s m args below meth c (MQ below (QI_ G (fun r τ => τ = σ ∧ post r)) args s 0 0 (FR_ G)) BN_ 5 4 [(0, rv_ x0), (1, rv_ x1), (2, .int x2), (3, .int x3)] [] σ) (hf : wX8_overlaps_L80 post rc4 x0 x1 x3 s0 σ) : WG_ G p l e R s m args below meth c (MQ below (QI_ G (fun r τ => τ = σ ∧ post r)) args s 0 0 (FR_ G)) BN_ 5 80 [(0, rv_ x0), (1, rv_ x1), (3, .int x3)] [.int s0] σ := by
  have ⟨X, hlk, hr, hRf, hRl, hRc, hnm⟩ := Y
  have ⟨⟨hx, hb, _, hown, hts⟩, _, _⟩ := X
  intro H locs cells slots ls hP hL hB hl
  obtain ⟨rfl, rfl⟩ := hB
  unfold wX8_overlaps_L80 at hf
  refine p_istore_n (i := 2) hx hb dX8_overlaps_80 rfl hl (by decide) ⟨⟨ne_ rfl, Or.inl (ne_ rfl)⟩, ⟨⟨ne_ rfl, Or.inr (rv_cat _)⟩, ⟨⟨ne_ rfl, Or.inl (ne_ rfl)⟩, trivial⟩⟩⟩ (fun ls hl => ?_)
  have hl := lv_sub hl [3, 0, 1, 2] rfl
  refine p_iincc (i := 3) (k := 1) hx hb (by decide) dX8_overlaps_81 hl (by decide) ⟨⟨ne_ rfl, Or.inr rfl⟩, ⟨⟨ne_ rfl, Or.inl (ne_ rfl)⟩, ⟨⟨ne_ rfl, Or.inl (ne_ rfl)⟩, trivial⟩⟩⟩ (fun y1 hy1 ls hl => ?_)
  have hf := hf y1 hy1
  refine lv_goto (tgt := 4) hx hb dX8_overlaps_84 (by decide) ?_
  exact hrc4 _ _ hf _ _ _ _ _ hP hL ⟨rfl, rfl⟩ (lv_sub hl [2, 3, 1, 0] rfl)
set_option maxHeartbeats 4000000 in
theorem sX8_overlaps_L79 {G : GG_} {p : Program} {l : Launch} {e : Env} {R : Room} {s : State} {m : MethodId} {args : Array Value} {below : List Frame} {meth : Method} {c : Code} (Y : MX_ G p R s m args meth c cX8_overlaps 5 RX8 (some Jvm.ClassFile.FieldType.boolean) 4 84 0 0 "overlaps") {post : Int32 → Prop} {rc4 : Int32 → Int32 → Prop} {x0 : Nat} {x1 : Nat} {x3 : Int32} {σ : Hp} (hrc4 : ∀ (x2 : Int32) (x3 : Int32), rc4 x2 x3 → WG_ G p l e R s m args below meth c (MQ below (QI_ G (fun r τ => τ = σ ∧ post r)) args s 0 0 (FR_ G)) BN_ 5 4 [(0, rv_ x0), (1, rv_ x1), (2, .int x2), (3, .int x3)] [] σ) (hf : wX8_overlaps_L79 post rc4 x0 x1 x3 σ) : WG_ G p l e R s m args below meth c (MQ below (QI_ G (fun r τ => τ = σ ∧ post r)) args s 0 0 (FR_ G)) BN_ 5 79 [(0, rv_ x0), (1, rv_ x1), (3, .int x3)] [] σ := by
  have ⟨X, hlk, hr, hRf, hRl, hRc, hnm⟩ := Y
  have ⟨⟨hx, hb, _, hown, hts⟩, _, _⟩ := X
  intro H locs cells slots ls hP hL hB hl
  obtain ⟨rfl, rfl⟩ := hB
  unfold wX8_overlaps_L79 at hf
  refine lv_iconst (v := 0) hx hb dX8_overlaps_79 (by decide) ?_
  exact sX8_overlaps_L80 Y hrc4 hf _ _ _ _ _ hP hL ⟨rfl, rfl⟩ (lv_sub hl [0, 1, 2] rfl)
set_option maxHeartbeats 4000000 in
theorem sX8_overlaps_L75 {G : GG_} {p : Program} {l : Launch} {e : Env} {R : Room} {s : State} {m : MethodId} {args : Array Value} {below : List Frame} {meth : Method} {c : Code} (Y : MX_ G p R s m args meth c cX8_overlaps 5 RX8 (some Jvm.ClassFile.FieldType.boolean) 4 84 0 0 "overlaps") {post : Int32 → Prop} {rc4 : Int32 → Int32 → Prop} {x0 : Nat} {x1 : Nat} {x3 : Int32} {σ : Hp} (hrc4 : ∀ (x2 : Int32) (x3 : Int32), rc4 x2 x3 → WG_ G p l e R s m args below meth c (MQ below (QI_ G (fun r τ => τ = σ ∧ post r)) args s 0 0 (FR_ G)) BN_ 5 4 [(0, rv_ x0), (1, rv_ x1), (2, .int x2), (3, .int x3)] [] σ) (hf : wX8_overlaps_L75 post rc4 x0 x1 x3 σ) : WG_ G p l e R s m args below meth c (MQ below (QI_ G (fun r τ => τ = σ ∧ post r)) args s 0 0 (FR_ G)) BN_ 5 75 [(0, rv_ x0), (1, rv_ x1), (3, .int x3)] [] σ := by
  have ⟨X, hlk, hr, hRf, hRl, hRc, hnm⟩ := Y
  have ⟨⟨hx, hb, _, hown, hts⟩, _, _⟩ := X
  intro H locs cells slots ls hP hL hB hl
  obtain ⟨rfl, rfl⟩ := hB
  unfold wX8_overlaps_L75 at hf
  refine lv_iconst (v := 1) hx hb dX8_overlaps_75 (by decide) ?_
  refine lv_goto (tgt := 80) hx hb dX8_overlaps_76 (by decide) ?_
  exact sX8_overlaps_L80 Y hrc4 hf _ _ _ _ _ hP hL ⟨rfl, rfl⟩ (lv_sub hl [0, 1, 2] rfl)
set_option maxHeartbeats 4000000 in
theorem sX8_overlaps_B4 {G : GG_} {p : Program} {l : Launch} {e : Env} {R : Room} {s : State} {m : MethodId} {args : Array Value} {below : List Frame} {meth : Method} {c : Code} (Y : MX_ G p R s m args meth c cX8_overlaps 5 RX8 (some Jvm.ClassFile.FieldType.boolean) 4 84 0 0 "overlaps") {post : Int32 → Prop} {rc4 : Int32 → Int32 → Prop} {x0 : Nat} {x1 : Nat} {x2 : Int32} {x3 : Int32} {σ : Hp} (hrc4 : ∀ (x2 : Int32) (x3 : Int32), rc4 x2 x3 → WG_ G p l e R s m args below meth c (MQ below (QI_ G (fun r τ => τ = σ ∧ post r)) args s 0 0 (FR_ G)) BN_ 5 4 [(0, rv_ x0), (1, rv_ x1), (2, .int x2), (3, .int x3)] [] σ) (hf : wX8_overlaps_B4 post rc4 x0 x1 x2 x3 σ) : WG_ G p l e R s m args below meth c (MQ below (QI_ G (fun r τ => τ = σ ∧ post r)) args s 0 0 (FR_ G)) BN_ 5 4 [(0, rv_ x0), (1, rv_ x1), (2, .int x2), (3, .int x3)] [] σ := by
  have ⟨X, hlk, hr, hRf, hRl, hRc, hnm⟩ := Y
  have ⟨⟨hx, hb, _, hown, hts⟩, _, _⟩ := X
  intro H locs cells slots ls hP hL hB hl
  obtain ⟨rfl, rfl⟩ := hB
  unfold wX8_overlaps_B4 at hf
  refine lv_iload_n hx hb dX8_overlaps_4 rfl (lv_at hl 3 rfl) ?_
  refine p_aload_n hx hb dX8_overlaps_5 rfl (lv_at hl 0 rfl) ?_
  obtain ⟨ht2, hf⟩ := hf
  refine p_gR X cf7_ (k := 0) (by decide) rfl hP ht2 q590 (fun _ h => h) dX8_overlaps_6 ?_
  obtain ⟨ht3, hf⟩ := hf
  refine p_calli hL (p_runV X cf10_ hP ht3 (metJ2_size l G _ _ _ X.2.2 hf) (cwV 0 hts (lw_V q1089 q720 q721 q90 q722) rfl rfl rfl (by decide +kernel) ⟨Nat.le_trans (Nat.le_of_ble_eq_true rfl) hRf, Nat.le_trans (Nat.le_of_ble_eq_true rfl) hRl⟩) rfl hl.1 rfl (by rw [(ca_i ca_n)]; decide) dX8_overlaps_9 ⟨Nat.zero_le _, Nat.zero_le _⟩) (fun r4 σ₁ H locs hf hP hL => ?_)
  obtain ⟨e₁, hf⟩ := hf
  rw [e₁] at hP
  refine lv_icmp_ge (tgt := 87) hx hb dX8_overlaps_12 (by decide) (fun c5 => ?_) (fun c5 => ?_)
  · have hf := hf.1 c5
    refine lv_iload_n hx hb dX8_overlaps_87 rfl (lv_at hl 2 rfl) ?_
    obtain ⟨hn6, hf⟩ := hf
    exact p_zret X hlk hP hL (Nat.le_refl _) (Nat.le_refl _) hr hn6 dX8_overlaps_88 ⟨rfl, hf⟩
  · have hf := hf.2 c5
    refine p_aload_n hx hb dX8_overlaps_15 rfl (lv_at hl 0 rfl) ?_
    refine p_gR X cf7_ (k := 0) (by decide) rfl hP ht2 q590 (fun _ h => h) dX8_overlaps_16 ?_
    refine lv_iload_n hx hb dX8_overlaps_19 rfl (lv_at hl 3 rfl) ?_
    refine p_callr hL (p_runV X cf10_ hP ht3 (metJ2_get l G _ _ _ _ X.2.2 hf) (cwV 1 hts (lw_V q1090 q724 q725 q90 q726) rfl rfl rfl (by decide +kernel) ⟨Nat.le_trans (Nat.le_of_ble_eq_true rfl) hRf, Nat.le_trans (Nat.le_of_ble_eq_true rfl) hRl⟩) rfl hl.1 rfl (by decide) dX8_overlaps_20 ⟨Nat.zero_le _, Nat.zero_le _⟩) (fun r7 σ₁ H locs hf hP hL => ?_)
    obtain ⟨e₁, hf⟩ := hf
    rw [e₁] at hP
    obtain ⟨hc8, hf⟩ := hf
    refine p_cast X cf9_ hP hc8 q588 dX8_overlaps_23 ?_
    refine p_astore (i := 4) hx hb dX8_overlaps_26 hl (by decide) ⟨⟨ne_ rfl, Or.inl (ne_ rfl)⟩, ⟨⟨ne_ rfl, Or.inl (ne_ rfl)⟩, ⟨⟨ne_ rfl, Or.inl (ne_ rfl)⟩, ⟨⟨ne_ rfl, Or.inr rfl⟩, trivial⟩⟩⟩⟩ (fun ls hl => ?_)
    refine lv_iload_n hx hb dX8_overlaps_28 rfl (lv_at hl 3 rfl) ?_
    refine lv_if_ne (tgt := 75) hx hb dX8_overlaps_29 (by decide) (fun c9 => ?_) (fun c9 => ?_)
    · have hf := hf.1 c9
      exact sX8_overlaps_L75 Y hrc4 hf _ _ _ _ _ hP hL ⟨rfl, rfl⟩ (lv_sub hl [1, 2, 4] rfl)
    · have hf := hf.2 c9
      refine p_aload hx hb dX8_overlaps_32 (lv_at hl 0 rfl) ?_
      obtain ⟨ht10, hf⟩ := hf
      refine p_gI X cf9_ (k := 4) (by decide) rfl hP ht10 q1067 (fun _ h => h) dX8_overlaps_34 ?_
      refine lv_if_eq (tgt := 79) hx hb dX8_overlaps_37 (by decide) (fun c11 => ?_) (fun c11 => ?_)
      · have hf := hf.1 c11
        exact sX8_overlaps_L79 Y hrc4 hf _ _ _ _ _ hP hL ⟨rfl, rfl⟩ (lv_sub hl [1, 2, 4] rfl)
      · have hf := hf.2 c11
        refine p_aload hx hb dX8_overlaps_40 (lv_at hl 0 rfl) ?_
        refine p_gI X cf9_ (k := 2) (by decide) rfl hP ht10 q1062 (fun _ h => h) dX8_overlaps_42 ?_
        refine p_aload_n hx hb dX8_overlaps_45 rfl (lv_at hl 2 rfl) ?_
        obtain ⟨ht12, hf⟩ := hf
        refine p_gI X cf9_ (k := 2) (by decide) rfl hP ht12 q1062 (fun _ h => h) dX8_overlaps_46 ?_
        refine p_aload_n hx hb dX8_overlaps_49 rfl (lv_at hl 2 rfl) ?_
        refine p_calli hL (p_runV X cf9_ hP ht12 (metX10_sectors l G _ _ _ X.2.2 hf) (cwV 0 hts (lw_V q1115 q1116 q1117 q108 q1118) rfl rfl rfl (by decide +kernel) ⟨Nat.le_trans (Nat.le_of_ble_eq_true rfl) hRf, Nat.le_trans (Nat.le_of_ble_eq_true rfl) hRl⟩) rfl hl.1 rfl (by rw [(ca_i (ca_i ca_n))]; decide) dX8_overlaps_50 ⟨Nat.zero_le _, Nat.zero_le _⟩) (fun r13 σ₁ H locs hf hP hL => ?_)
        obtain ⟨e₁, hf⟩ := hf
        rw [e₁] at hP
        refine lv_iadd hx hb dX8_overlaps_53 ?_
        refine lv_icmp_ge (tgt := 79) hx hb dX8_overlaps_54 (by decide) (fun c14 => ?_) (fun c14 => ?_)
        · have hf := hf.1 c14
          exact sX8_overlaps_L79 Y hrc4 hf _ _ _ _ _ hP hL ⟨rfl, rfl⟩ (lv_sub hl [1, 2, 4] rfl)
        · have hf := hf.2 c14
          refine p_aload_n hx hb dX8_overlaps_57 rfl (lv_at hl 2 rfl) ?_
          refine p_gI X cf9_ (k := 2) (by decide) rfl hP ht12 q1062 (fun _ h => h) dX8_overlaps_58 ?_
          refine p_aload hx hb dX8_overlaps_61 (lv_at hl 0 rfl) ?_
          refine p_gI X cf9_ (k := 2) (by decide) rfl hP ht10 q1062 (fun _ h => h) dX8_overlaps_63 ?_
          refine p_aload hx hb dX8_overlaps_66 (lv_at hl 0 rfl) ?_
          refine p_calli hL (p_runV X cf9_ hP ht10 (metX10_sectors l G _ _ _ X.2.2 hf) (cwV 0 hts (lw_V q1115 q1116 q1117 q108 q1118) rfl rfl rfl (by decide +kernel) ⟨Nat.le_trans (Nat.le_of_ble_eq_true rfl) hRf, Nat.le_trans (Nat.le_of_ble_eq_true rfl) hRl⟩) rfl hl.1 rfl (by rw [(ca_i (ca_i ca_n))]; decide) dX8_overlaps_68 ⟨Nat.zero_le _, Nat.zero_le _⟩) (fun r15 σ₁ H locs hf hP hL => ?_)
          obtain ⟨e₁, hf⟩ := hf
          rw [e₁] at hP
          refine lv_iadd hx hb dX8_overlaps_71 ?_
          refine lv_icmp_ge (tgt := 79) hx hb dX8_overlaps_72 (by decide) (fun c16 => ?_) (fun c16 => ?_)
          · have hf := hf.1 c16
            exact sX8_overlaps_L79 Y hrc4 hf _ _ _ _ _ hP hL ⟨rfl, rfl⟩ (lv_sub hl [1, 2, 4] rfl)
          · have hf := hf.2 c16
            exact sX8_overlaps_L75 Y hrc4 hf _ _ _ _ _ hP hL ⟨rfl, rfl⟩ (lv_sub hl [1, 2, 4] rfl)
set_option maxHeartbeats 4000000 in
theorem sX8_overlaps_L4 {G : GG_} {p : Program} {l : Launch} {e : Env} {R : Room} {s : State} {m : MethodId} {args : Array Value} {below : List Frame} {meth : Method} {c : Code} (Y : MX_ G p R s m args meth c cX8_overlaps 5 RX8 (some Jvm.ClassFile.FieldType.boolean) 4 84 0 0 "overlaps") {post : Int32 → Prop} {x0 : Nat} {x1 : Nat} {x2 : Int32} {x3 : Int32} {σ : Hp} (hf : wX8_overlaps_L4 post x0 x1 x2 x3 σ) : WG_ G p l e R s m args below meth c (MQ below (QI_ G (fun r τ => τ = σ ∧ post r)) args s 0 0 (FR_ G)) BN_ 5 4 [(0, rv_ x0), (1, rv_ x1), (2, .int x2), (3, .int x3)] [] σ := by
  unfold wX8_overlaps_L4 at hf
  obtain ⟨I, μ, h0, hI⟩ := hf
  have key : ∀ (n : Nat) (x2 : Int32) (x3 : Int32), I x2 x3 → μ x2 x3 < n → WG_ G p l e R s m args below meth c (MQ below (QI_ G (fun r τ => τ = σ ∧ post r)) args s 0 0 (FR_ G)) BN_ 5 4 [(0, rv_ x0), (1, rv_ x1), (2, .int x2), (3, .int x3)] [] σ := by
    intro n
    induction n with
    | zero => intro x2 x3 _ h; exact absurd h (Nat.not_lt_zero _)
    | succ n ih => intro x2 x3 hi hn; exact sX8_overlaps_B4 Y (fun x2' x3' h => ih x2' x3' h.1 (Nat.lt_of_lt_of_le h.2 (Nat.le_of_lt_succ hn))) (hI x2 x3 hi)
  exact key _ _ _ h0 (Nat.lt_succ_self _)
set_option maxHeartbeats 4000000 in
theorem sX8_overlaps {G : GG_} {p : Program} {l : Launch} {e : Env} {R : Room} {s : State} {m : MethodId} {args : Array Value} {below : List Frame} {meth : Method} {c : Code} (Y : MX_ G p R s m args meth c cX8_overlaps 5 RX8 (some Jvm.ClassFile.FieldType.boolean) 4 84 0 0 "overlaps") {post : Int32 → Prop} {x0 : Nat} {x1 : Nat} {σ : Hp} (hf : wX8_overlaps x0 x1 σ post) : WG_ G p l e R s m args below meth c (MQ below (QI_ G (fun r τ => τ = σ ∧ post r)) args s 0 0 (FR_ G)) BN_ 5 0 [(0, rv_ x0), (1, rv_ x1)] [] σ := by
  have ⟨X, hlk, hr, hRf, hRl, hRc, hnm⟩ := Y
  have ⟨⟨hx, hb, _, hown, hts⟩, _, _⟩ := X
  intro H locs cells slots ls hP hL hB hl
  obtain ⟨rfl, rfl⟩ := hB
  unfold wX8_overlaps at hf
  refine lv_iconst (v := 0) hx hb dX8_overlaps_0 (by decide) ?_
  refine p_istore_n (i := 2) hx hb dX8_overlaps_1 rfl hl (by decide) ⟨⟨ne_ rfl, Or.inl (ne_ rfl)⟩, ⟨⟨ne_ rfl, Or.inr (rv_cat _)⟩, trivial⟩⟩ (fun ls hl => ?_)
  refine lv_iconst (v := 0) hx hb dX8_overlaps_2 (by decide) ?_
  refine p_istore_n (i := 3) hx hb dX8_overlaps_3 rfl hl (by decide) ⟨⟨ne_ rfl, Or.inr rfl⟩, ⟨⟨ne_ rfl, Or.inl (ne_ rfl)⟩, ⟨⟨ne_ rfl, Or.inl (ne_ rfl)⟩, trivial⟩⟩⟩ (fun ls hl => ?_)
  exact sX8_overlaps_L4 Y hf _ _ _ _ _ hP hL ⟨rfl, rfl⟩ (lv_sub hl [2, 3, 1, 0] rfl)
set_option maxHeartbeats 4000000 in
theorem metX8_overlaps (l : Launch) (G : GG_) (x0 : Nat) (x1 : Nat) (σ : Hp) (post : Int32 → Prop) (hG : GOK_ G) (hf : wX8_overlaps x0 x1 σ post) : Met l yX8_overlaps (ws_ yX8_overlaps cX8_overlaps 5 (some Jvm.ClassFile.FieldType.boolean)) { frames := 4, cells := 0, slots := 0, locals := 84 } (PC_ G [rv_ x0, rv_ x1] σ) (QI_ G (fun r τ => τ = σ ∧ post r)) 0 0 (FR_ G) := by
  refine Met.ofW (cc := cX8_overlaps) (maxL := 5) (ret := (some Jvm.ClassFile.FieldType.boolean)) (by decide) rfl ?_
  intro p e s m args below meth c s₁ B hml hv
  obtain ⟨rfl, hP, hW⟩ := hv
  have hts := atoms_spec (ws := ws_ yX8_overlaps cX8_overlaps 5 (some Jvm.ClassFile.FieldType.boolean)) B.pre
  have hts : ∀ w ∈ lw_all, w.before _ s = true := fun w h => hts w (List.mem_cons_of_mem _ h)
  rw [lg_entry_eq]
  have hl := en_entry [rv_ x0, rv_ x1] [1, 1] (n := 5) (ca_r (ca_r ca_n)) (by decide)
  exact sX8_overlaps ⟨⟨⟨B.exec, B.bytes, hml, findClass_of_methodNamed B.named, hts⟩, hW, hG⟩, B.notSynchronized, B.returns, Nat.le_refl _, Nat.le_refl _, ⟨rfl, rfl⟩, (name_of_methodNamed B.named B.method).1⟩ hf _ _ _ _ _ hP (LO_nil G) ⟨rfl, rfl⟩ hl
abbrev cX8_node : ByteArray := prog_8_method_15_code
def yX8_node : MethodName := ⟨RX8, "node", "(JI)Z"⟩
theorem dX8_node_0 : decode cX8_node 0 = .ok (.aload_n 0, 1) := by decide +kernel
theorem dX8_node_1 : decode cX8_node 1 = .ok (.lload_n 1, 1) := by decide +kernel
theorem dX8_node_2 : decode cX8_node 2 = .ok (.iload_n 3, 1) := by decide +kernel
theorem dX8_node_3 : decode cX8_node 3 = .ok (.invokevirtual 154, 3) := by decide +kernel
theorem dX8_node_6 : decode cX8_node 6 = .ok (.astore 4, 2) := by decide +kernel
theorem dX8_node_8 : decode cX8_node 8 = .ok (.aload 4, 2) := by decide +kernel
theorem dX8_node_10 : decode cX8_node 10 = .ok (.aload_n 0, 1) := by decide +kernel
theorem dX8_node_11 : decode cX8_node 11 = .ok (.getfield 12, 3) := by decide +kernel
theorem dX8_node_14 : decode cX8_node 14 = .ok (.iload_n 3, 1) := by decide +kernel
theorem dX8_node_15 : decode cX8_node 15 = .ok (.invokevirtual 147, 3) := by decide +kernel
theorem dX8_node_18 : decode cX8_node 18 = .ok (.checkcast 18, 3) := by decide +kernel
theorem dX8_node_21 : decode cX8_node 21 = .ok (.getfield 125, 3) := by decide +kernel
theorem dX8_node_24 : decode cX8_node 24 = .ok (.iconst 1, 1) := by decide +kernel
theorem dX8_node_25 : decode cX8_node 25 = .ok (.iadd, 1) := by decide +kernel
theorem dX8_node_26 : decode cX8_node 26 = .ok (.putfield 125, 3) := by decide +kernel
theorem dX8_node_29 : decode cX8_node 29 = .ok (.aload 4, 2) := by decide +kernel
theorem dX8_node_31 : decode cX8_node 31 = .ok (.aload_n 0, 1) := by decide +kernel
theorem dX8_node_32 : decode cX8_node 32 = .ok (.aload 4, 2) := by decide +kernel
theorem dX8_node_34 : decode cX8_node 34 = .ok (.getfield 134, 3) := by decide +kernel
theorem dX8_node_37 : decode cX8_node 37 = .ok (.ifCond .eq 10, 3) := by decide +kernel
theorem dX8_node_40 : decode cX8_node 40 = .ok (.aload_n 0, 1) := by decide +kernel
theorem dX8_node_41 : decode cX8_node 41 = .ok (.getfield 61, 3) := by decide +kernel
theorem dX8_node_44 : decode cX8_node 44 = .ok (.goto 9, 3) := by decide +kernel
theorem dX8_node_47 : decode cX8_node 47 = .ok (.aload_n 0, 1) := by decide +kernel
theorem dX8_node_48 : decode cX8_node 48 = .ok (.getfield 61, 3) := by decide +kernel
theorem dX8_node_51 : decode cX8_node 51 = .ok (.iconst 3, 1) := by decide +kernel
theorem dX8_node_52 : decode cX8_node 52 = .ok (.isub, 1) := by decide +kernel
theorem dX8_node_53 : decode cX8_node 53 = .ok (.invokevirtual 158, 3) := by decide +kernel
theorem dX8_node_56 : decode cX8_node 56 = .ok (.putfield 128, 3) := by decide +kernel
theorem dX8_node_59 : decode cX8_node 59 = .ok (.aload_n 0, 1) := by decide +kernel
theorem dX8_node_60 : decode cX8_node 60 = .ok (.getfield 12, 3) := by decide +kernel
theorem dX8_node_63 : decode cX8_node 63 = .ok (.invokevirtual 144, 3) := by decide +kernel
theorem dX8_node_66 : decode cX8_node 66 = .ok (.bipush 30, 2) := by decide +kernel
theorem dX8_node_68 : decode cX8_node 68 = .ok (.if_icmp .eq 30, 3) := by decide +kernel
theorem dX8_node_71 : decode cX8_node 71 = .ok (.aload 4, 2) := by decide +kernel
theorem dX8_node_73 : decode cX8_node 73 = .ok (.getfield 134, 3) := by decide +kernel
theorem dX8_node_76 : decode cX8_node 76 = .ok (.ifCond .eq 28, 3) := by decide +kernel
theorem dX8_node_79 : decode cX8_node 79 = .ok (.aload 4, 2) := by decide +kernel
theorem dX8_node_81 : decode cX8_node 81 = .ok (.getfield 125, 3) := by decide +kernel
theorem dX8_node_84 : decode cX8_node 84 = .ok (.bipush 6, 2) := by decide +kernel
theorem dX8_node_86 : decode cX8_node 86 = .ok (.if_icmp .gt 12, 3) := by decide +kernel
theorem dX8_node_89 : decode cX8_node 89 = .ok (.aload_n 0, 1) := by decide +kernel
theorem dX8_node_90 : decode cX8_node 90 = .ok (.aload 4, 2) := by decide +kernel
theorem dX8_node_92 : decode cX8_node 92 = .ok (.invokevirtual 162, 3) := by decide +kernel
theorem dX8_node_95 : decode cX8_node 95 = .ok (.ifCond .eq 9, 3) := by decide +kernel
theorem dX8_node_98 : decode cX8_node 98 = .ok (.aload_n 0, 1) := by decide +kernel
theorem dX8_node_99 : decode cX8_node 99 = .ok (.lload_n 1, 1) := by decide +kernel
theorem dX8_node_100 : decode cX8_node 100 = .ok (.invokevirtual 89, 3) := by decide +kernel
theorem dX8_node_103 : decode cX8_node 103 = .ok (.ireturn, 1) := by decide +kernel
theorem dX8_node_104 : decode cX8_node 104 = .ok (.aload_n 0, 1) := by decide +kernel
theorem dX8_node_105 : decode cX8_node 105 = .ok (.getfield 12, 3) := by decide +kernel
theorem dX8_node_108 : decode cX8_node 108 = .ok (.aload 4, 2) := by decide +kernel
theorem dX8_node_110 : decode cX8_node 110 = .ok (.invokevirtual 166, 3) := by decide +kernel
theorem dX8_node_113 : decode cX8_node 113 = .ok (.pop, 1) := by decide +kernel
theorem dX8_node_114 : decode cX8_node 114 = .ok (.iconst 1, 1) := by decide +kernel
theorem dX8_node_115 : decode cX8_node 115 = .ok (.ireturn, 1) := by decide +kernel
/-- WriteOnceDisc$Reader.node(JI)Z -/
def wX8_node_L104 (post : Int32 → Hp → Prop) (x0 : Nat) (x4 : Nat) (σ : Hp) : Prop :=
(tg_ σ x0 = 8 ∧ (tg_ σ (fR_ σ 7 0 x0) = 11 ∧ (∃ mc3 ms4 : Nat, (mc3 ≤ bc_ σ ∧ (ms4 ≤ bs_ σ ∧ (wJ2_add (fR_ σ 7 0 x0) x4 (bu_ σ mc3 ms4) (fun r7 σ8 => (∀ σ9, σ9 = bu_ σ8 (bc_ σ - mc3) (bs_ σ - ms4) → post (1 : Int32) σ9))))))))
def wX8_node_L98 (post : Int32 → Hp → Prop) (x0 : Nat) (x1 : Int64) (σ : Hp) : Prop :=
(tg_ σ x0 = 8 ∧ (wX8_bad x0 x1 σ (fun r11 σ12 => (∀ σ13, σ13 = bu_ σ12 (bc_ σ) (bs_ σ) → (nr_ .boolean r11 ∧ post r11 σ13)))))
def wX8_node_L53 (post : Int32 → Hp → Prop) (x0 : Nat) (x1 : Int64) (x4 : Nat) (s0 : Int32) (s1 : Nat) (s2 : Nat) (σ : Hp) : Prop :=
(tg_ σ s1 = 8 ∧ (wX8_word s1 s0 σ (fun r16 => (tg_ σ s2 = 10 ∧ (∀ σ18, σ18 = sL_ σ 9 5 s2 r16 → (tg_ σ18 x0 = 8 ∧ (tg_ σ18 (fR_ σ18 7 0 x0) = 11 ∧ (wJ2_size (fR_ σ18 7 0 x0)  σ18 (fun r21 => ((r21 = (30 : Int32) →
  wX8_node_L98 post x0 x1 σ18) ∧
 (¬ r21 = (30 : Int32) →
  (tg_ σ18 x4 = 10 ∧ (((fI_ σ18 9 4 x4) = 0 →
   wX8_node_L104 post x0 x4 σ18) ∧
  (¬ (fI_ σ18 9 4 x4) = 0 →
   (((6 : Int32) < (fI_ σ18 9 1 x4) →
    wX8_node_L98 post x0 x1 σ18) ∧
   (¬ (6 : Int32) < (fI_ σ18 9 1 x4) →
    (wX8_overlaps x0 x4 σ18 (fun r26 => ((r26 = 0 →
     wX8_node_L104 post x0 x4 σ18) ∧
    (¬ r26 = 0 →
     wX8_node_L98 post x0 x1 σ18))))))))))))))))))))
def wX8_node (x0 : Nat) (x1 : Int64) (x3 : Int32) (σ : Hp) (post : Int32 → Hp → Prop) : Prop :=
(tg_ σ x0 = 8 ∧ (∃ mc29 ms30 : Nat, (mc29 ≤ bc_ σ ∧ (ms30 ≤ bs_ σ ∧ (wX8_found x0 x1 x3 (bu_ σ mc29 ms30) (fun r33 σ34 => (∀ σ35, σ35 = bu_ σ34 (bc_ σ - mc29) (bs_ σ - ms30) → (tg_ σ35 x0 = 8 ∧ (tg_ σ35 (fR_ σ35 7 0 x0) = 11 ∧ (wJ2_get (fR_ σ35 7 0 x0) x3 σ35 (fun r38 => ((r38 = 0 ∨ tg_ σ35 r38 = 10) ∧ (tg_ σ35 r38 = 10 ∧ (tg_ σ35 r33 = 10 ∧ (∀ σ42, σ42 = sI_ σ35 9 1 r33 ((fI_ σ35 9 1 r38) + (1 : Int32)) → (((fI_ σ42 9 4 r33) = 0 →
  wX8_node_L53 post x0 x1 r33 ((fI_ σ42 7 6 x0) - (3 : Int32)) x0 r33 σ42) ∧
 (¬ (fI_ σ42 9 4 r33) = 0 →
  wX8_node_L53 post x0 x1 r33 (fI_ σ42 7 6 x0) x0 r33 σ42)))))))))))))))))
set_option maxHeartbeats 4000000 in
theorem sX8_node_L104 {G : GG_} {p : Program} {l : Launch} {e : Env} {R : Room} {s : State} {m : MethodId} {args : Array Value} {below : List Frame} {meth : Method} {c : Code} {mc ms : Nat} (Y : MX_ G p R s m args meth c cX8_node 5 RX8 (some Jvm.ClassFile.FieldType.boolean) 7 179 mc ms "node") {post : Int32 → Hp → Prop} {x0 : Nat} {x4 : Nat} {σ : Hp} (hf : wX8_node_L104 post x0 x4 σ) : WG_ G p l e R s m args below meth c (MQ below (QI_ G post) args s mc ms (FR_ G)) (BU_ R) 5 104 [(0, rv_ x0), (4, rv_ x4)] [] σ := by
  have ⟨X, hlk, hr, hRf, hRl, hRc, hnm⟩ := Y
  have ⟨⟨hx, hb, _, hown, hts⟩, _, _⟩ := X
  intro H locs cells slots ls hP hL hB hl
  unfold wX8_node_L104 at hf
  refine p_aload_n hx hb dX8_node_104 rfl (lv_at hl 0 rfl) ?_
  obtain ⟨ht1, hf⟩ := hf
  refine p_gR X cf7_ (k := 0) (by decide) rfl hP ht1 q590 (fun _ h => h) dX8_node_105 ?_
  refine p_aload hx hb dX8_node_108 (lv_at hl 1 rfl) ?_
  obtain ⟨ht2, hf⟩ := hf
  obtain ⟨mc3, ms4, hf⟩ := hf
  obtain ⟨hb5, hf⟩ := hf
  obtain ⟨hb6, hf⟩ := hf
  refine p_calli hL (p_runV X cf10_ (Pic_bu hP mc3 ms4) ht2 (metJ2_add l G _ _ _ _ _ _ X.2.2 hf) (cwV 1 hts (lw_V q1088 q496 q497 q90 q498) rfl rfl rfl (by decide +kernel) ⟨Nat.le_trans (Nat.le_of_ble_eq_true rfl) hRf, Nat.le_trans (Nat.le_of_ble_eq_true rfl) hRl⟩) rfl hl.1 rfl (by decide) dX8_node_110 (BU_call hB hb5 hb6)) (fun r7 σ8 H locs hf hP hL => ?_)
  have hB := BU_back (τ := σ8) hB hb5 hb6
  have hP := Pic_bu hP (bc_ σ - mc3) (bs_ σ - ms4)
  refine p_nmPB hP hB (fun σ9 hσ9 hP hB => ?_)
  have hf := hf σ9 hσ9
  refine lv_pop hx hb dX8_node_113 rfl ?_
  refine lv_iconst (v := 1) hx hb dX8_node_114 (by decide) ?_
  exact p_zret X hlk hP hL (BU_le hB hRc).1 (BU_le hB hRc).2 hr nr_1 dX8_node_115 hf
set_option maxHeartbeats 4000000 in
theorem sX8_node_L98 {G : GG_} {p : Program} {l : Launch} {e : Env} {R : Room} {s : State} {m : MethodId} {args : Array Value} {below : List Frame} {meth : Method} {c : Code} {mc ms : Nat} (Y : MX_ G p R s m args meth c cX8_node 5 RX8 (some Jvm.ClassFile.FieldType.boolean) 7 179 mc ms "node") {post : Int32 → Hp → Prop} {x0 : Nat} {x1 : Int64} {σ : Hp} (hf : wX8_node_L98 post x0 x1 σ) : WG_ G p l e R s m args below meth c (MQ below (QI_ G post) args s mc ms (FR_ G)) (BU_ R) 5 98 [(0, rv_ x0), (1, .long x1)] [] σ := by
  have ⟨X, hlk, hr, hRf, hRl, hRc, hnm⟩ := Y
  have ⟨⟨hx, hb, _, hown, hts⟩, _, _⟩ := X
  intro H locs cells slots ls hP hL hB hl
  unfold wX8_node_L98 at hf
  refine p_aload_n hx hb dX8_node_98 rfl (lv_at hl 0 rfl) ?_
  refine lv_lload_n hx hb dX8_node_99 rfl (lv_at hl 1 rfl) ?_
  obtain ⟨ht10, hf⟩ := hf
  refine p_calli hL (p_runV X cf7_ hP ht10 (metX8_bad l G _ _ _ _ X.2.2 hf) (cwV 1 hts (lw_V q996 q998 qs21 q105 q999) rfl rfl rfl (by decide +kernel) ⟨Nat.le_trans (Nat.le_of_ble_eq_true rfl) hRf, Nat.le_trans (Nat.le_of_ble_eq_true rfl) hRl⟩) rfl hl.1 rfl (by decide) dX8_node_100 (BU_call hB (Nat.zero_le _) (Nat.zero_le _))) (fun r11 σ12 H locs hf hP hL => ?_)
  have hB := BU_keep (τ := σ12) hB
  have hP := Pic_bu hP (bc_ σ) (bs_ σ)
  refine p_nmPB hP hB (fun σ13 hσ13 hP hB => ?_)
  have hf := hf σ13 hσ13
  obtain ⟨hn14, hf⟩ := hf
  exact p_zret X hlk hP hL (BU_le hB hRc).1 (BU_le hB hRc).2 hr hn14 dX8_node_103 hf
set_option maxHeartbeats 4000000 in
theorem sX8_node_L53 {G : GG_} {p : Program} {l : Launch} {e : Env} {R : Room} {s : State} {m : MethodId} {args : Array Value} {below : List Frame} {meth : Method} {c : Code} {mc ms : Nat} (Y : MX_ G p R s m args meth c cX8_node 5 RX8 (some Jvm.ClassFile.FieldType.boolean) 7 179 mc ms "node") {post : Int32 → Hp → Prop} {x0 : Nat} {x1 : Int64} {x4 : Nat} {s0 : Int32} {s1 : Nat} {s2 : Nat} {σ : Hp} (hf : wX8_node_L53 post x0 x1 x4 s0 s1 s2 σ) : WG_ G p l e R s m args below meth c (MQ below (QI_ G post) args s mc ms (FR_ G)) (BU_ R) 5 53 [(0, rv_ x0), (1, .long x1), (4, rv_ x4)] [.int s0, rv_ s1, rv_ s2] σ := by
  have ⟨X, hlk, hr, hRf, hRl, hRc, hnm⟩ := Y
  have ⟨⟨hx, hb, _, hown, hts⟩, _, _⟩ := X
  intro H locs cells slots ls hP hL hB hl
  unfold wX8_node_L53 at hf
  obtain ⟨ht15, hf⟩ := hf
  refine p_calll hL (p_runV X cf7_ hP ht15 (metX8_word l G _ _ _ _ X.2.2 hf) (cwV 1 hts (lw_V q1107 q1109 qs34 q105 q1110) rfl rfl rfl (by decide +kernel) ⟨Nat.le_trans (Nat.le_of_ble_eq_true rfl) hRf, Nat.le_trans (Nat.le_of_ble_eq_true rfl) hRl⟩) rfl hl.1 rfl (by rw [(ca_r ca_n)]; decide) dX8_node_53 (BU_call hB (Nat.zero_le _) (Nat.zero_le _))) (fun r16 σ₁ H locs hf hP hL => ?_)
  obtain ⟨e₁, hf⟩ := hf
  rw [e₁] at hP
  obtain ⟨ht17, hf⟩ := hf
  refine p_pL X cf9_ (k := 5) (by decide) rfl hP hL ht17 (p_ow hP ht17 rfl) q1069 (fun _ h => h) (Or.inl rfl) rfl rfl dX8_node_56 (fun H locs hP hL => ?_)
  refine p_nmPB hP hB (fun σ18 hσ18 hP hB => ?_)
  have hf := hf σ18 hσ18
  have ht15 : tg_ σ18 s1 = 8 := by rw [hσ18]; exact ht15
  have ht17 : tg_ σ18 s2 = 10 := by rw [hσ18]; exact ht17
  refine p_aload_n hx hb dX8_node_59 rfl (lv_at hl 0 rfl) ?_
  obtain ⟨ht19, hf⟩ := hf
  refine p_gR X cf7_ (k := 0) (by decide) rfl hP ht19 q590 (fun _ h => h) dX8_node_60 ?_
  obtain ⟨ht20, hf⟩ := hf
  refine p_calli hL (p_runV X cf10_ hP ht20 (metJ2_size l G _ _ _ X.2.2 hf) (cwV 0 hts (lw_V q1089 q720 q721 q90 q722) rfl rfl rfl (by decide +kernel) ⟨Nat.le_trans (Nat.le_of_ble_eq_true rfl) hRf, Nat.le_trans (Nat.le_of_ble_eq_true rfl) hRl⟩) rfl hl.1 rfl (by decide) dX8_node_63 (BU_call hB (Nat.zero_le _) (Nat.zero_le _))) (fun r21 σ₁ H locs hf hP hL => ?_)
  obtain ⟨e₁, hf⟩ := hf
  rw [e₁] at hP
  refine lv_bipush (v := 30) hx hb dX8_node_66 (by decide) ?_
  refine lv_icmp_eq (tgt := 98) hx hb dX8_node_68 (by decide) (fun c22 => ?_) (fun c22 => ?_)
  · have hf := hf.1 c22
    exact sX8_node_L98 Y hf _ _ _ _ _ hP hL hB (lv_sub hl [0, 1] rfl)
  · have hf := hf.2 c22
    refine p_aload hx hb dX8_node_71 (lv_at hl 2 rfl) ?_
    obtain ⟨ht23, hf⟩ := hf
    refine p_gI X cf9_ (k := 4) (by decide) rfl hP ht23 q1067 (fun _ h => h) dX8_node_73 ?_
    refine lv_if_eq (tgt := 104) hx hb dX8_node_76 (by decide) (fun c24 => ?_) (fun c24 => ?_)
    · have hf := hf.1 c24
      exact sX8_node_L104 Y hf _ _ _ _ _ hP hL hB (lv_sub hl [0, 2] rfl)
    · have hf := hf.2 c24
      refine p_aload hx hb dX8_node_79 (lv_at hl 2 rfl) ?_
      refine p_gI X cf9_ (k := 1) (by decide) rfl hP ht23 q1061 (fun _ h => h) dX8_node_81 ?_
      refine lv_bipush (v := 6) hx hb dX8_node_84 (by decide) ?_
      refine lv_icmp_gt (tgt := 98) hx hb dX8_node_86 (by decide) (fun c25 => ?_) (fun c25 => ?_)
      · have hf := hf.1 c25
        exact sX8_node_L98 Y hf _ _ _ _ _ hP hL hB (lv_sub hl [0, 1] rfl)
      · have hf := hf.2 c25
        refine p_aload_n hx hb dX8_node_89 rfl (lv_at hl 0 rfl) ?_
        refine p_aload hx hb dX8_node_90 (lv_at hl 2 rfl) ?_
        refine p_calli hL (p_runV X cf7_ hP ht19 (metX8_overlaps l G _ _ _ _ X.2.2 hf) (cwV 1 hts (lw_V q1111 q1113 qs35 q105 q1114) rfl rfl rfl (by decide +kernel) ⟨Nat.le_trans (Nat.le_of_ble_eq_true rfl) hRf, Nat.le_trans (Nat.le_of_ble_eq_true rfl) hRl⟩) rfl hl.1 rfl (by decide) dX8_node_92 (BU_call hB (Nat.zero_le _) (Nat.zero_le _))) (fun r26 σ₁ H locs hf hP hL => ?_)
        obtain ⟨e₁, hf⟩ := hf
        rw [e₁] at hP
        refine lv_if_eq (tgt := 104) hx hb dX8_node_95 (by decide) (fun c27 => ?_) (fun c27 => ?_)
        · have hf := hf.1 c27
          exact sX8_node_L104 Y hf _ _ _ _ _ hP hL hB (lv_sub hl [0, 2] rfl)
        · have hf := hf.2 c27
          exact sX8_node_L98 Y hf _ _ _ _ _ hP hL hB (lv_sub hl [0, 1] rfl)
set_option maxHeartbeats 4000000 in
theorem sX8_node {G : GG_} {p : Program} {l : Launch} {e : Env} {R : Room} {s : State} {m : MethodId} {args : Array Value} {below : List Frame} {meth : Method} {c : Code} {mc ms : Nat} (Y : MX_ G p R s m args meth c cX8_node 5 RX8 (some Jvm.ClassFile.FieldType.boolean) 7 179 mc ms "node") {post : Int32 → Hp → Prop} {x0 : Nat} {x1 : Int64} {x3 : Int32} {σ : Hp} (hf : wX8_node x0 x1 x3 σ post) : WG_ G p l e R s m args below meth c (MQ below (QI_ G post) args s mc ms (FR_ G)) (BU_ R) 5 0 [(0, rv_ x0), (1, .long x1), (3, .int x3)] [] σ := by
  have ⟨X, hlk, hr, hRf, hRl, hRc, hnm⟩ := Y
  have ⟨⟨hx, hb, _, hown, hts⟩, _, _⟩ := X
  intro H locs cells slots ls hP hL hB hl
  unfold wX8_node at hf
  refine p_aload_n hx hb dX8_node_0 rfl (lv_at hl 0 rfl) ?_
  refine lv_lload_n hx hb dX8_node_1 rfl (lv_at hl 1 rfl) ?_
  refine lv_iload_n hx hb dX8_node_2 rfl (lv_at hl 2 rfl) ?_
  obtain ⟨ht28, hf⟩ := hf
  obtain ⟨mc29, ms30, hf⟩ := hf
  obtain ⟨hb31, hf⟩ := hf
  obtain ⟨hb32, hf⟩ := hf
  refine p_callr hL (p_runV X cf7_ (Pic_bu hP mc29 ms30) ht28 (metX8_found l G _ _ _ _ _ _ _ X.2.2 hf) (cwV 2 hts (lw_V q1050 q1052 qs28 q105 q1053) rfl rfl rfl (by decide +kernel) ⟨Nat.le_trans (Nat.le_of_ble_eq_true rfl) hRf, Nat.le_trans (Nat.le_of_ble_eq_true rfl) hRl⟩) rfl hl.1 rfl (by decide) dX8_node_3 (BU_call hB hb31 hb32)) (fun r33 σ34 H locs hf hP hL => ?_)
  have hB := BU_back (τ := σ34) hB hb31 hb32
  have hP := Pic_bu hP (bc_ σ - mc29) (bs_ σ - ms30)
  refine p_nmPB hP hB (fun σ35 hσ35 hP hB => ?_)
  have hf := hf σ35 hσ35
  refine p_astore (i := 4) hx hb dX8_node_6 hl (by decide) ⟨⟨ne_ rfl, Or.inl (ne_ rfl)⟩, ⟨⟨ne_ rfl, Or.inl (ne_ rfl)⟩, ⟨⟨ne_ rfl, Or.inr rfl⟩, trivial⟩⟩⟩ (fun ls hl => ?_)
  refine p_aload hx hb dX8_node_8 (lv_at hl 0 rfl) ?_
  refine p_aload_n hx hb dX8_node_10 rfl (lv_at hl 1 rfl) ?_
  obtain ⟨ht36, hf⟩ := hf
  refine p_gR X cf7_ (k := 0) (by decide) rfl hP ht36 q590 (fun _ h => h) dX8_node_11 ?_
  refine lv_iload_n hx hb dX8_node_14 rfl (lv_at hl 3 rfl) ?_
  obtain ⟨ht37, hf⟩ := hf
  refine p_callr hL (p_runV X cf10_ hP ht37 (metJ2_get l G _ _ _ _ X.2.2 hf) (cwV 1 hts (lw_V q1090 q724 q725 q90 q726) rfl rfl rfl (by decide +kernel) ⟨Nat.le_trans (Nat.le_of_ble_eq_true rfl) hRf, Nat.le_trans (Nat.le_of_ble_eq_true rfl) hRl⟩) rfl hl.1 rfl (by rw [(ca_r ca_n)]; decide) dX8_node_15 (BU_call hB (Nat.zero_le _) (Nat.zero_le _))) (fun r38 σ₁ H locs hf hP hL => ?_)
  obtain ⟨e₁, hf⟩ := hf
  rw [e₁] at hP
  obtain ⟨hc39, hf⟩ := hf
  refine p_cast X cf9_ hP hc39 q588 dX8_node_18 ?_
  obtain ⟨ht40, hf⟩ := hf
  refine p_gI X cf9_ (k := 1) (by decide) rfl hP ht40 q1061 (fun _ h => h) dX8_node_21 ?_
  refine lv_iconst (v := 1) hx hb dX8_node_24 (by decide) ?_
  refine lv_iadd hx hb dX8_node_25 ?_
  obtain ⟨ht41, hf⟩ := hf
  refine p_pI X cf9_ (k := 1) (by decide) rfl hP hL ht41 (p_ow hP ht41 rfl) q1061 (fun _ h => h) (Or.inl rfl) rfl rfl dX8_node_26 (fun H locs hP hL => ?_)
  refine p_nmPB hP hB (fun σ42 hσ42 hP hB => ?_)
  have hf := hf σ42 hσ42
  have ht36 : tg_ σ42 x0 = 8 := by rw [hσ42]; exact ht36
  have ht40 : tg_ σ42 r38 = 10 := by rw [hσ42]; exact ht40
  have ht41 : tg_ σ42 r33 = 10 := by rw [hσ42]; exact ht41
  refine p_aload hx hb dX8_node_29 (lv_at hl 0 rfl) ?_
  refine p_aload_n hx hb dX8_node_31 rfl (lv_at hl 1 rfl) ?_
  refine p_aload hx hb dX8_node_32 (lv_at hl 0 rfl) ?_
  refine p_gI X cf9_ (k := 4) (by decide) rfl hP ht41 q1067 (fun _ h => h) dX8_node_34 ?_
  refine lv_if_eq (tgt := 47) hx hb dX8_node_37 (by decide) (fun c43 => ?_) (fun c43 => ?_)
  · have hf := hf.1 c43
    refine p_aload_n hx hb dX8_node_47 rfl (lv_at hl 1 rfl) ?_
    refine p_gI X cf7_ (k := 6) (by decide) rfl hP ht36 q597 (fun _ h => h) dX8_node_48 ?_
    refine lv_iconst (v := 3) hx hb dX8_node_51 (by decide) ?_
    refine lv_isub hx hb dX8_node_52 ?_
    exact sX8_node_L53 Y hf _ _ _ _ _ hP hL hB (lv_sub hl [1, 2, 0] rfl)
  · have hf := hf.2 c43
    refine p_aload_n hx hb dX8_node_40 rfl (lv_at hl 1 rfl) ?_
    refine p_gI X cf7_ (k := 6) (by decide) rfl hP ht36 q597 (fun _ h => h) dX8_node_41 ?_
    refine lv_goto (tgt := 53) hx hb dX8_node_44 (by decide) ?_
    exact sX8_node_L53 Y hf _ _ _ _ _ hP hL hB (lv_sub hl [1, 2, 0] rfl)
set_option maxHeartbeats 4000000 in
theorem metX8_node (l : Launch) (G : GG_) (mc ms : Nat) (x0 : Nat) (x1 : Int64) (x3 : Int32) (σ : Hp) (post : Int32 → Hp → Prop) (hG : GOK_ G) (hf : wX8_node x0 x1 x3 (bu_ σ mc ms) post) : Met l yX8_node (ws_ yX8_node cX8_node 5 (some Jvm.ClassFile.FieldType.boolean)) { frames := 7, cells := mc, slots := ms, locals := 179 } (PC_ G [rv_ x0, .long x1, .int x3] (bu_ σ mc ms)) (QI_ G post) mc ms (FR_ G) := by
  refine Met.ofW (cc := cX8_node) (maxL := 5) (ret := (some Jvm.ClassFile.FieldType.boolean)) (by decide) rfl ?_
  intro p e s m args below meth c s₁ B hml hv
  obtain ⟨rfl, hP, hW⟩ := hv
  have hts := atoms_spec (ws := ws_ yX8_node cX8_node 5 (some Jvm.ClassFile.FieldType.boolean)) B.pre
  have hts : ∀ w ∈ lw_all, w.before _ s = true := fun w h => hts w (List.mem_cons_of_mem _ h)
  rw [lg_entry_eq]
  have hl := en_entry [rv_ x0, .long x1, .int x3] [1, 2, 1] (n := 5) (ca_r (ca_l (ca_i ca_n))) (by decide)
  exact sX8_node ⟨⟨⟨B.exec, B.bytes, hml, findClass_of_methodNamed B.named, hts⟩, hW, hG⟩, B.notSynchronized, B.returns, Nat.le_refl _, Nat.le_refl _, ⟨rfl, rfl⟩, (name_of_methodNamed B.named B.method).1⟩ hf _ _ _ _ _ hP (LO_nil G) (BU_in ⟨rfl, rfl⟩) hl
abbrev cX8_directory : ByteArray := prog_8_method_17_code
def yX8_directory : MethodName := ⟨RX8, "directory", "(I)Z"⟩
theorem dX8_directory_0 : decode cX8_directory 0 = .ok (.aload_n 0, 1) := by decide +kernel
theorem dX8_directory_1 : decode cX8_directory 1 = .ok (.getfield 12, 3) := by decide +kernel
theorem dX8_directory_4 : decode cX8_directory 4 = .ok (.iload_n 1, 1) := by decide +kernel
theorem dX8_directory_5 : decode cX8_directory 5 = .ok (.invokevirtual 147, 3) := by decide +kernel
theorem dX8_directory_8 : decode cX8_directory 8 = .ok (.checkcast 18, 3) := by decide +kernel
theorem dX8_directory_11 : decode cX8_directory 11 = .ok (.astore_n 2, 1) := by decide +kernel
theorem dX8_directory_12 : decode cX8_directory 12 = .ok (.aload_n 2, 1) := by decide +kernel
theorem dX8_directory_13 : decode cX8_directory 13 = .ok (.getfield 138, 3) := by decide +kernel
theorem dX8_directory_16 : decode cX8_directory 16 = .ok (.i2l, 1) := by decide +kernel
theorem dX8_directory_17 : decode cX8_directory 17 = .ok (.ldc2_w 87, 3) := by decide +kernel
theorem dX8_directory_20 : decode cX8_directory 20 = .ok (.lmul, 1) := by decide +kernel
theorem dX8_directory_21 : decode cX8_directory 21 = .ok (.lstore_n 3, 1) := by decide +kernel
theorem dX8_directory_22 : decode cX8_directory 22 = .ok (.lload_n 3, 1) := by decide +kernel
theorem dX8_directory_23 : decode cX8_directory 23 = .ok (.lstore 5, 2) := by decide +kernel
theorem dX8_directory_25 : decode cX8_directory 25 = .ok (.iconst 0, 1) := by decide +kernel
theorem dX8_directory_26 : decode cX8_directory 26 = .ok (.istore 7, 2) := by decide +kernel
theorem dX8_directory_28 : decode cX8_directory 28 = .ok (.lload 5, 2) := by decide +kernel
theorem dX8_directory_30 : decode cX8_directory 30 = .ok (.lload_n 3, 1) := by decide +kernel
theorem dX8_directory_31 : decode cX8_directory 31 = .ok (.aload_n 2, 1) := by decide +kernel
theorem dX8_directory_32 : decode cX8_directory 32 = .ok (.getfield 141, 3) := by decide +kernel
theorem dX8_directory_35 : decode cX8_directory 35 = .ok (.i2l, 1) := by decide +kernel
theorem dX8_directory_36 : decode cX8_directory 36 = .ok (.ladd, 1) := by decide +kernel
theorem dX8_directory_37 : decode cX8_directory 37 = .ok (.lcmp, 1) := by decide +kernel
theorem dX8_directory_38 : decode cX8_directory 38 = .ok (.ifCond .ge 171, 3) := by decide +kernel
theorem dX8_directory_41 : decode cX8_directory 41 = .ok (.aload_n 0, 1) := by decide +kernel
theorem dX8_directory_42 : decode cX8_directory 42 = .ok (.getfield 28, 3) := by decide +kernel
theorem dX8_directory_45 : decode cX8_directory 45 = .ok (.lload 5, 2) := by decide +kernel
theorem dX8_directory_47 : decode cX8_directory 47 = .ok (.invokevirtual 39, 3) := by decide +kernel
theorem dX8_directory_50 : decode cX8_directory 50 = .ok (.ifCond .ne 20, 3) := by decide +kernel
theorem dX8_directory_53 : decode cX8_directory 53 = .ok (.lload 5, 2) := by decide +kernel
theorem dX8_directory_55 : decode cX8_directory 55 = .ok (.ldc2_w 87, 3) := by decide +kernel
theorem dX8_directory_58 : decode cX8_directory 58 = .ok (.ldiv, 1) := by decide +kernel
theorem dX8_directory_59 : decode cX8_directory 59 = .ok (.lconst 1, 1) := by decide +kernel
theorem dX8_directory_60 : decode cX8_directory 60 = .ok (.ladd, 1) := by decide +kernel
theorem dX8_directory_61 : decode cX8_directory 61 = .ok (.ldc2_w 87, 3) := by decide +kernel
theorem dX8_directory_64 : decode cX8_directory 64 = .ok (.lmul, 1) := by decide +kernel
theorem dX8_directory_65 : decode cX8_directory 65 = .ok (.lstore 5, 2) := by decide +kernel
theorem dX8_directory_67 : decode cX8_directory 67 = .ok (.goto (-39), 3) := by decide +kernel
theorem dX8_directory_70 : decode cX8_directory 70 = .ok (.aload_n 0, 1) := by decide +kernel
theorem dX8_directory_71 : decode cX8_directory 71 = .ok (.lload 5, 2) := by decide +kernel
theorem dX8_directory_73 : decode cX8_directory 73 = .ok (.iload 7, 2) := by decide +kernel
theorem dX8_directory_75 : decode cX8_directory 75 = .ok (.iconst 2, 1) := by decide +kernel
theorem dX8_directory_76 : decode cX8_directory 76 = .ok (.if_icmp .ge 8, 3) := by decide +kernel
theorem dX8_directory_79 : decode cX8_directory 79 = .ok (.iload 7, 2) := by decide +kernel
theorem dX8_directory_81 : decode cX8_directory 81 = .ok (.goto 4, 3) := by decide +kernel
theorem dX8_directory_84 : decode cX8_directory 84 = .ok (.iconst (-1), 1) := by decide +kernel
theorem dX8_directory_85 : decode cX8_directory 85 = .ok (.invokevirtual 170, 3) := by decide +kernel
theorem dX8_directory_88 : decode cX8_directory 88 = .ok (.ifCond .ne 5, 3) := by decide +kernel
theorem dX8_directory_91 : decode cX8_directory 91 = .ok (.iconst 0, 1) := by decide +kernel
theorem dX8_directory_92 : decode cX8_directory 92 = .ok (.ireturn, 1) := by decide +kernel
theorem dX8_directory_93 : decode cX8_directory 93 = .ok (.iload 7, 2) := by decide +kernel
theorem dX8_directory_95 : decode cX8_directory 95 = .ok (.iconst 2, 1) := by decide +kernel
theorem dX8_directory_96 : decode cX8_directory 96 = .ok (.if_icmp .ge 44, 3) := by decide +kernel
theorem dX8_directory_99 : decode cX8_directory 99 = .ok (.aload_n 0, 1) := by decide +kernel
theorem dX8_directory_100 : decode cX8_directory 100 = .ok (.lload 5, 2) := by decide +kernel
theorem dX8_directory_102 : decode cX8_directory 102 = .ok (.iload 7, 2) := by decide +kernel
theorem dX8_directory_104 : decode cX8_directory 104 = .ok (.ifCond .eq 10, 3) := by decide +kernel
theorem dX8_directory_107 : decode cX8_directory 107 = .ok (.aload_n 2, 1) := by decide +kernel
theorem dX8_directory_108 : decode cX8_directory 108 = .ok (.getfield 122, 3) := by decide +kernel
theorem dX8_directory_111 : decode cX8_directory 111 = .ok (.ifCond .ge 7, 3) := by decide +kernel
theorem dX8_directory_114 : decode cX8_directory 114 = .ok (.aload_n 2, 1) := by decide +kernel
theorem dX8_directory_115 : decode cX8_directory 115 = .ok (.goto 17, 3) := by decide +kernel
theorem dX8_directory_118 : decode cX8_directory 118 = .ok (.aload_n 0, 1) := by decide +kernel
theorem dX8_directory_119 : decode cX8_directory 119 = .ok (.getfield 12, 3) := by decide +kernel
theorem dX8_directory_122 : decode cX8_directory 122 = .ok (.aload_n 2, 1) := by decide +kernel
theorem dX8_directory_123 : decode cX8_directory 123 = .ok (.getfield 122, 3) := by decide +kernel
theorem dX8_directory_126 : decode cX8_directory 126 = .ok (.invokevirtual 147, 3) := by decide +kernel
theorem dX8_directory_129 : decode cX8_directory 129 = .ok (.checkcast 18, 3) := by decide +kernel
theorem dX8_directory_132 : decode cX8_directory 132 = .ok (.invokevirtual 173, 3) := by decide +kernel
theorem dX8_directory_135 : decode cX8_directory 135 = .ok (.ifCond .ne 53, 3) := by decide +kernel
theorem dX8_directory_138 : decode cX8_directory 138 = .ok (.iconst 0, 1) := by decide +kernel
theorem dX8_directory_139 : decode cX8_directory 139 = .ok (.ireturn, 1) := by decide +kernel
theorem dX8_directory_140 : decode cX8_directory 140 = .ok (.iload 7, 2) := by decide +kernel
theorem dX8_directory_142 : decode cX8_directory 142 = .ok (.iconst 2, 1) := by decide +kernel
theorem dX8_directory_143 : decode cX8_directory 143 = .ok (.if_icmp .le 17, 3) := by decide +kernel
theorem dX8_directory_146 : decode cX8_directory 146 = .ok (.aload_n 0, 1) := by decide +kernel
theorem dX8_directory_147 : decode cX8_directory 147 = .ok (.invokevirtual 177, 3) := by decide +kernel
theorem dX8_directory_150 : decode cX8_directory 150 = .ok (.ifCond .ne 10, 3) := by decide +kernel
theorem dX8_directory_153 : decode cX8_directory 153 = .ok (.aload_n 0, 1) := by decide +kernel
theorem dX8_directory_154 : decode cX8_directory 154 = .ok (.lload 5, 2) := by decide +kernel
theorem dX8_directory_156 : decode cX8_directory 156 = .ok (.invokevirtual 89, 3) := by decide +kernel
theorem dX8_directory_159 : decode cX8_directory 159 = .ok (.ireturn, 1) := by decide +kernel
theorem dX8_directory_160 : decode cX8_directory 160 = .ok (.aload_n 0, 1) := by decide +kernel
theorem dX8_directory_161 : decode cX8_directory 161 = .ok (.aload_n 0, 1) := by decide +kernel
theorem dX8_directory_162 : decode cX8_directory 162 = .ok (.getfield 55, 3) := by decide +kernel
theorem dX8_directory_165 : decode cX8_directory 165 = .ok (.putfield 75, 3) := by decide +kernel
theorem dX8_directory_168 : decode cX8_directory 168 = .ok (.aload_n 0, 1) := by decide +kernel
theorem dX8_directory_169 : decode cX8_directory 169 = .ok (.aload_n 0, 1) := by decide +kernel
theorem dX8_directory_170 : decode cX8_directory 170 = .ok (.getfield 61, 3) := by decide +kernel
theorem dX8_directory_173 : decode cX8_directory 173 = .ok (.putfield 72, 3) := by decide +kernel
theorem dX8_directory_176 : decode cX8_directory 176 = .ok (.aload_n 0, 1) := by decide +kernel
theorem dX8_directory_177 : decode cX8_directory 177 = .ok (.lload 5, 2) := by decide +kernel
theorem dX8_directory_179 : decode cX8_directory 179 = .ok (.iload_n 1, 1) := by decide +kernel
theorem dX8_directory_180 : decode cX8_directory 180 = .ok (.invokevirtual 181, 3) := by decide +kernel
theorem dX8_directory_183 : decode cX8_directory 183 = .ok (.ifCond .ne 5, 3) := by decide +kernel
theorem dX8_directory_186 : decode cX8_directory 186 = .ok (.iconst 0, 1) := by decide +kernel
theorem dX8_directory_187 : decode cX8_directory 187 = .ok (.ireturn, 1) := by decide +kernel
theorem dX8_directory_188 : decode cX8_directory 188 = .ok (.iinc 7 1, 3) := by decide +kernel
theorem dX8_directory_191 : decode cX8_directory 191 = .ok (.lload 5, 2) := by decide +kernel
theorem dX8_directory_193 : decode cX8_directory 193 = .ok (.aload_n 0, 1) := by decide +kernel
theorem dX8_directory_194 : decode cX8_directory 194 = .ok (.getfield 28, 3) := by decide +kernel
theorem dX8_directory_197 : decode cX8_directory 197 = .ok (.lload 5, 2) := by decide +kernel
theorem dX8_directory_199 : decode cX8_directory 199 = .ok (.invokevirtual 39, 3) := by decide +kernel
theorem dX8_directory_202 : decode cX8_directory 202 = .ok (.i2l, 1) := by decide +kernel
theorem dX8_directory_203 : decode cX8_directory 203 = .ok (.ladd, 1) := by decide +kernel
theorem dX8_directory_204 : decode cX8_directory 204 = .ok (.lstore 5, 2) := by decide +kernel
theorem dX8_directory_206 : decode cX8_directory 206 = .ok (.goto (-178), 3) := by decide +kernel
theorem dX8_directory_209 : decode cX8_directory 209 = .ok (.iload 7, 2) := by decide +kernel
theorem dX8_directory_211 : decode cX8_directory 211 = .ok (.iconst 1, 1) := by decide +kernel
theorem dX8_directory_212 : decode cX8_directory 212 = .ok (.if_icmp .gt 11, 3) := by decide +kernel
theorem dX8_directory_215 : decode cX8_directory 215 = .ok (.aload_n 0, 1) := by decide +kernel
theorem dX8_directory_216 : decode cX8_directory 216 = .ok (.lload_n 3, 1) := by decide +kernel
theorem dX8_directory_217 : decode cX8_directory 217 = .ok (.invokevirtual 89, 3) := by decide +kernel
theorem dX8_directory_220 : decode cX8_directory 220 = .ok (.ifCond .eq 7, 3) := by decide +kernel
theorem dX8_directory_223 : decode cX8_directory 223 = .ok (.iconst 1, 1) := by decide +kernel
theorem dX8_directory_224 : decode cX8_directory 224 = .ok (.goto 4, 3) := by decide +kernel
theorem dX8_directory_227 : decode cX8_directory 227 = .ok (.iconst 0, 1) := by decide +kernel
theorem dX8_directory_228 : decode cX8_directory 228 = .ok (.ireturn, 1) := by decide +kernel
/-- WriteOnceDisc$Reader.directory(I)Z -/
def wX8_directory_L223 (post : Int32 → Hp → Prop) (σ : Hp) : Prop :=
post (1 : Int32) σ
def wX8_directory_L188 (post : Int32 → Hp → Prop) (rc28 : Int64 → Int32 → Hp → Prop) (x0 : Nat) (x1 : Int32) (x2 : Nat) (x3 : Int64) (x5 : Int64) (x7 : Int32) (σ : Hp) : Prop :=
(∀ y1 : Int32, y1 = x7 + 1 → (tg_ σ x0 = 8 ∧ (tg_ σ (fR_ σ 7 3 x0) = 7 ∧ (wX7_at (fR_ σ 7 3 x0) x5 σ (fun r4 => (∀ y5 : Int64, y5 = (x5 + (r4).toInt64) → rc28 y5 y1 σ))))))
def wX8_directory_L160 (post : Int32 → Hp → Prop) (rc28 : Int64 → Int32 → Hp → Prop) (x0 : Nat) (x1 : Int32) (x2 : Nat) (x3 : Int64) (x5 : Int64) (x7 : Int32) (σ : Hp) : Prop :=
(tg_ σ x0 = 8 ∧ (∀ σ7, σ7 = sL_ σ 7 5 x0 (fL_ σ 7 4 x0) → (∀ σ8, σ8 = sI_ σ7 7 7 x0 (fI_ σ7 7 6 x0) → (∃ mc9 ms10 : Nat, (mc9 ≤ bc_ σ8 ∧ (ms10 ≤ bs_ σ8 ∧ (wX8_node x0 x5 x1 (bu_ σ8 mc9 ms10) (fun r13 σ14 => (∀ σ15, σ15 = bu_ σ14 (bc_ σ8 - mc9) (bs_ σ8 - ms10) → ((¬ r13 = 0 →
  wX8_directory_L188 post rc28 x0 x1 x2 x3 x5 x7 σ15) ∧
 (r13 = 0 →
  post (0 : Int32) σ15)))))))))))
def wX8_directory_L132 (post : Int32 → Hp → Prop) (rc28 : Int64 → Int32 → Hp → Prop) (x0 : Nat) (x1 : Int32) (x2 : Nat) (x3 : Int64) (x5 : Int64) (x7 : Int32) (s0 : Nat) (s1 : Int64) (s2 : Nat) (σ : Hp) : Prop :=
(tg_ σ s2 = 8 ∧ (wX8_same s2 s1 s0 σ (fun r18 σ19 => (∀ σ20, σ20 = bu_ σ19 (bc_ σ) (bs_ σ) → ((¬ r18 = 0 →
  wX8_directory_L188 post rc28 x0 x1 x2 x3 x5 x7 σ20) ∧
 (r18 = 0 →
  post (0 : Int32) σ20))))))
def wX8_directory_L114 (post : Int32 → Hp → Prop) (rc28 : Int64 → Int32 → Hp → Prop) (x0 : Nat) (x1 : Int32) (x2 : Nat) (x3 : Int64) (x5 : Int64) (x7 : Int32) (s0 : Int64) (s1 : Nat) (σ : Hp) : Prop :=
wX8_directory_L132 post rc28 x0 x1 x2 x3 x5 x7 x2 s0 s1 σ
def wX8_directory_L85 (post : Int32 → Hp → Prop) (rc28 : Int64 → Int32 → Hp → Prop) (x0 : Nat) (x1 : Int32) (x2 : Nat) (x3 : Int64) (x5 : Int64) (x7 : Int32) (s0 : Int32) (s1 : Int64) (s2 : Nat) (σ : Hp) : Prop :=
(tg_ σ s2 = 8 ∧ (wX8_sound s2 s1 s0 σ (fun r23 σ24 => (∀ σ25, σ25 = bu_ σ24 (bc_ σ) (bs_ σ) → ((¬ r23 = 0 →
  (((2 : Int32) ≤ x7 →
   ((x7 ≤ (2 : Int32) →
    wX8_directory_L160 post rc28 x0 x1 x2 x3 x5 x7 σ25) ∧
   (¬ x7 ≤ (2 : Int32) →
    (tg_ σ25 x0 = 8 ∧ (wX8_rises x0  σ25 (fun r30 => ((¬ r30 = 0 →
     wX8_directory_L160 post rc28 x0 x1 x2 x3 x5 x7 σ25) ∧
    (r30 = 0 →
     (wX8_bad x0 x5 σ25 (fun r32 σ33 => (∀ σ34, σ34 = bu_ σ33 (bc_ σ25) (bs_ σ25) → (nr_ .boolean r32 ∧ post r32 σ34)))))))))))) ∧
  (¬ (2 : Int32) ≤ x7 →
   ((x7 = 0 →
    wX8_directory_L114 post rc28 x0 x1 x2 x3 x5 x7 x5 x0 σ25) ∧
   (¬ x7 = 0 →
    (tg_ σ25 x2 = 10 ∧ ((0 ≤ (fI_ σ25 9 0 x2) →
     (tg_ σ25 x0 = 8 ∧ (tg_ σ25 (fR_ σ25 7 0 x0) = 11 ∧ (wJ2_get (fR_ σ25 7 0 x0) (fI_ σ25 9 0 x2) σ25 (fun r41 => ((r41 = 0 ∨ tg_ σ25 r41 = 10) ∧ wX8_directory_L132 post rc28 x0 x1 x2 x3 x5 x7 r41 x5 x0 σ25)))))) ∧
    (¬ 0 ≤ (fI_ σ25 9 0 x2) →
     wX8_directory_L114 post rc28 x0 x1 x2 x3 x5 x7 x5 x0 σ25)))))))) ∧
 (r23 = 0 →
  post (0 : Int32) σ25))))))
def wX8_directory_B28 (post : Int32 → Hp → Prop) (rc28 : Int64 → Int32 → Hp → Prop) (x0 : Nat) (x1 : Int32) (x2 : Nat) (x3 : Int64) (x5 : Int64) (x7 : Int32) (σ : Hp) : Prop :=
(tg_ σ x2 = 10 ∧ ((0 ≤ (lg_cmp x5 (x3 + ((fI_ σ 9 3 x2)).toInt64)) →
  (((1 : Int32) < x7 →
   wX8_directory_L223 post σ) ∧
  (¬ (1 : Int32) < x7 →
   (tg_ σ x0 = 8 ∧ (wX8_bad x0 x3 σ (fun r47 σ48 => (∀ σ49, σ49 = bu_ σ48 (bc_ σ) (bs_ σ) → ((r47 = 0 →
    post (0 : Int32) σ49) ∧
   (¬ r47 = 0 →
    wX8_directory_L223 post σ49))))))))) ∧
 (¬ 0 ≤ (lg_cmp x5 (x3 + ((fI_ σ 9 3 x2)).toInt64)) →
  (tg_ σ x0 = 8 ∧ (tg_ σ (fR_ σ 7 3 x0) = 7 ∧ (wX7_at (fR_ σ 7 3 x0) x5 σ (fun r53 => ((¬ r53 = 0 →
   (((2 : Int32) ≤ x7 →
    wX8_directory_L85 post rc28 x0 x1 x2 x3 x5 x7 (-1 : Int32) x5 x0 σ) ∧
   (¬ (2 : Int32) ≤ x7 →
    wX8_directory_L85 post rc28 x0 x1 x2 x3 x5 x7 x7 x5 x0 σ))) ∧
  (r53 = 0 →
   (∀ y56 : Int64, y56 = (((x5 / (2048 : Int64)) + (1 : Int64)) * (2048 : Int64)) → rc28 y56 x7 σ))))))))))
def wX8_directory_L28 (post : Int32 → Hp → Prop) (x0 : Nat) (x1 : Int32) (x2 : Nat) (x3 : Int64) (x5 : Int64) (x7 : Int32) (σ : Hp) : Prop :=
 ∃ (I : Int64 → Int32 → Hp → Prop) (μ : Int64 → Int32 → Hp → Nat), I x5 x7 σ ∧ ∀ (x5 : Int64) (x7 : Int32) (σ : Hp), I x5 x7 σ → wX8_directory_B28 post (fun x5' x7' σ' => I x5' x7' σ' ∧ μ x5' x7' σ' < μ x5 x7 σ) x0 x1 x2 x3 x5 x7 σ
def wX8_directory (x0 : Nat) (x1 : Int32) (σ : Hp) (post : Int32 → Hp → Prop) : Prop :=
(tg_ σ x0 = 8 ∧ (tg_ σ (fR_ σ 7 0 x0) = 11 ∧ (wJ2_get (fR_ σ 7 0 x0) x1 σ (fun r59 => ((r59 = 0 ∨ tg_ σ r59 = 10) ∧ (tg_ σ r59 = 10 ∧ (∀ y62 : Int64, y62 = (((fI_ σ 9 2 r59)).toInt64 * (2048 : Int64)) → wX8_directory_L28 post x0 x1 r59 y62 y62 (0 : Int32) σ)))))))
set_option maxHeartbeats 4000000 in
theorem sX8_directory_L223 {G : GG_} {p : Program} {l : Launch} {e : Env} {R : Room} {s : State} {m : MethodId} {args : Array Value} {below : List Frame} {meth : Method} {c : Code} {mc ms : Nat} (Y : MX_ G p R s m args meth c cX8_directory 8 RX8 (some Jvm.ClassFile.FieldType.boolean) 8 203 mc ms "directory") {post : Int32 → Hp → Prop} {σ : Hp} (hf : wX8_directory_L223 post σ) : WG_ G p l e R s m args below meth c (MQ below (QI_ G post) args s mc ms (FR_ G)) (BU_ R) 8 223 [] [] σ := by
  have ⟨X, hlk, hr, hRf, hRl, hRc, hnm⟩ := Y
  have ⟨⟨hx, hb, _, hown, hts⟩, _, _⟩ := X
  intro H locs cells slots ls hP hL hB hl
  unfold wX8_directory_L223 at hf
  refine lv_iconst (v := 1) hx hb dX8_directory_223 (by decide) ?_
  refine lv_goto (tgt := 228) hx hb dX8_directory_224 (by decide) ?_
  exact p_zret X hlk hP hL (BU_le hB hRc).1 (BU_le hB hRc).2 hr nr_1 dX8_directory_228 hf
set_option maxHeartbeats 4000000 in
theorem sX8_directory_L188 {G : GG_} {p : Program} {l : Launch} {e : Env} {R : Room} {s : State} {m : MethodId} {args : Array Value} {below : List Frame} {meth : Method} {c : Code} {mc ms : Nat} (Y : MX_ G p R s m args meth c cX8_directory 8 RX8 (some Jvm.ClassFile.FieldType.boolean) 8 203 mc ms "directory") {post : Int32 → Hp → Prop} {rc28 : Int64 → Int32 → Hp → Prop} {x0 : Nat} {x1 : Int32} {x2 : Nat} {x3 : Int64} {x5 : Int64} {x7 : Int32} {σ : Hp} (hrc28 : ∀ (x5 : Int64) (x7 : Int32) (σ : Hp), rc28 x5 x7 σ → WG_ G p l e R s m args below meth c (MQ below (QI_ G post) args s mc ms (FR_ G)) (BU_ R) 8 28 [(0, rv_ x0), (1, .int x1), (2, rv_ x2), (3, .long x3), (5, .long x5), (7, .int x7)] [] σ) (hf : wX8_directory_L188 post rc28 x0 x1 x2 x3 x5 x7 σ) : WG_ G p l e R s m args below meth c (MQ below (QI_ G post) args s mc ms (FR_ G)) (BU_ R) 8 188 [(0, rv_ x0), (1, .int x1), (2, rv_ x2), (3, .long x3), (5, .long x5), (7, .int x7)] [] σ := by
  have ⟨X, hlk, hr, hRf, hRl, hRc, hnm⟩ := Y
  have ⟨⟨hx, hb, _, hown, hts⟩, _, _⟩ := X
  intro H locs cells slots ls hP hL hB hl
  unfold wX8_directory_L188 at hf
  have hl := lv_sub hl [5, 0, 1, 2, 3, 4] rfl
  refine p_iincc (i := 7) (k := 1) hx hb (by decide) dX8_directory_188 hl (by decide) ⟨⟨ne_ rfl, Or.inl (ne_ rfl)⟩, ⟨⟨ne_ rfl, Or.inl (ne_ rfl)⟩, ⟨⟨ne_ rfl, Or.inl (ne_ rfl)⟩, ⟨⟨ne_ rfl, Or.inl (ne_ rfl)⟩, ⟨⟨ne_ rfl, Or.inl (ne_ rfl)⟩, trivial⟩⟩⟩⟩⟩ (fun y1 hy1 ls hl => ?_)
  have hf := hf y1 hy1
  refine lv_lload hx hb dX8_directory_191 (lv_at hl 5 rfl) ?_
  refine p_aload_n hx hb dX8_directory_193 rfl (lv_at hl 1 rfl) ?_
  obtain ⟨ht2, hf⟩ := hf
  refine p_gR X cf7_ (k := 3) (by decide) rfl hP ht2 q594 (fun _ h => h) dX8_directory_194 ?_
  refine lv_lload hx hb dX8_directory_197 (lv_at hl 5 rfl) ?_
  obtain ⟨ht3, hf⟩ := hf
  refine p_calli hL (p_runV X cf6_ hP ht3 (metX7_at l G _ _ _ _ X.2.2 hf) (cwV 1 hts (lw_V q1004 q967 q968 q104 q969) rfl rfl rfl (by decide +kernel) ⟨Nat.le_trans (Nat.le_of_ble_eq_true rfl) hRf, Nat.le_trans (Nat.le_of_ble_eq_true rfl) hRl⟩) rfl hl.1 rfl (by rw [(ca_l ca_n)]; decide) dX8_directory_199 (BU_call hB (Nat.zero_le _) (Nat.zero_le _))) (fun r4 σ₁ H locs hf hP hL => ?_)
  obtain ⟨e₁, hf⟩ := hf
  rw [e₁] at hP
  refine lv_i2l hx hb dX8_directory_202 rfl ?_
  refine lv_ladd hx hb dX8_directory_203 ?_
  have hl := lv_sub hl [0, 1, 2, 3, 4] rfl
  refine lv_topl (fun y5 hy5 => ?_)
  have hf := hf y5 hy5
  refine p_lstore (i := 5) hx hb dX8_directory_204 hl (by decide) ⟨⟨ne_ rfl, ne_ rfl, Or.inl (ne_ rfl)⟩, ⟨⟨ne_ rfl, ne_ rfl, Or.inl (ne_ rfl)⟩, ⟨⟨ne_ rfl, ne_ rfl, Or.inl (ne_ rfl)⟩, ⟨⟨ne_ rfl, ne_ rfl, Or.inl (ne_ rfl)⟩, ⟨⟨ne_ rfl, ne_ rfl, Or.inl (ne_ rfl)⟩, trivial⟩⟩⟩⟩⟩ (fun ls hl => ?_)
  refine lv_goto (tgt := 28) hx hb dX8_directory_206 (by decide) ?_
  exact hrc28 _ _ _ hf _ _ _ _ _ hP hL hB (lv_sub hl [2, 3, 4, 5, 0, 1] rfl)
set_option maxHeartbeats 4000000 in
theorem sX8_directory_L160 {G : GG_} {p : Program} {l : Launch} {e : Env} {R : Room} {s : State} {m : MethodId} {args : Array Value} {below : List Frame} {meth : Method} {c : Code} {mc ms : Nat} (Y : MX_ G p R s m args meth c cX8_directory 8 RX8 (some Jvm.ClassFile.FieldType.boolean) 8 203 mc ms "directory") {post : Int32 → Hp → Prop} {rc28 : Int64 → Int32 → Hp → Prop} {x0 : Nat} {x1 : Int32} {x2 : Nat} {x3 : Int64} {x5 : Int64} {x7 : Int32} {σ : Hp} (hrc28 : ∀ (x5 : Int64) (x7 : Int32) (σ : Hp), rc28 x5 x7 σ → WG_ G p l e R s m args below meth c (MQ below (QI_ G post) args s mc ms (FR_ G)) (BU_ R) 8 28 [(0, rv_ x0), (1, .int x1), (2, rv_ x2), (3, .long x3), (5, .long x5), (7, .int x7)] [] σ) (hf : wX8_directory_L160 post rc28 x0 x1 x2 x3 x5 x7 σ) : WG_ G p l e R s m args below meth c (MQ below (QI_ G post) args s mc ms (FR_ G)) (BU_ R) 8 160 [(0, rv_ x0), (1, .int x1), (2, rv_ x2), (3, .long x3), (5, .long x5), (7, .int x7)] [] σ := by
  have ⟨X, hlk, hr, hRf, hRl, hRc, hnm⟩ := Y
  have ⟨⟨hx, hb, _, hown, hts⟩, _, _⟩ := X
  intro H locs cells slots ls hP hL hB hl
  unfold wX8_directory_L160 at hf
  refine p_aload_n hx hb dX8_directory_160 rfl (lv_at hl 0 rfl) ?_
  refine p_aload_n hx hb dX8_directory_161 rfl (lv_at hl 0 rfl) ?_
  obtain ⟨ht6, hf⟩ := hf
  refine p_gL X cf7_ (k := 4) (by decide) rfl hP ht6 q595 (fun _ h => h) dX8_directory_162 ?_
  refine p_pL X cf7_ (k := 5) (by decide) rfl hP hL ht6 (p_ow hP ht6 rfl) q596 (fun _ h => h) (Or.inl rfl) rfl rfl dX8_directory_165 (fun H locs hP hL => ?_)
  refine p_nmPB hP hB (fun σ7 hσ7 hP hB => ?_)
  have hf := hf σ7 hσ7
  have ht6 : tg_ σ7 x0 = 8 := by rw [hσ7]; exact ht6
  refine p_aload_n hx hb dX8_directory_168 rfl (lv_at hl 0 rfl) ?_
  refine p_aload_n hx hb dX8_directory_169 rfl (lv_at hl 0 rfl) ?_
  refine p_gI X cf7_ (k := 6) (by decide) rfl hP ht6 q597 (fun _ h => h) dX8_directory_170 ?_
  refine p_pI X cf7_ (k := 7) (by decide) rfl hP hL ht6 (p_ow hP ht6 rfl) q598 (fun _ h => h) (Or.inl rfl) rfl rfl dX8_directory_173 (fun H locs hP hL => ?_)
  refine p_nmPB hP hB (fun σ8 hσ8 hP hB => ?_)
  have hf := hf σ8 hσ8
  have ht6 : tg_ σ8 x0 = 8 := by rw [hσ8]; exact ht6
  refine p_aload_n hx hb dX8_directory_176 rfl (lv_at hl 0 rfl) ?_
  refine lv_lload hx hb dX8_directory_177 (lv_at hl 4 rfl) ?_
  refine lv_iload_n hx hb dX8_directory_179 rfl (lv_at hl 1 rfl) ?_
  obtain ⟨mc9, ms10, hf⟩ := hf
  obtain ⟨hb11, hf⟩ := hf
  obtain ⟨hb12, hf⟩ := hf
  refine p_calli hL (p_runV X cf7_ (Pic_bu hP mc9 ms10) ht6 (metX8_node l G _ _ _ _ _ _ _ X.2.2 hf) (cwV 2 hts (lw_V q1103 q1105 qs33 q105 q1106) rfl rfl rfl (by decide +kernel) ⟨Nat.le_trans (Nat.le_of_ble_eq_true rfl) hRf, Nat.le_trans (Nat.le_of_ble_eq_true rfl) hRl⟩) rfl hl.1 rfl (by decide) dX8_directory_180 (BU_call hB hb11 hb12)) (fun r13 σ14 H locs hf hP hL => ?_)
  have hB := BU_back (τ := σ14) hB hb11 hb12
  have hP := Pic_bu hP (bc_ σ8 - mc9) (bs_ σ8 - ms10)
  refine p_nmPB hP hB (fun σ15 hσ15 hP hB => ?_)
  have hf := hf σ15 hσ15
  refine lv_if_ne (tgt := 188) hx hb dX8_directory_183 (by decide) (fun c16 => ?_) (fun c16 => ?_)
  · have hf := hf.1 c16
    exact sX8_directory_L188 Y hrc28 hf _ _ _ _ _ hP hL hB (lv_sub hl [0, 1, 2, 3, 4, 5] rfl)
  · have hf := hf.2 c16
    refine lv_iconst (v := 0) hx hb dX8_directory_186 (by decide) ?_
    exact p_zret X hlk hP hL (BU_le hB hRc).1 (BU_le hB hRc).2 hr nr_0 dX8_directory_187 hf
set_option maxHeartbeats 4000000 in
theorem sX8_directory_L132 {G : GG_} {p : Program} {l : Launch} {e : Env} {R : Room} {s : State} {m : MethodId} {args : Array Value} {below : List Frame} {meth : Method} {c : Code} {mc ms : Nat} (Y : MX_ G p R s m args meth c cX8_directory 8 RX8 (some Jvm.ClassFile.FieldType.boolean) 8 203 mc ms "directory") {post : Int32 → Hp → Prop} {rc28 : Int64 → Int32 → Hp → Prop} {x0 : Nat} {x1 : Int32} {x2 : Nat} {x3 : Int64} {x5 : Int64} {x7 : Int32} {s0 : Nat} {s1 : Int64} {s2 : Nat} {σ : Hp} (hrc28 : ∀ (x5 : Int64) (x7 : Int32) (σ : Hp), rc28 x5 x7 σ → WG_ G p l e R s m args below meth c (MQ below (QI_ G post) args s mc ms (FR_ G)) (BU_ R) 8 28 [(0, rv_ x0), (1, .int x1), (2, rv_ x2), (3, .long x3), (5, .long x5), (7, .int x7)] [] σ) (hf : wX8_directory_L132 post rc28 x0 x1 x2 x3 x5 x7 s0 s1 s2 σ) : WG_ G p l e R s m args below meth c (MQ below (QI_ G post) args s mc ms (FR_ G)) (BU_ R) 8 132 [(0, rv_ x0), (1, .int x1), (2, rv_ x2), (3, .long x3), (5, .long x5), (7, .int x7)] [rv_ s0, .long s1, rv_ s2] σ := by
  have ⟨X, hlk, hr, hRf, hRl, hRc, hnm⟩ := Y
  have ⟨⟨hx, hb, _, hown, hts⟩, _, _⟩ := X
  intro H locs cells slots ls hP hL hB hl
  unfold wX8_directory_L132 at hf
  obtain ⟨ht17, hf⟩ := hf
  refine p_calli hL (p_runV X cf7_ hP ht17 (metX8_same l G _ _ _ _ _ X.2.2 hf) (cwV 2 hts (lw_V q1095 q1097 qs31 q105 q1098) rfl rfl rfl (by decide +kernel) ⟨Nat.le_trans (Nat.le_of_ble_eq_true rfl) hRf, Nat.le_trans (Nat.le_of_ble_eq_true rfl) hRl⟩) rfl hl.1 rfl (by decide) dX8_directory_132 (BU_call hB (Nat.zero_le _) (Nat.zero_le _))) (fun r18 σ19 H locs hf hP hL => ?_)
  have hB := BU_keep (τ := σ19) hB
  have hP := Pic_bu hP (bc_ σ) (bs_ σ)
  refine p_nmPB hP hB (fun σ20 hσ20 hP hB => ?_)
  have hf := hf σ20 hσ20
  refine lv_if_ne (tgt := 188) hx hb dX8_directory_135 (by decide) (fun c21 => ?_) (fun c21 => ?_)
  · have hf := hf.1 c21
    exact sX8_directory_L188 Y hrc28 hf _ _ _ _ _ hP hL hB (lv_sub hl [0, 1, 2, 3, 4, 5] rfl)
  · have hf := hf.2 c21
    refine lv_iconst (v := 0) hx hb dX8_directory_138 (by decide) ?_
    exact p_zret X hlk hP hL (BU_le hB hRc).1 (BU_le hB hRc).2 hr nr_0 dX8_directory_139 hf
set_option maxHeartbeats 4000000 in
theorem sX8_directory_L114 {G : GG_} {p : Program} {l : Launch} {e : Env} {R : Room} {s : State} {m : MethodId} {args : Array Value} {below : List Frame} {meth : Method} {c : Code} {mc ms : Nat} (Y : MX_ G p R s m args meth c cX8_directory 8 RX8 (some Jvm.ClassFile.FieldType.boolean) 8 203 mc ms "directory") {post : Int32 → Hp → Prop} {rc28 : Int64 → Int32 → Hp → Prop} {x0 : Nat} {x1 : Int32} {x2 : Nat} {x3 : Int64} {x5 : Int64} {x7 : Int32} {s0 : Int64} {s1 : Nat} {σ : Hp} (hrc28 : ∀ (x5 : Int64) (x7 : Int32) (σ : Hp), rc28 x5 x7 σ → WG_ G p l e R s m args below meth c (MQ below (QI_ G post) args s mc ms (FR_ G)) (BU_ R) 8 28 [(0, rv_ x0), (1, .int x1), (2, rv_ x2), (3, .long x3), (5, .long x5), (7, .int x7)] [] σ) (hf : wX8_directory_L114 post rc28 x0 x1 x2 x3 x5 x7 s0 s1 σ) : WG_ G p l e R s m args below meth c (MQ below (QI_ G post) args s mc ms (FR_ G)) (BU_ R) 8 114 [(0, rv_ x0), (1, .int x1), (2, rv_ x2), (3, .long x3), (5, .long x5), (7, .int x7)] [.long s0, rv_ s1] σ := by
  have ⟨X, hlk, hr, hRf, hRl, hRc, hnm⟩ := Y
  have ⟨⟨hx, hb, _, hown, hts⟩, _, _⟩ := X
  intro H locs cells slots ls hP hL hB hl
  unfold wX8_directory_L114 at hf
  refine p_aload_n hx hb dX8_directory_114 rfl (lv_at hl 2 rfl) ?_
  refine lv_goto (tgt := 132) hx hb dX8_directory_115 (by decide) ?_
  exact sX8_directory_L132 Y hrc28 hf _ _ _ _ _ hP hL hB (lv_sub hl [0, 1, 2, 3, 4, 5] rfl)
set_option maxHeartbeats 4000000 in
theorem sX8_directory_L85 {G : GG_} {p : Program} {l : Launch} {e : Env} {R : Room} {s : State} {m : MethodId} {args : Array Value} {below : List Frame} {meth : Method} {c : Code} {mc ms : Nat} (Y : MX_ G p R s m args meth c cX8_directory 8 RX8 (some Jvm.ClassFile.FieldType.boolean) 8 203 mc ms "directory") {post : Int32 → Hp → Prop} {rc28 : Int64 → Int32 → Hp → Prop} {x0 : Nat} {x1 : Int32} {x2 : Nat} {x3 : Int64} {x5 : Int64} {x7 : Int32} {s0 : Int32} {s1 : Int64} {s2 : Nat} {σ : Hp} (hrc28 : ∀ (x5 : Int64) (x7 : Int32) (σ : Hp), rc28 x5 x7 σ → WG_ G p l e R s m args below meth c (MQ below (QI_ G post) args s mc ms (FR_ G)) (BU_ R) 8 28 [(0, rv_ x0), (1, .int x1), (2, rv_ x2), (3, .long x3), (5, .long x5), (7, .int x7)] [] σ) (hf : wX8_directory_L85 post rc28 x0 x1 x2 x3 x5 x7 s0 s1 s2 σ) : WG_ G p l e R s m args below meth c (MQ below (QI_ G post) args s mc ms (FR_ G)) (BU_ R) 8 85 [(0, rv_ x0), (1, .int x1), (2, rv_ x2), (3, .long x3), (5, .long x5), (7, .int x7)] [.int s0, .long s1, rv_ s2] σ := by
  have ⟨X, hlk, hr, hRf, hRl, hRc, hnm⟩ := Y
  have ⟨⟨hx, hb, _, hown, hts⟩, _, _⟩ := X
  intro H locs cells slots ls hP hL hB hl
  unfold wX8_directory_L85 at hf
  obtain ⟨ht22, hf⟩ := hf
  refine p_calli hL (p_runV X cf7_ hP ht22 (metX8_sound l G _ _ _ _ _ X.2.2 hf) (cwV 2 hts (lw_V q1021 q1023 qs23 q105 q1024) rfl rfl rfl (by decide +kernel) ⟨Nat.le_trans (Nat.le_of_ble_eq_true rfl) hRf, Nat.le_trans (Nat.le_of_ble_eq_true rfl) hRl⟩) rfl hl.1 rfl (by decide) dX8_directory_85 (BU_call hB (Nat.zero_le _) (Nat.zero_le _))) (fun r23 σ24 H locs hf hP hL => ?_)
  have hB := BU_keep (τ := σ24) hB
  have hP := Pic_bu hP (bc_ σ) (bs_ σ)
  refine p_nmPB hP hB (fun σ25 hσ25 hP hB => ?_)
  have hf := hf σ25 hσ25
  refine lv_if_ne (tgt := 93) hx hb dX8_directory_88 (by decide) (fun c26 => ?_) (fun c26 => ?_)
  · have hf := hf.1 c26
    refine lv_iload hx hb dX8_directory_93 (lv_at hl 5 rfl) ?_
    refine lv_iconst (v := 2) hx hb dX8_directory_95 (by decide) ?_
    refine lv_icmp_ge (tgt := 140) hx hb dX8_directory_96 (by decide) (fun c27 => ?_) (fun c27 => ?_)
    · have hf := hf.1 c27
      refine lv_iload hx hb dX8_directory_140 (lv_at hl 5 rfl) ?_
      refine lv_iconst (v := 2) hx hb dX8_directory_142 (by decide) ?_
      refine lv_icmp_le (tgt := 160) hx hb dX8_directory_143 (by decide) (fun c28 => ?_) (fun c28 => ?_)
      · have hf := hf.1 c28
        exact sX8_directory_L160 Y hrc28 hf _ _ _ _ _ hP hL hB (lv_sub hl [0, 1, 2, 3, 4, 5] rfl)
      · have hf := hf.2 c28
        refine p_aload_n hx hb dX8_directory_146 rfl (lv_at hl 0 rfl) ?_
        obtain ⟨ht29, hf⟩ := hf
        refine p_calli hL (p_runV X cf7_ hP ht29 (metX8_rises l G _ _ _ X.2.2 hf) (cwV 0 hts (lw_V q1099 q1101 qs32 q105 q1102) rfl rfl rfl (by decide +kernel) ⟨Nat.le_trans (Nat.le_of_ble_eq_true rfl) hRf, Nat.le_trans (Nat.le_of_ble_eq_true rfl) hRl⟩) rfl hl.1 rfl (by decide) dX8_directory_147 (BU_call hB (Nat.zero_le _) (Nat.zero_le _))) (fun r30 σ₁ H locs hf hP hL => ?_)
        obtain ⟨e₁, hf⟩ := hf
        rw [e₁] at hP
        refine lv_if_ne (tgt := 160) hx hb dX8_directory_150 (by decide) (fun c31 => ?_) (fun c31 => ?_)
        · have hf := hf.1 c31
          exact sX8_directory_L160 Y hrc28 hf _ _ _ _ _ hP hL hB (lv_sub hl [0, 1, 2, 3, 4, 5] rfl)
        · have hf := hf.2 c31
          refine p_aload_n hx hb dX8_directory_153 rfl (lv_at hl 0 rfl) ?_
          refine lv_lload hx hb dX8_directory_154 (lv_at hl 4 rfl) ?_
          refine p_calli hL (p_runV X cf7_ hP ht29 (metX8_bad l G _ _ _ _ X.2.2 hf) (cwV 1 hts (lw_V q996 q998 qs21 q105 q999) rfl rfl rfl (by decide +kernel) ⟨Nat.le_trans (Nat.le_of_ble_eq_true rfl) hRf, Nat.le_trans (Nat.le_of_ble_eq_true rfl) hRl⟩) rfl hl.1 rfl (by decide) dX8_directory_156 (BU_call hB (Nat.zero_le _) (Nat.zero_le _))) (fun r32 σ33 H locs hf hP hL => ?_)
          have hB := BU_keep (τ := σ33) hB
          have hP := Pic_bu hP (bc_ σ25) (bs_ σ25)
          refine p_nmPB hP hB (fun σ34 hσ34 hP hB => ?_)
          have hf := hf σ34 hσ34
          obtain ⟨hn35, hf⟩ := hf
          exact p_zret X hlk hP hL (BU_le hB hRc).1 (BU_le hB hRc).2 hr hn35 dX8_directory_159 hf
    · have hf := hf.2 c27
      refine p_aload_n hx hb dX8_directory_99 rfl (lv_at hl 0 rfl) ?_
      refine lv_lload hx hb dX8_directory_100 (lv_at hl 4 rfl) ?_
      refine lv_iload hx hb dX8_directory_102 (lv_at hl 5 rfl) ?_
      refine lv_if_eq (tgt := 114) hx hb dX8_directory_104 (by decide) (fun c36 => ?_) (fun c36 => ?_)
      · have hf := hf.1 c36
        exact sX8_directory_L114 Y hrc28 hf _ _ _ _ _ hP hL hB (lv_sub hl [0, 1, 2, 3, 4, 5] rfl)
      · have hf := hf.2 c36
        refine p_aload_n hx hb dX8_directory_107 rfl (lv_at hl 2 rfl) ?_
        obtain ⟨ht37, hf⟩ := hf
        refine p_gI X cf9_ (k := 0) (by decide) rfl hP ht37 q1059 (fun _ h => h) dX8_directory_108 ?_
        refine lv_if_ge (tgt := 118) hx hb dX8_directory_111 (by decide) (fun c38 => ?_) (fun c38 => ?_)
        · have hf := hf.1 c38
          refine p_aload_n hx hb dX8_directory_118 rfl (lv_at hl 0 rfl) ?_
          obtain ⟨ht39, hf⟩ := hf
          refine p_gR X cf7_ (k := 0) (by decide) rfl hP ht39 q590 (fun _ h => h) dX8_directory_119 ?_
          refine p_aload_n hx hb dX8_directory_122 rfl (lv_at hl 2 rfl) ?_
          refine p_gI X cf9_ (k := 0) (by decide) rfl hP ht37 q1059 (fun _ h => h) dX8_directory_123 ?_
          obtain ⟨ht40, hf⟩ := hf
          refine p_callr hL (p_runV X cf10_ hP ht40 (metJ2_get l G _ _ _ _ X.2.2 hf) (cwV 1 hts (lw_V q1090 q724 q725 q90 q726) rfl rfl rfl (by decide +kernel) ⟨Nat.le_trans (Nat.le_of_ble_eq_true rfl) hRf, Nat.le_trans (Nat.le_of_ble_eq_true rfl) hRl⟩) rfl hl.1 rfl (by rw [(ca_l (ca_r ca_n))]; decide) dX8_directory_126 (BU_call hB (Nat.zero_le _) (Nat.zero_le _))) (fun r41 σ₁ H locs hf hP hL => ?_)
          obtain ⟨e₁, hf⟩ := hf
          rw [e₁] at hP
          obtain ⟨hc42, hf⟩ := hf
          refine p_cast X cf9_ hP hc42 q588 dX8_directory_129 ?_
          exact sX8_directory_L132 Y hrc28 hf _ _ _ _ _ hP hL hB (lv_sub hl [0, 1, 2, 3, 4, 5] rfl)
        · have hf := hf.2 c38
          exact sX8_directory_L114 Y hrc28 hf _ _ _ _ _ hP hL hB (lv_sub hl [0, 1, 2, 3, 4, 5] rfl)
  · have hf := hf.2 c26
    refine lv_iconst (v := 0) hx hb dX8_directory_91 (by decide) ?_
    exact p_zret X hlk hP hL (BU_le hB hRc).1 (BU_le hB hRc).2 hr nr_0 dX8_directory_92 hf
set_option maxHeartbeats 4000000 in
theorem sX8_directory_B28 {G : GG_} {p : Program} {l : Launch} {e : Env} {R : Room} {s : State} {m : MethodId} {args : Array Value} {below : List Frame} {meth : Method} {c : Code} {mc ms : Nat} (Y : MX_ G p R s m args meth c cX8_directory 8 RX8 (some Jvm.ClassFile.FieldType.boolean) 8 203 mc ms "directory") {post : Int32 → Hp → Prop} {rc28 : Int64 → Int32 → Hp → Prop} {x0 : Nat} {x1 : Int32} {x2 : Nat} {x3 : Int64} {x5 : Int64} {x7 : Int32} {σ : Hp} (hrc28 : ∀ (x5 : Int64) (x7 : Int32) (σ : Hp), rc28 x5 x7 σ → WG_ G p l e R s m args below meth c (MQ below (QI_ G post) args s mc ms (FR_ G)) (BU_ R) 8 28 [(0, rv_ x0), (1, .int x1), (2, rv_ x2), (3, .long x3), (5, .long x5), (7, .int x7)] [] σ) (hf : wX8_directory_B28 post rc28 x0 x1 x2 x3 x5 x7 σ) : WG_ G p l e R s m args below meth c (MQ below (QI_ G post) args s mc ms (FR_ G)) (BU_ R) 8 28 [(0, rv_ x0), (1, .int x1), (2, rv_ x2), (3, .long x3), (5, .long x5), (7, .int x7)] [] σ := by
  have ⟨X, hlk, hr, hRf, hRl, hRc, hnm⟩ := Y
  have ⟨⟨hx, hb, _, hown, hts⟩, _, _⟩ := X
  intro H locs cells slots ls hP hL hB hl
  unfold wX8_directory_B28 at hf
  refine lv_lload hx hb dX8_directory_28 (lv_at hl 4 rfl) ?_
  refine lv_lload_n hx hb dX8_directory_30 rfl (lv_at hl 3 rfl) ?_
  refine p_aload_n hx hb dX8_directory_31 rfl (lv_at hl 2 rfl) ?_
  obtain ⟨ht43, hf⟩ := hf
  refine p_gI X cf9_ (k := 3) (by decide) rfl hP ht43 q1065 (fun _ h => h) dX8_directory_32 ?_
  refine lv_i2l hx hb dX8_directory_35 rfl ?_
  refine lv_ladd hx hb dX8_directory_36 ?_
  refine W.lcmp hx hb dX8_directory_37 ?_
  refine lv_if_ge (tgt := 209) hx hb dX8_directory_38 (by decide) (fun c44 => ?_) (fun c44 => ?_)
  · have hf := hf.1 c44
    refine lv_iload hx hb dX8_directory_209 (lv_at hl 5 rfl) ?_
    refine lv_iconst (v := 1) hx hb dX8_directory_211 (by decide) ?_
    refine lv_icmp_gt (tgt := 223) hx hb dX8_directory_212 (by decide) (fun c45 => ?_) (fun c45 => ?_)
    · have hf := hf.1 c45
      exact sX8_directory_L223 Y hf _ _ _ _ _ hP hL hB (lv_sub hl [] rfl)
    · have hf := hf.2 c45
      refine p_aload_n hx hb dX8_directory_215 rfl (lv_at hl 0 rfl) ?_
      refine lv_lload_n hx hb dX8_directory_216 rfl (lv_at hl 3 rfl) ?_
      obtain ⟨ht46, hf⟩ := hf
      refine p_calli hL (p_runV X cf7_ hP ht46 (metX8_bad l G _ _ _ _ X.2.2 hf) (cwV 1 hts (lw_V q996 q998 qs21 q105 q999) rfl rfl rfl (by decide +kernel) ⟨Nat.le_trans (Nat.le_of_ble_eq_true rfl) hRf, Nat.le_trans (Nat.le_of_ble_eq_true rfl) hRl⟩) rfl hl.1 rfl (by decide) dX8_directory_217 (BU_call hB (Nat.zero_le _) (Nat.zero_le _))) (fun r47 σ48 H locs hf hP hL => ?_)
      have hB := BU_keep (τ := σ48) hB
      have hP := Pic_bu hP (bc_ σ) (bs_ σ)
      refine p_nmPB hP hB (fun σ49 hσ49 hP hB => ?_)
      have hf := hf σ49 hσ49
      refine lv_if_eq (tgt := 227) hx hb dX8_directory_220 (by decide) (fun c50 => ?_) (fun c50 => ?_)
      · have hf := hf.1 c50
        refine lv_iconst (v := 0) hx hb dX8_directory_227 (by decide) ?_
        exact p_zret X hlk hP hL (BU_le hB hRc).1 (BU_le hB hRc).2 hr nr_0 dX8_directory_228 hf
      · have hf := hf.2 c50
        exact sX8_directory_L223 Y hf _ _ _ _ _ hP hL hB (lv_sub hl [] rfl)
  · have hf := hf.2 c44
    refine p_aload_n hx hb dX8_directory_41 rfl (lv_at hl 0 rfl) ?_
    obtain ⟨ht51, hf⟩ := hf
    refine p_gR X cf7_ (k := 3) (by decide) rfl hP ht51 q594 (fun _ h => h) dX8_directory_42 ?_
    refine lv_lload hx hb dX8_directory_45 (lv_at hl 4 rfl) ?_
    obtain ⟨ht52, hf⟩ := hf
    refine p_calli hL (p_runV X cf6_ hP ht52 (metX7_at l G _ _ _ _ X.2.2 hf) (cwV 1 hts (lw_V q1004 q967 q968 q104 q969) rfl rfl rfl (by decide +kernel) ⟨Nat.le_trans (Nat.le_of_ble_eq_true rfl) hRf, Nat.le_trans (Nat.le_of_ble_eq_true rfl) hRl⟩) rfl hl.1 rfl (by decide) dX8_directory_47 (BU_call hB (Nat.zero_le _) (Nat.zero_le _))) (fun r53 σ₁ H locs hf hP hL => ?_)
    obtain ⟨e₁, hf⟩ := hf
    rw [e₁] at hP
    refine lv_if_ne (tgt := 70) hx hb dX8_directory_50 (by decide) (fun c54 => ?_) (fun c54 => ?_)
    · have hf := hf.1 c54
      refine p_aload_n hx hb dX8_directory_70 rfl (lv_at hl 0 rfl) ?_
      refine lv_lload hx hb dX8_directory_71 (lv_at hl 4 rfl) ?_
      refine lv_iload hx hb dX8_directory_73 (lv_at hl 5 rfl) ?_
      refine lv_iconst (v := 2) hx hb dX8_directory_75 (by decide) ?_
      refine lv_icmp_ge (tgt := 84) hx hb dX8_directory_76 (by decide) (fun c55 => ?_) (fun c55 => ?_)
      · have hf := hf.1 c55
        refine lv_iconst (v := (-1)) hx hb dX8_directory_84 (by decide) ?_
        exact sX8_directory_L85 Y hrc28 hf _ _ _ _ _ hP hL hB (lv_sub hl [0, 1, 2, 3, 4, 5] rfl)
      · have hf := hf.2 c55
        refine lv_iload hx hb dX8_directory_79 (lv_at hl 5 rfl) ?_
        refine lv_goto (tgt := 85) hx hb dX8_directory_81 (by decide) ?_
        exact sX8_directory_L85 Y hrc28 hf _ _ _ _ _ hP hL hB (lv_sub hl [0, 1, 2, 3, 4, 5] rfl)
    · have hf := hf.2 c54
      refine lv_lload hx hb dX8_directory_53 (lv_at hl 4 rfl) ?_
      refine lv_ldc2 hx hb hown (hts _ q991) dX8_directory_55 ?_
      refine lv_ldiv hx hb dX8_directory_58 (by decide) ?_
      refine lv_lconst (v := 1) hx hb dX8_directory_59 (by decide) ?_
      refine lv_ladd hx hb dX8_directory_60 ?_
      refine lv_ldc2 hx hb hown (hts _ q991) dX8_directory_61 ?_
      refine lv_lmul hx hb dX8_directory_64 ?_
      have hl := lv_sub hl [0, 1, 2, 3, 5] rfl
      refine lv_topl (fun y56 hy56 => ?_)
      have hf := hf y56 hy56
      refine p_lstore (i := 5) hx hb dX8_directory_65 hl (by decide) ⟨⟨ne_ rfl, ne_ rfl, Or.inl (ne_ rfl)⟩, ⟨⟨ne_ rfl, ne_ rfl, Or.inl (ne_ rfl)⟩, ⟨⟨ne_ rfl, ne_ rfl, Or.inl (ne_ rfl)⟩, ⟨⟨ne_ rfl, ne_ rfl, Or.inl (ne_ rfl)⟩, ⟨⟨ne_ rfl, ne_ rfl, Or.inl (ne_ rfl)⟩, trivial⟩⟩⟩⟩⟩ (fun ls hl => ?_)
      refine lv_goto (tgt := 28) hx hb dX8_directory_67 (by decide) ?_
      exact hrc28 _ _ _ hf _ _ _ _ _ hP hL hB (lv_sub hl [1, 2, 3, 4, 0, 5] rfl)
set_option maxHeartbeats 4000000 in
theorem sX8_directory_L28 {G : GG_} {p : Program} {l : Launch} {e : Env} {R : Room} {s : State} {m : MethodId} {args : Array Value} {below : List Frame} {meth : Method} {c : Code} {mc ms : Nat} (Y : MX_ G p R s m args meth c cX8_directory 8 RX8 (some Jvm.ClassFile.FieldType.boolean) 8 203 mc ms "directory") {post : Int32 → Hp → Prop} {x0 : Nat} {x1 : Int32} {x2 : Nat} {x3 : Int64} {x5 : Int64} {x7 : Int32} {σ : Hp} (hf : wX8_directory_L28 post x0 x1 x2 x3 x5 x7 σ) : WG_ G p l e R s m args below meth c (MQ below (QI_ G post) args s mc ms (FR_ G)) (BU_ R) 8 28 [(0, rv_ x0), (1, .int x1), (2, rv_ x2), (3, .long x3), (5, .long x5), (7, .int x7)] [] σ := by
  unfold wX8_directory_L28 at hf
  obtain ⟨I, μ, h0, hI⟩ := hf
  have key : ∀ (n : Nat) (x5 : Int64) (x7 : Int32) (σ : Hp), I x5 x7 σ → μ x5 x7 σ < n → WG_ G p l e R s m args below meth c (MQ below (QI_ G post) args s mc ms (FR_ G)) (BU_ R) 8 28 [(0, rv_ x0), (1, .int x1), (2, rv_ x2), (3, .long x3), (5, .long x5), (7, .int x7)] [] σ := by
    intro n
    induction n with
    | zero => intro x5 x7 σ _ h; exact absurd h (Nat.not_lt_zero _)
    | succ n ih => intro x5 x7 σ hi hn; exact sX8_directory_B28 Y (fun x5' x7' σ' h => ih x5' x7' σ' h.1 (Nat.lt_of_lt_of_le h.2 (Nat.le_of_lt_succ hn))) (hI x5 x7 σ hi)
  exact key _ _ _ _ h0 (Nat.lt_succ_self _)
set_option maxHeartbeats 4000000 in
theorem sX8_directory {G : GG_} {p : Program} {l : Launch} {e : Env} {R : Room} {s : State} {m : MethodId} {args : Array Value} {below : List Frame} {meth : Method} {c : Code} {mc ms : Nat} (Y : MX_ G p R s m args meth c cX8_directory 8 RX8 (some Jvm.ClassFile.FieldType.boolean) 8 203 mc ms "directory") {post : Int32 → Hp → Prop} {x0 : Nat} {x1 : Int32} {σ : Hp} (hf : wX8_directory x0 x1 σ post) : WG_ G p l e R s m args below meth c (MQ below (QI_ G post) args s mc ms (FR_ G)) (BU_ R) 8 0 [(0, rv_ x0), (1, .int x1)] [] σ := by
  have ⟨X, hlk, hr, hRf, hRl, hRc, hnm⟩ := Y
  have ⟨⟨hx, hb, _, hown, hts⟩, _, _⟩ := X
  intro H locs cells slots ls hP hL hB hl
  unfold wX8_directory at hf
  refine p_aload_n hx hb dX8_directory_0 rfl (lv_at hl 0 rfl) ?_
  obtain ⟨ht57, hf⟩ := hf
  refine p_gR X cf7_ (k := 0) (by decide) rfl hP ht57 q590 (fun _ h => h) dX8_directory_1 ?_
  refine lv_iload_n hx hb dX8_directory_4 rfl (lv_at hl 1 rfl) ?_
  obtain ⟨ht58, hf⟩ := hf
  refine p_callr hL (p_runV X cf10_ hP ht58 (metJ2_get l G _ _ _ _ X.2.2 hf) (cwV 1 hts (lw_V q1090 q724 q725 q90 q726) rfl rfl rfl (by decide +kernel) ⟨Nat.le_trans (Nat.le_of_ble_eq_true rfl) hRf, Nat.le_trans (Nat.le_of_ble_eq_true rfl) hRl⟩) rfl hl.1 rfl (by decide) dX8_directory_5 (BU_call hB (Nat.zero_le _) (Nat.zero_le _))) (fun r59 σ₁ H locs hf hP hL => ?_)
  obtain ⟨e₁, hf⟩ := hf
  rw [e₁] at hP
  obtain ⟨hc60, hf⟩ := hf
  refine p_cast X cf9_ hP hc60 q588 dX8_directory_8 ?_
  refine p_astore_n (i := 2) hx hb dX8_directory_11 rfl hl (by decide) ⟨⟨ne_ rfl, Or.inl (ne_ rfl)⟩, ⟨⟨ne_ rfl, Or.inr rfl⟩, trivial⟩⟩ (fun ls hl => ?_)
  refine p_aload_n hx hb dX8_directory_12 rfl (lv_at hl 0 rfl) ?_
  obtain ⟨ht61, hf⟩ := hf
  refine p_gI X cf9_ (k := 2) (by decide) rfl hP ht61 q1062 (fun _ h => h) dX8_directory_13 ?_
  refine lv_i2l hx hb dX8_directory_16 rfl ?_
  refine lv_ldc2 hx hb hown (hts _ q991) dX8_directory_17 ?_
  refine lv_lmul hx hb dX8_directory_20 ?_
  refine lv_topl (fun y62 hy62 => ?_)
  have hf := hf y62 hy62
  refine p_lstore_n (i := 3) hx hb dX8_directory_21 rfl hl (by decide) ⟨⟨ne_ rfl, ne_ rfl, Or.inr (rv_cat _)⟩, ⟨⟨ne_ rfl, ne_ rfl, Or.inl (ne_ rfl)⟩, ⟨⟨ne_ rfl, ne_ rfl, Or.inl (ne_ rfl)⟩, trivial⟩⟩⟩ (fun ls hl => ?_)
  refine lv_lload_n hx hb dX8_directory_22 rfl (lv_at hl 0 rfl) ?_
  refine p_lstore (i := 5) hx hb dX8_directory_23 hl (by decide) ⟨⟨ne_ rfl, ne_ rfl, Or.inl (ne_ rfl)⟩, ⟨⟨ne_ rfl, ne_ rfl, Or.inl (ne_ rfl)⟩, ⟨⟨ne_ rfl, ne_ rfl, Or.inl (ne_ rfl)⟩, ⟨⟨ne_ rfl, ne_ rfl, Or.inl (ne_ rfl)⟩, trivial⟩⟩⟩⟩ (fun ls hl => ?_)
  refine lv_iconst (v := 0) hx hb dX8_directory_25 (by decide) ?_
  refine p_istore (i := 7) hx hb dX8_directory_26 hl (by decide) ⟨⟨ne_ rfl, Or.inl (ne_ rfl)⟩, ⟨⟨ne_ rfl, Or.inl (ne_ rfl)⟩, ⟨⟨ne_ rfl, Or.inl (ne_ rfl)⟩, ⟨⟨ne_ rfl, Or.inl (ne_ rfl)⟩, ⟨⟨ne_ rfl, Or.inl (ne_ rfl)⟩, trivial⟩⟩⟩⟩⟩ (fun ls hl => ?_)
  exact sX8_directory_L28 Y hf _ _ _ _ _ hP hL hB (lv_sub hl [4, 5, 3, 2, 1, 0] rfl)
set_option maxHeartbeats 4000000 in
theorem metX8_directory (l : Launch) (G : GG_) (mc ms : Nat) (x0 : Nat) (x1 : Int32) (σ : Hp) (post : Int32 → Hp → Prop) (hG : GOK_ G) (hf : wX8_directory x0 x1 (bu_ σ mc ms) post) : Met l yX8_directory (ws_ yX8_directory cX8_directory 8 (some Jvm.ClassFile.FieldType.boolean)) { frames := 8, cells := mc, slots := ms, locals := 203 } (PC_ G [rv_ x0, .int x1] (bu_ σ mc ms)) (QI_ G post) mc ms (FR_ G) := by
  refine Met.ofW (cc := cX8_directory) (maxL := 8) (ret := (some Jvm.ClassFile.FieldType.boolean)) (by decide) rfl ?_
  intro p e s m args below meth c s₁ B hml hv
  obtain ⟨rfl, hP, hW⟩ := hv
  have hts := atoms_spec (ws := ws_ yX8_directory cX8_directory 8 (some Jvm.ClassFile.FieldType.boolean)) B.pre
  have hts : ∀ w ∈ lw_all, w.before _ s = true := fun w h => hts w (List.mem_cons_of_mem _ h)
  rw [lg_entry_eq]
  have hl := en_entry [rv_ x0, .int x1] [1, 1] (n := 8) (ca_r (ca_i ca_n)) (by decide)
  exact sX8_directory ⟨⟨⟨B.exec, B.bytes, hml, findClass_of_methodNamed B.named, hts⟩, hW, hG⟩, B.notSynchronized, B.returns, Nat.le_refl _, Nat.le_refl _, ⟨rfl, rfl⟩, (name_of_methodNamed B.named B.method).1⟩ hf _ _ _ _ _ hP (LO_nil G) (BU_in ⟨rfl, rfl⟩) hl
abbrev cX8_lettersOf : ByteArray := prog_8_method_19_code
def yX8_lettersOf : MethodName := ⟨RX8, "lettersOf", "(J)I"⟩
theorem dX8_lettersOf_0 : decode cX8_lettersOf 0 = .ok (.iconst 0, 1) := by decide +kernel
theorem dX8_lettersOf_1 : decode cX8_lettersOf 1 = .ok (.istore_n 2, 1) := by decide +kernel
theorem dX8_lettersOf_2 : decode cX8_lettersOf 2 = .ok (.iload_n 2, 1) := by decide +kernel
theorem dX8_lettersOf_3 : decode cX8_lettersOf 3 = .ok (.bipush 8, 2) := by decide +kernel
theorem dX8_lettersOf_5 : decode cX8_lettersOf 5 = .ok (.if_icmp .ge 20, 3) := by decide +kernel
theorem dX8_lettersOf_8 : decode cX8_lettersOf 8 = .ok (.lload_n 0, 1) := by decide +kernel
theorem dX8_lettersOf_9 : decode cX8_lettersOf 9 = .ok (.bipush 8, 2) := by decide +kernel
theorem dX8_lettersOf_11 : decode cX8_lettersOf 11 = .ok (.iload_n 2, 1) := by decide +kernel
theorem dX8_lettersOf_12 : decode cX8_lettersOf 12 = .ok (.imul, 1) := by decide +kernel
theorem dX8_lettersOf_13 : decode cX8_lettersOf 13 = .ok (.lushr, 1) := by decide +kernel
theorem dX8_lettersOf_14 : decode cX8_lettersOf 14 = .ok (.lconst 0, 1) := by decide +kernel
theorem dX8_lettersOf_15 : decode cX8_lettersOf 15 = .ok (.lcmp, 1) := by decide +kernel
theorem dX8_lettersOf_16 : decode cX8_lettersOf 16 = .ok (.ifCond .eq 9, 3) := by decide +kernel
theorem dX8_lettersOf_19 : decode cX8_lettersOf 19 = .ok (.iinc 2 1, 3) := by decide +kernel
theorem dX8_lettersOf_22 : decode cX8_lettersOf 22 = .ok (.goto (-20), 3) := by decide +kernel
theorem dX8_lettersOf_25 : decode cX8_lettersOf 25 = .ok (.iload_n 2, 1) := by decide +kernel
theorem dX8_lettersOf_26 : decode cX8_lettersOf 26 = .ok (.ireturn, 1) := by decide +kernel
/-- WriteOnceDisc$Reader.lettersOf(J)I -/
def wX8_lettersOf_B2 (post : Int32 → Prop) (rc2 : Int32 → Prop) (x0 : Int64) (x2 : Int32) (σ : Hp) : Prop :=
(((8 : Int32) ≤ x2 →
  post x2) ∧
 (¬ (8 : Int32) ≤ x2 →
  (((lg_cmp ((x0).toUInt64 >>> ((((8 : Int32) * x2)).toInt64.toUInt64 &&& Int64.toUInt64 63)).toInt64 (0 : Int64)) = 0 →
   post x2) ∧
  (¬ (lg_cmp ((x0).toUInt64 >>> ((((8 : Int32) * x2)).toInt64.toUInt64 &&& Int64.toUInt64 63)).toInt64 (0 : Int64)) = 0 →
   (∀ y3 : Int32, y3 = x2 + 1 → rc2 y3)))))
def wX8_lettersOf_L2 (post : Int32 → Prop) (x0 : Int64) (x2 : Int32) (σ : Hp) : Prop :=
 ∃ (I : Int32 → Prop) (μ : Int32 → Nat), I x2 ∧ ∀ (x2 : Int32), I x2 → wX8_lettersOf_B2 post (fun x2' => I x2' ∧ μ x2' < μ x2) x0 x2 σ
def wX8_lettersOf (x0 : Int64) (σ : Hp) (post : Int32 → Prop) : Prop :=
wX8_lettersOf_L2 post x0 (0 : Int32) σ
set_option maxHeartbeats 4000000 in
theorem sX8_lettersOf_B2 {G : GG_} {p : Program} {l : Launch} {e : Env} {R : Room} {s : State} {m : MethodId} {args : Array Value} {below : List Frame} {meth : Method} {c : Code} (Y : MX_ G p R s m args meth c cX8_lettersOf 3 RX8 (some Jvm.ClassFile.FieldType.int) 1 20 0 0 "lettersOf") {post : Int32 → Prop} {rc2 : Int32 → Prop} {x0 : Int64} {x2 : Int32} {σ : Hp} (hrc2 : ∀ (x2 : Int32), rc2 x2 → WG_ G p l e R s m args below meth c (MQ below (QI_ G (fun r τ => τ = σ ∧ post r)) args s 0 0 (FR_ G)) BN_ 3 2 [(0, .long x0), (2, .int x2)] [] σ) (hf : wX8_lettersOf_B2 post rc2 x0 x2 σ) : WG_ G p l e R s m args below meth c (MQ below (QI_ G (fun r τ => τ = σ ∧ post r)) args s 0 0 (FR_ G)) BN_ 3 2 [(0, .long x0), (2, .int x2)] [] σ := by
  have ⟨X, hlk, hr, hRf, hRl, hRc, hnm⟩ := Y
  have ⟨⟨hx, hb, _, hown, hts⟩, _, _⟩ := X
  intro H locs cells slots ls hP hL hB hl
  obtain ⟨rfl, rfl⟩ := hB
  unfold wX8_lettersOf_B2 at hf
  refine lv_iload_n hx hb dX8_lettersOf_2 rfl (lv_at hl 1 rfl) ?_
  refine lv_bipush (v := 8) hx hb dX8_lettersOf_3 (by decide) ?_
  refine lv_icmp_ge (tgt := 25) hx hb dX8_lettersOf_5 (by decide) (fun c1 => ?_) (fun c1 => ?_)
  · have hf := hf.1 c1
    refine lv_iload_n hx hb dX8_lettersOf_25 rfl (lv_at hl 1 rfl) ?_
    exact p_iret X hlk hP hL (Nat.le_refl _) (Nat.le_refl _) hr dX8_lettersOf_26 ⟨rfl, hf⟩
  · have hf := hf.2 c1
    refine lv_lload_n hx hb dX8_lettersOf_8 rfl (lv_at hl 0 rfl) ?_
    refine lv_bipush (v := 8) hx hb dX8_lettersOf_9 (by decide) ?_
    refine lv_iload_n hx hb dX8_lettersOf_11 rfl (lv_at hl 1 rfl) ?_
    refine lv_imul hx hb dX8_lettersOf_12 ?_
    refine lv_lushr hx hb dX8_lettersOf_13 rfl ?_
    refine lv_lconst (v := 0) hx hb dX8_lettersOf_14 (by decide) ?_
    refine W.lcmp hx hb dX8_lettersOf_15 ?_
    refine lv_if_eq (tgt := 25) hx hb dX8_lettersOf_16 (by decide) (fun c2 => ?_) (fun c2 => ?_)
    · have hf := hf.1 c2
      refine lv_iload_n hx hb dX8_lettersOf_25 rfl (lv_at hl 1 rfl) ?_
      exact p_iret X hlk hP hL (Nat.le_refl _) (Nat.le_refl _) hr dX8_lettersOf_26 ⟨rfl, hf⟩
    · have hf := hf.2 c2
      have hl := lv_sub hl [1, 0] rfl
      refine p_iincc (i := 2) (k := 1) hx hb (by decide) dX8_lettersOf_19 hl (by decide) ⟨⟨ne_ rfl, Or.inl (ne_ rfl)⟩, trivial⟩ (fun y3 hy3 ls hl => ?_)
      have hf := hf y3 hy3
      refine lv_goto (tgt := 2) hx hb dX8_lettersOf_22 (by decide) ?_
      exact hrc2 _ hf _ _ _ _ _ hP hL ⟨rfl, rfl⟩ (lv_sub hl [1, 0] rfl)
set_option maxHeartbeats 4000000 in
theorem sX8_lettersOf_L2 {G : GG_} {p : Program} {l : Launch} {e : Env} {R : Room} {s : State} {m : MethodId} {args : Array Value} {below : List Frame} {meth : Method} {c : Code} (Y : MX_ G p R s m args meth c cX8_lettersOf 3 RX8 (some Jvm.ClassFile.FieldType.int) 1 20 0 0 "lettersOf") {post : Int32 → Prop} {x0 : Int64} {x2 : Int32} {σ : Hp} (hf : wX8_lettersOf_L2 post x0 x2 σ) : WG_ G p l e R s m args below meth c (MQ below (QI_ G (fun r τ => τ = σ ∧ post r)) args s 0 0 (FR_ G)) BN_ 3 2 [(0, .long x0), (2, .int x2)] [] σ := by
  unfold wX8_lettersOf_L2 at hf
  obtain ⟨I, μ, h0, hI⟩ := hf
  have key : ∀ (n : Nat) (x2 : Int32), I x2 → μ x2 < n → WG_ G p l e R s m args below meth c (MQ below (QI_ G (fun r τ => τ = σ ∧ post r)) args s 0 0 (FR_ G)) BN_ 3 2 [(0, .long x0), (2, .int x2)] [] σ := by
    intro n
    induction n with
    | zero => intro x2 _ h; exact absurd h (Nat.not_lt_zero _)
    | succ n ih => intro x2 hi hn; exact sX8_lettersOf_B2 Y (fun x2' h => ih x2' h.1 (Nat.lt_of_lt_of_le h.2 (Nat.le_of_lt_succ hn))) (hI x2 hi)
  exact key _ _ h0 (Nat.lt_succ_self _)
set_option maxHeartbeats 4000000 in
theorem sX8_lettersOf {G : GG_} {p : Program} {l : Launch} {e : Env} {R : Room} {s : State} {m : MethodId} {args : Array Value} {below : List Frame} {meth : Method} {c : Code} (Y : MX_ G p R s m args meth c cX8_lettersOf 3 RX8 (some Jvm.ClassFile.FieldType.int) 1 20 0 0 "lettersOf") {post : Int32 → Prop} {x0 : Int64} {σ : Hp} (hf : wX8_lettersOf x0 σ post) : WG_ G p l e R s m args below meth c (MQ below (QI_ G (fun r τ => τ = σ ∧ post r)) args s 0 0 (FR_ G)) BN_ 3 0 [(0, .long x0)] [] σ := by
  have ⟨X, hlk, hr, hRf, hRl, hRc, hnm⟩ := Y
  have ⟨⟨hx, hb, _, hown, hts⟩, _, _⟩ := X
  intro H locs cells slots ls hP hL hB hl
  obtain ⟨rfl, rfl⟩ := hB
  unfold wX8_lettersOf at hf
  refine lv_iconst (v := 0) hx hb dX8_lettersOf_0 (by decide) ?_
  refine p_istore_n (i := 2) hx hb dX8_lettersOf_1 rfl hl (by decide) ⟨⟨ne_ rfl, Or.inl (ne_ rfl)⟩, trivial⟩ (fun ls hl => ?_)
  exact sX8_lettersOf_L2 Y hf _ _ _ _ _ hP hL ⟨rfl, rfl⟩ (lv_sub hl [1, 0] rfl)
set_option maxHeartbeats 4000000 in
theorem metX8_lettersOf (l : Launch) (G : GG_) (x0 : Int64) (σ : Hp) (post : Int32 → Prop) (hG : GOK_ G) (hf : wX8_lettersOf x0 σ post) : Met l yX8_lettersOf (ws_ yX8_lettersOf cX8_lettersOf 3 (some Jvm.ClassFile.FieldType.int)) { frames := 1, cells := 0, slots := 0, locals := 20 } (PC_ G [.long x0] σ) (QI_ G (fun r τ => τ = σ ∧ post r)) 0 0 (FR_ G) := by
  refine Met.ofW (cc := cX8_lettersOf) (maxL := 3) (ret := (some Jvm.ClassFile.FieldType.int)) (by decide) rfl ?_
  intro p e s m args below meth c s₁ B hml hv
  obtain ⟨rfl, hP, hW⟩ := hv
  have hts := atoms_spec (ws := ws_ yX8_lettersOf cX8_lettersOf 3 (some Jvm.ClassFile.FieldType.int)) B.pre
  have hts : ∀ w ∈ lw_all, w.before _ s = true := fun w h => hts w (List.mem_cons_of_mem _ h)
  rw [lg_entry_eq]
  have hl := en_entry [.long x0] [2] (n := 3) (ca_l ca_n) (by decide)
  exact sX8_lettersOf ⟨⟨⟨B.exec, B.bytes, hml, findClass_of_methodNamed B.named, hts⟩, hW, hG⟩, B.notSynchronized, B.returns, Nat.le_refl _, Nat.le_refl _, ⟨rfl, rfl⟩, (name_of_methodNamed B.named B.method).1⟩ hf _ _ _ _ _ hP (LO_nil G) ⟨rfl, rfl⟩ hl
abbrev cX8_isNumber : ByteArray := prog_8_method_18_code
def yX8_isNumber : MethodName := ⟨RX8, "isNumber", "(JIIZ)Z"⟩
theorem dX8_isNumber_0 : decode cX8_isNumber 0 = .ok (.iconst 0, 1) := by decide +kernel
theorem dX8_isNumber_1 : decode cX8_isNumber 1 = .ok (.istore 6, 2) := by decide +kernel
theorem dX8_isNumber_3 : decode cX8_isNumber 3 = .ok (.iload 6, 2) := by decide +kernel
theorem dX8_isNumber_5 : decode cX8_isNumber 5 = .ok (.iload_n 3, 1) := by decide +kernel
theorem dX8_isNumber_6 : decode cX8_isNumber 6 = .ok (.if_icmp .ge 60, 3) := by decide +kernel
theorem dX8_isNumber_9 : decode cX8_isNumber 9 = .ok (.aload_n 0, 1) := by decide +kernel
theorem dX8_isNumber_10 : decode cX8_isNumber 10 = .ok (.getfield 28, 3) := by decide +kernel
theorem dX8_isNumber_13 : decode cX8_isNumber 13 = .ok (.lload_n 1, 1) := by decide +kernel
theorem dX8_isNumber_14 : decode cX8_isNumber 14 = .ok (.iload 6, 2) := by decide +kernel
theorem dX8_isNumber_16 : decode cX8_isNumber 16 = .ok (.i2l, 1) := by decide +kernel
theorem dX8_isNumber_17 : decode cX8_isNumber 17 = .ok (.ladd, 1) := by decide +kernel
theorem dX8_isNumber_18 : decode cX8_isNumber 18 = .ok (.invokevirtual 39, 3) := by decide +kernel
theorem dX8_isNumber_21 : decode cX8_isNumber 21 = .ok (.iload 4, 2) := by decide +kernel
theorem dX8_isNumber_23 : decode cX8_isNumber 23 = .ok (.bipush 8, 2) := by decide +kernel
theorem dX8_isNumber_25 : decode cX8_isNumber 25 = .ok (.iload 5, 2) := by decide +kernel
theorem dX8_isNumber_27 : decode cX8_isNumber 27 = .ok (.ifCond .eq 8, 3) := by decide +kernel
theorem dX8_isNumber_30 : decode cX8_isNumber 30 = .ok (.iload 6, 2) := by decide +kernel
theorem dX8_isNumber_32 : decode cX8_isNumber 32 = .ok (.goto 9, 3) := by decide +kernel
theorem dX8_isNumber_35 : decode cX8_isNumber 35 = .ok (.iload_n 3, 1) := by decide +kernel
theorem dX8_isNumber_36 : decode cX8_isNumber 36 = .ok (.iconst 1, 1) := by decide +kernel
theorem dX8_isNumber_37 : decode cX8_isNumber 37 = .ok (.isub, 1) := by decide +kernel
theorem dX8_isNumber_38 : decode cX8_isNumber 38 = .ok (.iload 6, 2) := by decide +kernel
theorem dX8_isNumber_40 : decode cX8_isNumber 40 = .ok (.isub, 1) := by decide +kernel
theorem dX8_isNumber_41 : decode cX8_isNumber 41 = .ok (.imul, 1) := by decide +kernel
theorem dX8_isNumber_42 : decode cX8_isNumber 42 = .ok (.ishr, 1) := by decide +kernel
theorem dX8_isNumber_43 : decode cX8_isNumber 43 = .ok (.sipush 255, 3) := by decide +kernel
theorem dX8_isNumber_46 : decode cX8_isNumber 46 = .ok (.iand, 1) := by decide +kernel
theorem dX8_isNumber_47 : decode cX8_isNumber 47 = .ok (.if_icmp .eq 13, 3) := by decide +kernel
theorem dX8_isNumber_50 : decode cX8_isNumber 50 = .ok (.aload_n 0, 1) := by decide +kernel
theorem dX8_isNumber_51 : decode cX8_isNumber 51 = .ok (.lload_n 1, 1) := by decide +kernel
theorem dX8_isNumber_52 : decode cX8_isNumber 52 = .ok (.iload 6, 2) := by decide +kernel
theorem dX8_isNumber_54 : decode cX8_isNumber 54 = .ok (.i2l, 1) := by decide +kernel
theorem dX8_isNumber_55 : decode cX8_isNumber 55 = .ok (.ladd, 1) := by decide +kernel
theorem dX8_isNumber_56 : decode cX8_isNumber 56 = .ok (.invokevirtual 89, 3) := by decide +kernel
theorem dX8_isNumber_59 : decode cX8_isNumber 59 = .ok (.ireturn, 1) := by decide +kernel
theorem dX8_isNumber_60 : decode cX8_isNumber 60 = .ok (.iinc 6 1, 3) := by decide +kernel
theorem dX8_isNumber_63 : decode cX8_isNumber 63 = .ok (.goto (-60), 3) := by decide +kernel
theorem dX8_isNumber_66 : decode cX8_isNumber 66 = .ok (.iconst 1, 1) := by decide +kernel
theorem dX8_isNumber_67 : decode cX8_isNumber 67 = .ok (.ireturn, 1) := by decide +kernel
/-- WriteOnceDisc$Reader.isNumber(JIIZ)Z -/
def wX8_isNumber_L41 (post : Int32 → Hp → Prop) (rc3 : Int32 → Prop) (x0 : Nat) (x1 : Int64) (x3 : Int32) (x4 : Int32) (x5 : Int32) (x6 : Int32) (s0 : Int32) (s1 : Int32) (s2 : Int32) (s3 : Int32) (σ : Hp) : Prop :=
((s3 = ((s2 >>> ((s1 * s0) &&& 31)) &&& (255 : Int32)) →
  (∀ y2 : Int32, y2 = x6 + 1 → rc3 y2)) ∧
 (¬ s3 = ((s2 >>> ((s1 * s0) &&& 31)) &&& (255 : Int32)) →
  (tg_ σ x0 = 8 ∧ (wX8_bad x0 (x1 + (x6).toInt64) σ (fun r4 σ5 => (nr_ .boolean r4 ∧ post r4 σ5))))))
def wX8_isNumber_B3 (post : Int32 → Hp → Prop) (rc3 : Int32 → Prop) (x0 : Nat) (x1 : Int64) (x3 : Int32) (x4 : Int32) (x5 : Int32) (x6 : Int32) (σ : Hp) : Prop :=
((x3 ≤ x6 →
  post (1 : Int32) σ) ∧
 (¬ x3 ≤ x6 →
  (tg_ σ x0 = 8 ∧ (tg_ σ (fR_ σ 7 3 x0) = 7 ∧ (wX7_at (fR_ σ 7 3 x0) (x1 + (x6).toInt64) σ (fun r10 => ((x5 = 0 →
   wX8_isNumber_L41 post rc3 x0 x1 x3 x4 x5 x6 ((x3 - (1 : Int32)) - x6) (8 : Int32) x4 r10 σ) ∧
  (¬ x5 = 0 →
   wX8_isNumber_L41 post rc3 x0 x1 x3 x4 x5 x6 x6 (8 : Int32) x4 r10 σ))))))))
def wX8_isNumber_L3 (post : Int32 → Hp → Prop) (x0 : Nat) (x1 : Int64) (x3 : Int32) (x4 : Int32) (x5 : Int32) (x6 : Int32) (σ : Hp) : Prop :=
 ∃ (I : Int32 → Prop) (μ : Int32 → Nat), I x6 ∧ ∀ (x6 : Int32), I x6 → wX8_isNumber_B3 post (fun x6' => I x6' ∧ μ x6' < μ x6) x0 x1 x3 x4 x5 x6 σ
def wX8_isNumber (x0 : Nat) (x1 : Int64) (x3 : Int32) (x4 : Int32) (x5 : Int32) (σ : Hp) (post : Int32 → Hp → Prop) : Prop :=
wX8_isNumber_L3 post x0 x1 x3 x4 x5 (0 : Int32) σ
set_option maxHeartbeats 4000000 in
theorem sX8_isNumber_L41 {G : GG_} {p : Program} {l : Launch} {e : Env} {R : Room} {s : State} {m : MethodId} {args : Array Value} {below : List Frame} {meth : Method} {c : Code} (Y : MX_ G p R s m args meth c cX8_isNumber 7 RX8 (some Jvm.ClassFile.FieldType.boolean) 2 42 0 0 "isNumber") {post : Int32 → Hp → Prop} {rc3 : Int32 → Prop} {x0 : Nat} {x1 : Int64} {x3 : Int32} {x4 : Int32} {x5 : Int32} {x6 : Int32} {s0 : Int32} {s1 : Int32} {s2 : Int32} {s3 : Int32} {σ : Hp} (hrc3 : ∀ (x6 : Int32), rc3 x6 → WG_ G p l e R s m args below meth c (MQ below (QI_ G post) args s 0 0 (FR_ G)) BN_ 7 3 [(0, rv_ x0), (1, .long x1), (3, .int x3), (4, .int x4), (5, .int x5), (6, .int x6)] [] σ) (hf : wX8_isNumber_L41 post rc3 x0 x1 x3 x4 x5 x6 s0 s1 s2 s3 σ) : WG_ G p l e R s m args below meth c (MQ below (QI_ G post) args s 0 0 (FR_ G)) BN_ 7 41 [(0, rv_ x0), (1, .long x1), (3, .int x3), (4, .int x4), (5, .int x5), (6, .int x6)] [.int s0, .int s1, .int s2, .int s3] σ := by
  have ⟨X, hlk, hr, hRf, hRl, hRc, hnm⟩ := Y
  have ⟨⟨hx, hb, _, hown, hts⟩, _, _⟩ := X
  intro H locs cells slots ls hP hL hB hl
  obtain ⟨rfl, rfl⟩ := hB
  unfold wX8_isNumber_L41 at hf
  refine lv_imul hx hb dX8_isNumber_41 ?_
  refine lv_ishr hx hb dX8_isNumber_42 ?_
  refine lv_sipush (v := 255) hx hb dX8_isNumber_43 (by decide) ?_
  refine lv_iand hx hb dX8_isNumber_46 ?_
  refine lv_icmp_eq (tgt := 60) hx hb dX8_isNumber_47 (by decide) (fun c1 => ?_) (fun c1 => ?_)
  · have hf := hf.1 c1
    have hl := lv_sub hl [5, 0, 1, 2, 3, 4] rfl
    refine p_iincc (i := 6) (k := 1) hx hb (by decide) dX8_isNumber_60 hl (by decide) ⟨⟨ne_ rfl, Or.inl (ne_ rfl)⟩, ⟨⟨ne_ rfl, Or.inl (ne_ rfl)⟩, ⟨⟨ne_ rfl, Or.inl (ne_ rfl)⟩, ⟨⟨ne_ rfl, Or.inl (ne_ rfl)⟩, ⟨⟨ne_ rfl, Or.inr rfl⟩, trivial⟩⟩⟩⟩⟩ (fun y2 hy2 ls hl => ?_)
    have hf := hf y2 hy2
    refine lv_goto (tgt := 3) hx hb dX8_isNumber_63 (by decide) ?_
    exact hrc3 _ hf _ _ _ _ _ hP hL ⟨rfl, rfl⟩ (lv_sub hl [1, 2, 3, 4, 5, 0] rfl)
  · have hf := hf.2 c1
    refine p_aload_n hx hb dX8_isNumber_50 rfl (lv_at hl 0 rfl) ?_
    refine lv_lload_n hx hb dX8_isNumber_51 rfl (lv_at hl 1 rfl) ?_
    refine lv_iload hx hb dX8_isNumber_52 (lv_at hl 5 rfl) ?_
    refine lv_i2l hx hb dX8_isNumber_54 rfl ?_
    refine lv_ladd hx hb dX8_isNumber_55 ?_
    obtain ⟨ht3, hf⟩ := hf
    refine p_calli hL (p_runV X cf7_ hP ht3 (metX8_bad l G _ _ _ _ X.2.2 hf) (cwV 1 hts (lw_V q996 q998 qs21 q105 q999) rfl rfl rfl (by decide +kernel) ⟨Nat.le_trans (Nat.le_of_ble_eq_true rfl) hRf, Nat.le_trans (Nat.le_of_ble_eq_true rfl) hRl⟩) rfl hl.1 rfl (by decide) dX8_isNumber_56 ⟨Nat.zero_le _, Nat.zero_le _⟩) (fun r4 σ5 H locs hf hP hL => ?_)
    obtain ⟨hn6, hf⟩ := hf
    exact p_zret X hlk hP hL (Nat.le_refl _) (Nat.le_refl _) hr hn6 dX8_isNumber_59 hf
set_option maxHeartbeats 4000000 in
theorem sX8_isNumber_B3 {G : GG_} {p : Program} {l : Launch} {e : Env} {R : Room} {s : State} {m : MethodId} {args : Array Value} {below : List Frame} {meth : Method} {c : Code} (Y : MX_ G p R s m args meth c cX8_isNumber 7 RX8 (some Jvm.ClassFile.FieldType.boolean) 2 42 0 0 "isNumber") {post : Int32 → Hp → Prop} {rc3 : Int32 → Prop} {x0 : Nat} {x1 : Int64} {x3 : Int32} {x4 : Int32} {x5 : Int32} {x6 : Int32} {σ : Hp} (hrc3 : ∀ (x6 : Int32), rc3 x6 → WG_ G p l e R s m args below meth c (MQ below (QI_ G post) args s 0 0 (FR_ G)) BN_ 7 3 [(0, rv_ x0), (1, .long x1), (3, .int x3), (4, .int x4), (5, .int x5), (6, .int x6)] [] σ) (hf : wX8_isNumber_B3 post rc3 x0 x1 x3 x4 x5 x6 σ) : WG_ G p l e R s m args below meth c (MQ below (QI_ G post) args s 0 0 (FR_ G)) BN_ 7 3 [(0, rv_ x0), (1, .long x1), (3, .int x3), (4, .int x4), (5, .int x5), (6, .int x6)] [] σ := by
  have ⟨X, hlk, hr, hRf, hRl, hRc, hnm⟩ := Y
  have ⟨⟨hx, hb, _, hown, hts⟩, _, _⟩ := X
  intro H locs cells slots ls hP hL hB hl
  obtain ⟨rfl, rfl⟩ := hB
  unfold wX8_isNumber_B3 at hf
  refine lv_iload hx hb dX8_isNumber_3 (lv_at hl 5 rfl) ?_
  refine lv_iload_n hx hb dX8_isNumber_5 rfl (lv_at hl 2 rfl) ?_
  refine lv_icmp_ge (tgt := 66) hx hb dX8_isNumber_6 (by decide) (fun c7 => ?_) (fun c7 => ?_)
  · have hf := hf.1 c7
    refine lv_iconst (v := 1) hx hb dX8_isNumber_66 (by decide) ?_
    exact p_zret X hlk hP hL (Nat.le_refl _) (Nat.le_refl _) hr nr_1 dX8_isNumber_67 hf
  · have hf := hf.2 c7
    refine p_aload_n hx hb dX8_isNumber_9 rfl (lv_at hl 0 rfl) ?_
    obtain ⟨ht8, hf⟩ := hf
    refine p_gR X cf7_ (k := 3) (by decide) rfl hP ht8 q594 (fun _ h => h) dX8_isNumber_10 ?_
    refine lv_lload_n hx hb dX8_isNumber_13 rfl (lv_at hl 1 rfl) ?_
    refine lv_iload hx hb dX8_isNumber_14 (lv_at hl 5 rfl) ?_
    refine lv_i2l hx hb dX8_isNumber_16 rfl ?_
    refine lv_ladd hx hb dX8_isNumber_17 ?_
    obtain ⟨ht9, hf⟩ := hf
    refine p_calli hL (p_runV X cf6_ hP ht9 (metX7_at l G _ _ _ _ X.2.2 hf) (cwV 1 hts (lw_V q1004 q967 q968 q104 q969) rfl rfl rfl (by decide +kernel) ⟨Nat.le_trans (Nat.le_of_ble_eq_true rfl) hRf, Nat.le_trans (Nat.le_of_ble_eq_true rfl) hRl⟩) rfl hl.1 rfl (by decide) dX8_isNumber_18 ⟨Nat.zero_le _, Nat.zero_le _⟩) (fun r10 σ₁ H locs hf hP hL => ?_)
    obtain ⟨e₁, hf⟩ := hf
    rw [e₁] at hP
    refine lv_iload hx hb dX8_isNumber_21 (lv_at hl 3 rfl) ?_
    refine lv_bipush (v := 8) hx hb dX8_isNumber_23 (by decide) ?_
    refine lv_iload hx hb dX8_isNumber_25 (lv_at hl 4 rfl) ?_
    refine lv_if_eq (tgt := 35) hx hb dX8_isNumber_27 (by decide) (fun c11 => ?_) (fun c11 => ?_)
    · have hf := hf.1 c11
      refine lv_iload_n hx hb dX8_isNumber_35 rfl (lv_at hl 2 rfl) ?_
      refine lv_iconst (v := 1) hx hb dX8_isNumber_36 (by decide) ?_
      refine lv_isub hx hb dX8_isNumber_37 ?_
      refine lv_iload hx hb dX8_isNumber_38 (lv_at hl 5 rfl) ?_
      refine lv_isub hx hb dX8_isNumber_40 ?_
      exact sX8_isNumber_L41 Y hrc3 hf _ _ _ _ _ hP hL ⟨rfl, rfl⟩ (lv_sub hl [0, 1, 2, 3, 4, 5] rfl)
    · have hf := hf.2 c11
      refine lv_iload hx hb dX8_isNumber_30 (lv_at hl 5 rfl) ?_
      refine lv_goto (tgt := 41) hx hb dX8_isNumber_32 (by decide) ?_
      exact sX8_isNumber_L41 Y hrc3 hf _ _ _ _ _ hP hL ⟨rfl, rfl⟩ (lv_sub hl [0, 1, 2, 3, 4, 5] rfl)
set_option maxHeartbeats 4000000 in
theorem sX8_isNumber_L3 {G : GG_} {p : Program} {l : Launch} {e : Env} {R : Room} {s : State} {m : MethodId} {args : Array Value} {below : List Frame} {meth : Method} {c : Code} (Y : MX_ G p R s m args meth c cX8_isNumber 7 RX8 (some Jvm.ClassFile.FieldType.boolean) 2 42 0 0 "isNumber") {post : Int32 → Hp → Prop} {x0 : Nat} {x1 : Int64} {x3 : Int32} {x4 : Int32} {x5 : Int32} {x6 : Int32} {σ : Hp} (hf : wX8_isNumber_L3 post x0 x1 x3 x4 x5 x6 σ) : WG_ G p l e R s m args below meth c (MQ below (QI_ G post) args s 0 0 (FR_ G)) BN_ 7 3 [(0, rv_ x0), (1, .long x1), (3, .int x3), (4, .int x4), (5, .int x5), (6, .int x6)] [] σ := by
  unfold wX8_isNumber_L3 at hf
  obtain ⟨I, μ, h0, hI⟩ := hf
  have key : ∀ (n : Nat) (x6 : Int32), I x6 → μ x6 < n → WG_ G p l e R s m args below meth c (MQ below (QI_ G post) args s 0 0 (FR_ G)) BN_ 7 3 [(0, rv_ x0), (1, .long x1), (3, .int x3), (4, .int x4), (5, .int x5), (6, .int x6)] [] σ := by
    intro n
    induction n with
    | zero => intro x6 _ h; exact absurd h (Nat.not_lt_zero _)
    | succ n ih => intro x6 hi hn; exact sX8_isNumber_B3 Y (fun x6' h => ih x6' h.1 (Nat.lt_of_lt_of_le h.2 (Nat.le_of_lt_succ hn))) (hI x6 hi)
  exact key _ _ h0 (Nat.lt_succ_self _)
set_option maxHeartbeats 4000000 in
theorem sX8_isNumber {G : GG_} {p : Program} {l : Launch} {e : Env} {R : Room} {s : State} {m : MethodId} {args : Array Value} {below : List Frame} {meth : Method} {c : Code} (Y : MX_ G p R s m args meth c cX8_isNumber 7 RX8 (some Jvm.ClassFile.FieldType.boolean) 2 42 0 0 "isNumber") {post : Int32 → Hp → Prop} {x0 : Nat} {x1 : Int64} {x3 : Int32} {x4 : Int32} {x5 : Int32} {σ : Hp} (hf : wX8_isNumber x0 x1 x3 x4 x5 σ post) : WG_ G p l e R s m args below meth c (MQ below (QI_ G post) args s 0 0 (FR_ G)) BN_ 7 0 [(0, rv_ x0), (1, .long x1), (3, .int x3), (4, .int x4), (5, .int x5)] [] σ := by
  have ⟨X, hlk, hr, hRf, hRl, hRc, hnm⟩ := Y
  have ⟨⟨hx, hb, _, hown, hts⟩, _, _⟩ := X
  intro H locs cells slots ls hP hL hB hl
  obtain ⟨rfl, rfl⟩ := hB
  unfold wX8_isNumber at hf
  refine lv_iconst (v := 0) hx hb dX8_isNumber_0 (by decide) ?_
  refine p_istore (i := 6) hx hb dX8_isNumber_1 hl (by decide) ⟨⟨ne_ rfl, Or.inl (ne_ rfl)⟩, ⟨⟨ne_ rfl, Or.inl (ne_ rfl)⟩, ⟨⟨ne_ rfl, Or.inl (ne_ rfl)⟩, ⟨⟨ne_ rfl, Or.inl (ne_ rfl)⟩, ⟨⟨ne_ rfl, Or.inr rfl⟩, trivial⟩⟩⟩⟩⟩ (fun ls hl => ?_)
  exact sX8_isNumber_L3 Y hf _ _ _ _ _ hP hL ⟨rfl, rfl⟩ (lv_sub hl [1, 2, 3, 4, 5, 0] rfl)
set_option maxHeartbeats 4000000 in
theorem metX8_isNumber (l : Launch) (G : GG_) (x0 : Nat) (x1 : Int64) (x3 : Int32) (x4 : Int32) (x5 : Int32) (σ : Hp) (post : Int32 → Hp → Prop) (hG : GOK_ G) (hf : wX8_isNumber x0 x1 x3 x4 x5 σ post) : Met l yX8_isNumber (ws_ yX8_isNumber cX8_isNumber 7 (some Jvm.ClassFile.FieldType.boolean)) { frames := 2, cells := 0, slots := 0, locals := 42 } (PC_ G [rv_ x0, .long x1, .int x3, .int x4, .int x5] σ) (QI_ G post) 0 0 (FR_ G) := by
  refine Met.ofW (cc := cX8_isNumber) (maxL := 7) (ret := (some Jvm.ClassFile.FieldType.boolean)) (by decide) rfl ?_
  intro p e s m args below meth c s₁ B hml hv
  obtain ⟨rfl, hP, hW⟩ := hv
  have hts := atoms_spec (ws := ws_ yX8_isNumber cX8_isNumber 7 (some Jvm.ClassFile.FieldType.boolean)) B.pre
  have hts : ∀ w ∈ lw_all, w.before _ s = true := fun w h => hts w (List.mem_cons_of_mem _ h)
  rw [lg_entry_eq]
  have hl := en_entry [rv_ x0, .long x1, .int x3, .int x4, .int x5] [1, 2, 1, 1, 1] (n := 7) (ca_r (ca_l (ca_i (ca_i (ca_i ca_n))))) (by decide)
  exact sX8_isNumber ⟨⟨⟨B.exec, B.bytes, hml, findClass_of_methodNamed B.named, hts⟩, hW, hG⟩, B.notSynchronized, B.returns, Nat.le_refl _, Nat.le_refl _, ⟨rfl, rfl⟩, (name_of_methodNamed B.named B.method).1⟩ hf _ _ _ _ _ hP (LO_nil G) ⟨rfl, rfl⟩ hl
