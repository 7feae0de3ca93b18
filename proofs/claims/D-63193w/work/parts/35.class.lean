set_option maxRecDepth 100000
abbrev cX7_isBoth : ByteArray := prog_4_method_6_code
def yX7_isBoth : MethodName := ⟨RX7, "isBoth", "(JI)Z"⟩
theorem dX7_isBoth_0 : decode cX7_isBoth 0 = .ok (.iconst 1, 1) := by decide +kernel
theorem dX7_isBoth_1 : decode cX7_isBoth 1 = .ok (.istore 4, 2) := by decide +kernel
theorem dX7_isBoth_3 : decode cX7_isBoth 3 = .ok (.iconst 0, 1) := by decide +kernel
theorem dX7_isBoth_4 : decode cX7_isBoth 4 = .ok (.istore 5, 2) := by decide +kernel
theorem dX7_isBoth_6 : decode cX7_isBoth 6 = .ok (.iload 5, 2) := by decide +kernel
theorem dX7_isBoth_8 : decode cX7_isBoth 8 = .ok (.iload_n 3, 1) := by decide +kernel
theorem dX7_isBoth_9 : decode cX7_isBoth 9 = .ok (.if_icmp .ge 49, 3) := by decide +kernel
theorem dX7_isBoth_12 : decode cX7_isBoth 12 = .ok (.iload 4, 2) := by decide +kernel
theorem dX7_isBoth_14 : decode cX7_isBoth 14 = .ok (.ifCond .eq 35, 3) := by decide +kernel
theorem dX7_isBoth_17 : decode cX7_isBoth 17 = .ok (.aload_n 0, 1) := by decide +kernel
theorem dX7_isBoth_18 : decode cX7_isBoth 18 = .ok (.lload_n 1, 1) := by decide +kernel
theorem dX7_isBoth_19 : decode cX7_isBoth 19 = .ok (.iload 5, 2) := by decide +kernel
theorem dX7_isBoth_21 : decode cX7_isBoth 21 = .ok (.i2l, 1) := by decide +kernel
theorem dX7_isBoth_22 : decode cX7_isBoth 22 = .ok (.ladd, 1) := by decide +kernel
theorem dX7_isBoth_23 : decode cX7_isBoth 23 = .ok (.invokevirtual 27, 3) := by decide +kernel
theorem dX7_isBoth_26 : decode cX7_isBoth 26 = .ok (.aload_n 0, 1) := by decide +kernel
theorem dX7_isBoth_27 : decode cX7_isBoth 27 = .ok (.lload_n 1, 1) := by decide +kernel
theorem dX7_isBoth_28 : decode cX7_isBoth 28 = .ok (.iconst 2, 1) := by decide +kernel
theorem dX7_isBoth_29 : decode cX7_isBoth 29 = .ok (.iload_n 3, 1) := by decide +kernel
theorem dX7_isBoth_30 : decode cX7_isBoth 30 = .ok (.imul, 1) := by decide +kernel
theorem dX7_isBoth_31 : decode cX7_isBoth 31 = .ok (.i2l, 1) := by decide +kernel
theorem dX7_isBoth_32 : decode cX7_isBoth 32 = .ok (.ladd, 1) := by decide +kernel
theorem dX7_isBoth_33 : decode cX7_isBoth 33 = .ok (.lconst 1, 1) := by decide +kernel
theorem dX7_isBoth_34 : decode cX7_isBoth 34 = .ok (.lsub, 1) := by decide +kernel
theorem dX7_isBoth_35 : decode cX7_isBoth 35 = .ok (.iload 5, 2) := by decide +kernel
theorem dX7_isBoth_37 : decode cX7_isBoth 37 = .ok (.i2l, 1) := by decide +kernel
theorem dX7_isBoth_38 : decode cX7_isBoth 38 = .ok (.lsub, 1) := by decide +kernel
theorem dX7_isBoth_39 : decode cX7_isBoth 39 = .ok (.invokevirtual 27, 3) := by decide +kernel
theorem dX7_isBoth_42 : decode cX7_isBoth 42 = .ok (.if_icmp .ne 7, 3) := by decide +kernel
theorem dX7_isBoth_45 : decode cX7_isBoth 45 = .ok (.iconst 1, 1) := by decide +kernel
theorem dX7_isBoth_46 : decode cX7_isBoth 46 = .ok (.goto 4, 3) := by decide +kernel
theorem dX7_isBoth_49 : decode cX7_isBoth 49 = .ok (.iconst 0, 1) := by decide +kernel
theorem dX7_isBoth_50 : decode cX7_isBoth 50 = .ok (.istore 4, 2) := by decide +kernel
theorem dX7_isBoth_52 : decode cX7_isBoth 52 = .ok (.iinc 5 1, 3) := by decide +kernel
theorem dX7_isBoth_55 : decode cX7_isBoth 55 = .ok (.goto (-49), 3) := by decide +kernel
theorem dX7_isBoth_58 : decode cX7_isBoth 58 = .ok (.iload 4, 2) := by decide +kernel
theorem dX7_isBoth_60 : decode cX7_isBoth 60 = .ok (.ireturn, 1) := by decide +kernel
/-- WriteOnceDisc$Medium.isBoth(JI)Z -/
def wX7_isBoth_L50 (post : Int32 → Prop) (rc6 : Int32 → Int32 → Prop) (x0 : Nat) (x1 : Int64) (x3 : Int32) (x5 : Int32) (s0 : Int32) (σ : Hp) : Prop :=
(∀ y1 : Int32, y1 = x5 + 1 → rc6 s0 y1)
def wX7_isBoth_L49 (post : Int32 → Prop) (rc6 : Int32 → Int32 → Prop) (x0 : Nat) (x1 : Int64) (x3 : Int32) (x5 : Int32) (σ : Hp) : Prop :=
wX7_isBoth_L50 post rc6 x0 x1 x3 x5 (0 : Int32) σ
def wX7_isBoth_B6 (post : Int32 → Prop) (rc6 : Int32 → Int32 → Prop) (x0 : Nat) (x1 : Int64) (x3 : Int32) (x4 : Int32) (x5 : Int32) (σ : Hp) : Prop :=
((x3 ≤ x5 →
  (nr_ .boolean x4 ∧ post x4)) ∧
 (¬ x3 ≤ x5 →
  ((x4 = 0 →
   wX7_isBoth_L49 post rc6 x0 x1 x3 x5 σ) ∧
  (¬ x4 = 0 →
   (tg_ σ x0 = 7 ∧ (wX7_at x0 (x1 + (x5).toInt64) σ (fun r6 => (wX7_at x0 (((x1 + (((2 : Int32) * x3)).toInt64) - (1 : Int64)) - (x5).toInt64) σ (fun r7 => ((¬ r6 = r7 →
    wX7_isBoth_L49 post rc6 x0 x1 x3 x5 σ) ∧
   (r6 = r7 →
    wX7_isBoth_L50 post rc6 x0 x1 x3 x5 (1 : Int32) σ)))))))))))
def wX7_isBoth_L6 (post : Int32 → Prop) (x0 : Nat) (x1 : Int64) (x3 : Int32) (x4 : Int32) (x5 : Int32) (σ : Hp) : Prop :=
 ∃ (I : Int32 → Int32 → Prop) (μ : Int32 → Int32 → Nat), I x4 x5 ∧ ∀ (x4 : Int32) (x5 : Int32), I x4 x5 → wX7_isBoth_B6 post (fun x4' x5' => I x4' x5' ∧ μ x4' x5' < μ x4 x5) x0 x1 x3 x4 x5 σ
def wX7_isBoth (x0 : Nat) (x1 : Int64) (x3 : Int32) (σ : Hp) (post : Int32 → Prop) : Prop :=
wX7_isBoth_L6 post x0 x1 x3 (1 : Int32) (0 : Int32) σ
set_option maxHeartbeats 4000000 in
theorem sX7_isBoth_L50 {G : GG_} {p : Program} {l : Launch} {e : Env} {R : Room} {s : State} {m : MethodId} {args : Array Value} {below : List Frame} {meth : Method} {c : Code} (Y : MX_ G p R s m args meth c cX7_isBoth 6 RX7 (some Jvm.ClassFile.FieldType.boolean) 2 42 0 0 "isBoth") {post : Int32 → Prop} {rc6 : Int32 → Int32 → Prop} {x0 : Nat} {x1 : Int64} {x3 : Int32} {x5 : Int32} {s0 : Int32} {σ : Hp} (hrc6 : ∀ (x4 : Int32) (x5 : Int32), rc6 x4 x5 → WG_ G p l e R s m args below meth c (MQ below (QI_ G (fun r τ => τ = σ ∧ post r)) args s 0 0 (FR_ G)) BN_ 6 6 [(0, rv_ x0), (1, .long x1), (3, .int x3), (4, .int x4), (5, .int x5)] [] σ) (hf : wX7_isBoth_L50 post rc6 x0 x1 x3 x5 s0 σ) : WG_ G p l e R s m args below meth c (MQ below (QI_ G (fun r τ => τ = σ ∧ post r)) args s 0 0 (FR_ G)) BN_ 6 50 [(0, rv_ x0), (1, .long x1), (3, .int x3), (5, .int x5)] [.int s0] σ := by
  have ⟨X, hlk, hr, hRf, hRl, hRc, hnm⟩ := Y
  have ⟨⟨hx, hb, _, hown, hts⟩, _, _⟩ := X
  intro H locs cells slots ls hP hL hB hl
  obtain ⟨rfl, rfl⟩ := hB
  unfold wX7_isBoth_L50 at hf
  refine p_istore (i := 4) hx hb dX7_isBoth_50 hl (by decide) ⟨⟨ne_ rfl, Or.inl (ne_ rfl)⟩, ⟨⟨ne_ rfl, Or.inl (ne_ rfl)⟩, ⟨⟨ne_ rfl, Or.inr rfl⟩, ⟨⟨ne_ rfl, Or.inl (ne_ rfl)⟩, trivial⟩⟩⟩⟩ (fun ls hl => ?_)
  have hl := lv_sub hl [4, 0, 1, 2, 3] rfl
  refine p_iincc (i := 5) (k := 1) hx hb (by decide) dX7_isBoth_52 hl (by decide) ⟨⟨ne_ rfl, Or.inr rfl⟩, ⟨⟨ne_ rfl, Or.inl (ne_ rfl)⟩, ⟨⟨ne_ rfl, Or.inl (ne_ rfl)⟩, ⟨⟨ne_ rfl, Or.inl (ne_ rfl)⟩, trivial⟩⟩⟩⟩ (fun y1 hy1 ls hl => ?_)
  have hf := hf y1 hy1
  refine lv_goto (tgt := 6) hx hb dX7_isBoth_55 (by decide) ?_
  exact hrc6 _ _ hf _ _ _ _ _ hP hL ⟨rfl, rfl⟩ (lv_sub hl [2, 3, 4, 1, 0] rfl)
set_option maxHeartbeats 4000000 in
theorem sX7_isBoth_L49 {G : GG_} {p : Program} {l : Launch} {e : Env} {R : Room} {s : State} {m : MethodId} {args : Array Value} {below : List Frame} {meth : Method} {c : Code} (Y : MX_ G p R s m args meth c cX7_isBoth 6 RX7 (some Jvm.ClassFile.FieldType.boolean) 2 42 0 0 "isBoth") {post : Int32 → Prop} {rc6 : Int32 → Int32 → Prop} {x0 : Nat} {x1 : Int64} {x3 : Int32} {x5 : Int32} {σ : Hp} (hrc6 : ∀ (x4 : Int32) (x5 : Int32), rc6 x4 x5 → WG_ G p l e R s m args below meth c (MQ below (QI_ G (fun r τ => τ = σ ∧ post r)) args s 0 0 (FR_ G)) BN_ 6 6 [(0, rv_ x0), (1, .long x1), (3, .int x3), (4, .int x4), (5, .int x5)] [] σ) (hf : wX7_isBoth_L49 post rc6 x0 x1 x3 x5 σ) : WG_ G p l e R s m args below meth c (MQ below (QI_ G (fun r τ => τ = σ ∧ post r)) args s 0 0 (FR_ G)) BN_ 6 49 [(0, rv_ x0), (1, .long x1), (3, .int x3), (5, .int x5)] [] σ := by
  have ⟨X, hlk, hr, hRf, hRl, hRc, hnm⟩ := Y
  have ⟨⟨hx, hb, _, hown, hts⟩, _, _⟩ := X
  intro H locs cells slots ls hP hL hB hl
  obtain ⟨rfl, rfl⟩ := hB
  unfold wX7_isBoth_L49 at hf
  refine lv_iconst (v := 0) hx hb dX7_isBoth_49 (by decide) ?_
  exact sX7_isBoth_L50 Y hrc6 hf _ _ _ _ _ hP hL ⟨rfl, rfl⟩ (lv_sub hl [0, 1, 2, 3] rfl)
set_option maxHeartbeats 4000000 in
theorem sX7_isBoth_B6 {G : GG_} {p : Program} {l : Launch} {e : Env} {R : Room} {s : State} {m : MethodId} {args : Array Value} {below : List Frame} {meth : Method} {c : Code} (Y : MX_ G p R s m args meth c cX7_isBoth 6 RX7 (some Jvm.ClassFile.FieldType.boolean) 2 42 0 0 "isBoth") {post : Int32 → Prop} {rc6 : Int32 → Int32 → Prop} {x0 : Nat} {x1 : Int64} {x3 : Int32} {x4 : Int32} {x5 : Int32} {σ : Hp} (hrc6 : ∀ (x4 : Int32) (x5 : Int32), rc6 x4 x5 → WG_ G p l e R s m args below meth c (MQ below (QI_ G (fun r τ => τ = σ ∧ post r)) args s 0 0 (FR_ G)) BN_ 6 6 [(0, rv_ x0), (1, .long x1), (3, .int x3), (4, .int x4), (5, .int x5)] [] σ) (hf : wX7_isBoth_B6 post rc6 x0 x1 x3 x4 x5 σ) : WG_ G p l e R s m args below meth c (MQ below (QI_ G (fun r τ => τ = σ ∧ post r)) args s 0 0 (FR_ G)) BN_ 6 6 [(0, rv_ x0), (1, .long x1), (3, .int x3), (4, .int x4), (5, .int x5)] [] σ := by
  have ⟨X, hlk, hr, hRf, hRl, hRc, hnm⟩ := Y
  have ⟨⟨hx, hb, _, hown, hts⟩, _, _⟩ := X
  intro H locs cells slots ls hP hL hB hl
  obtain ⟨rfl, rfl⟩ := hB
  unfold wX7_isBoth_B6 at hf
  refine lv_iload hx hb dX7_isBoth_6 (lv_at hl 4 rfl) ?_
  refine lv_iload_n hx hb dX7_isBoth_8 rfl (lv_at hl 2 rfl) ?_
  refine lv_icmp_ge (tgt := 58) hx hb dX7_isBoth_9 (by decide) (fun c2 => ?_) (fun c2 => ?_)
  · have hf := hf.1 c2
    refine lv_iload hx hb dX7_isBoth_58 (lv_at hl 3 rfl) ?_
    obtain ⟨hn3, hf⟩ := hf
    exact p_zret X hlk hP hL (Nat.le_refl _) (Nat.le_refl _) hr hn3 dX7_isBoth_60 ⟨rfl, hf⟩
  · have hf := hf.2 c2
    refine lv_iload hx hb dX7_isBoth_12 (lv_at hl 3 rfl) ?_
    refine lv_if_eq (tgt := 49) hx hb dX7_isBoth_14 (by decide) (fun c4 => ?_) (fun c4 => ?_)
    · have hf := hf.1 c4
      exact sX7_isBoth_L49 Y hrc6 hf _ _ _ _ _ hP hL ⟨rfl, rfl⟩ (lv_sub hl [0, 1, 2, 4] rfl)
    · have hf := hf.2 c4
      refine p_aload_n hx hb dX7_isBoth_17 rfl (lv_at hl 0 rfl) ?_
      refine lv_lload_n hx hb dX7_isBoth_18 rfl (lv_at hl 1 rfl) ?_
      refine lv_iload hx hb dX7_isBoth_19 (lv_at hl 4 rfl) ?_
      refine lv_i2l hx hb dX7_isBoth_21 rfl ?_
      refine lv_ladd hx hb dX7_isBoth_22 ?_
      obtain ⟨ht5, hf⟩ := hf
      refine p_calli hL (p_runV X cf6_ hP ht5 (metX7_at l G _ _ _ _ X.2.2 hf) (cwV 1 hts (lw_V q966 q967 q968 q104 q969) rfl rfl rfl (by decide +kernel) ⟨Nat.le_trans (Nat.le_of_ble_eq_true rfl) hRf, Nat.le_trans (Nat.le_of_ble_eq_true rfl) hRl⟩) rfl hl.1 rfl (by decide) dX7_isBoth_23 ⟨Nat.zero_le _, Nat.zero_le _⟩) (fun r6 σ₁ H locs hf hP hL => ?_)
      obtain ⟨e₁, hf⟩ := hf
      rw [e₁] at hP
      refine p_aload_n hx hb dX7_isBoth_26 rfl (lv_at hl 0 rfl) ?_
      refine lv_lload_n hx hb dX7_isBoth_27 rfl (lv_at hl 1 rfl) ?_
      refine lv_iconst (v := 2) hx hb dX7_isBoth_28 (by decide) ?_
      refine lv_iload_n hx hb dX7_isBoth_29 rfl (lv_at hl 2 rfl) ?_
      refine lv_imul hx hb dX7_isBoth_30 ?_
      refine lv_i2l hx hb dX7_isBoth_31 rfl ?_
      refine lv_ladd hx hb dX7_isBoth_32 ?_
      refine lv_lconst (v := 1) hx hb dX7_isBoth_33 (by decide) ?_
      refine lv_lsub hx hb dX7_isBoth_34 ?_
      refine lv_iload hx hb dX7_isBoth_35 (lv_at hl 4 rfl) ?_
      refine lv_i2l hx hb dX7_isBoth_37 rfl ?_
      refine lv_lsub hx hb dX7_isBoth_38 ?_
      refine p_calli hL (p_runV X cf6_ hP ht5 (metX7_at l G _ _ _ _ X.2.2 hf) (cwV 1 hts (lw_V q966 q967 q968 q104 q969) rfl rfl rfl (by decide +kernel) ⟨Nat.le_trans (Nat.le_of_ble_eq_true rfl) hRf, Nat.le_trans (Nat.le_of_ble_eq_true rfl) hRl⟩) rfl hl.1 rfl (by rw [(ca_i ca_n)]; decide) dX7_isBoth_39 ⟨Nat.zero_le _, Nat.zero_le _⟩) (fun r7 σ₁ H locs hf hP hL => ?_)
      obtain ⟨e₁, hf⟩ := hf
      rw [e₁] at hP
      refine lv_icmp_ne (tgt := 49) hx hb dX7_isBoth_42 (by decide) (fun c8 => ?_) (fun c8 => ?_)
      · have hf := hf.1 c8
        exact sX7_isBoth_L49 Y hrc6 hf _ _ _ _ _ hP hL ⟨rfl, rfl⟩ (lv_sub hl [0, 1, 2, 4] rfl)
      · have hf := hf.2 c8
        refine lv_iconst (v := 1) hx hb dX7_isBoth_45 (by decide) ?_
        refine lv_goto (tgt := 50) hx hb dX7_isBoth_46 (by decide) ?_
        exact sX7_isBoth_L50 Y hrc6 hf _ _ _ _ _ hP hL ⟨rfl, rfl⟩ (lv_sub hl [0, 1, 2, 4] rfl)
set_option maxHeartbeats 4000000 in
theorem sX7_isBoth_L6 {G : GG_} {p : Program} {l : Launch} {e : Env} {R : Room} {s : State} {m : MethodId} {args : Array Value} {below : List Frame} {meth : Method} {c : Code} (Y : MX_ G p R s m args meth c cX7_isBoth 6 RX7 (some Jvm.ClassFile.FieldType.boolean) 2 42 0 0 "isBoth") {post : Int32 → Prop} {x0 : Nat} {x1 : Int64} {x3 : Int32} {x4 : Int32} {x5 : Int32} {σ : Hp} (hf : wX7_isBoth_L6 post x0 x1 x3 x4 x5 σ) : WG_ G p l e R s m args below meth c (MQ below (QI_ G (fun r τ => τ = σ ∧ post r)) args s 0 0 (FR_ G)) BN_ 6 6 [(0, rv_ x0), (1, .long x1), (3, .int x3), (4, .int x4), (5, .int x5)] [] σ := by
  unfold wX7_isBoth_L6 at hf
  obtain ⟨I, μ, h0, hI⟩ := hf
  have key : ∀ (n : Nat) (x4 : Int32) (x5 : Int32), I x4 x5 → μ x4 x5 < n → WG_ G p l e R s m args below meth c (MQ below (QI_ G (fun r τ => τ = σ ∧ post r)) args s 0 0 (FR_ G)) BN_ 6 6 [(0, rv_ x0), (1, .long x1), (3, .int x3), (4, .int x4), (5, .int x5)] [] σ := by
    intro n
    induction n with
    | zero => intro x4 x5 _ h; exact absurd h (Nat.not_lt_zero _)
    | succ n ih => intro x4 x5 hi hn; exact sX7_isBoth_B6 Y (fun x4' x5' h => ih x4' x5' h.1 (Nat.lt_of_lt_of_le h.2 (Nat.le_of_lt_succ hn))) (hI x4 x5 hi)
  exact key _ _ _ h0 (Nat.lt_succ_self _)
set_option maxHeartbeats 4000000 in
theorem sX7_isBoth {G : GG_} {p : Program} {l : Launch} {e : Env} {R : Room} {s : State} {m : MethodId} {args : Array Value} {below : List Frame} {meth : Method} {c : Code} (Y : MX_ G p R s m args meth c cX7_isBoth 6 RX7 (some Jvm.ClassFile.FieldType.boolean) 2 42 0 0 "isBoth") {post : Int32 → Prop} {x0 : Nat} {x1 : Int64} {x3 : Int32} {σ : Hp} (hf : wX7_isBoth x0 x1 x3 σ post) : WG_ G p l e R s m args below meth c (MQ below (QI_ G (fun r τ => τ = σ ∧ post r)) args s 0 0 (FR_ G)) BN_ 6 0 [(0, rv_ x0), (1, .long x1), (3, .int x3)] [] σ := by
  have ⟨X, hlk, hr, hRf, hRl, hRc, hnm⟩ := Y
  have ⟨⟨hx, hb, _, hown, hts⟩, _, _⟩ := X
  intro H locs cells slots ls hP hL hB hl
  obtain ⟨rfl, rfl⟩ := hB
  unfold wX7_isBoth at hf
  refine lv_iconst (v := 1) hx hb dX7_isBoth_0 (by decide) ?_
  refine p_istore (i := 4) hx hb dX7_isBoth_1 hl (by decide) ⟨⟨ne_ rfl, Or.inl (ne_ rfl)⟩, ⟨⟨ne_ rfl, Or.inl (ne_ rfl)⟩, ⟨⟨ne_ rfl, Or.inr rfl⟩, trivial⟩⟩⟩ (fun ls hl => ?_)
  refine lv_iconst (v := 0) hx hb dX7_isBoth_3 (by decide) ?_
  refine p_istore (i := 5) hx hb dX7_isBoth_4 hl (by decide) ⟨⟨ne_ rfl, Or.inr rfl⟩, ⟨⟨ne_ rfl, Or.inl (ne_ rfl)⟩, ⟨⟨ne_ rfl, Or.inl (ne_ rfl)⟩, ⟨⟨ne_ rfl, Or.inl (ne_ rfl)⟩, trivial⟩⟩⟩⟩ (fun ls hl => ?_)
  exact sX7_isBoth_L6 Y hf _ _ _ _ _ hP hL ⟨rfl, rfl⟩ (lv_sub hl [2, 3, 4, 1, 0] rfl)
set_option maxHeartbeats 4000000 in
theorem metX7_isBoth (l : Launch) (G : GG_) (x0 : Nat) (x1 : Int64) (x3 : Int32) (σ : Hp) (post : Int32 → Prop) (hG : GOK_ G) (hf : wX7_isBoth x0 x1 x3 σ post) : Met l yX7_isBoth (ws_ yX7_isBoth cX7_isBoth 6 (some Jvm.ClassFile.FieldType.boolean)) { frames := 2, cells := 0, slots := 0, locals := 42 } (PC_ G [rv_ x0, .long x1, .int x3] σ) (QI_ G (fun r τ => τ = σ ∧ post r)) 0 0 (FR_ G) := by
  refine Met.ofW (cc := cX7_isBoth) (maxL := 6) (ret := (some Jvm.ClassFile.FieldType.boolean)) (by decide) rfl ?_
  intro p e s m args below meth c s₁ B hml hv
  obtain ⟨rfl, hP, hW⟩ := hv
  have hts := atoms_spec (ws := ws_ yX7_isBoth cX7_isBoth 6 (some Jvm.ClassFile.FieldType.boolean)) B.pre
  have hts : ∀ w ∈ lw_all, w.before _ s = true := fun w h => hts w (List.mem_cons_of_mem _ h)
  rw [lg_entry_eq]
  have hl := en_entry [rv_ x0, .long x1, .int x3] [1, 2, 1] (n := 6) (ca_r (ca_l (ca_i ca_n))) (by decide)
  exact sX7_isBoth ⟨⟨⟨B.exec, B.bytes, hml, findClass_of_methodNamed B.named, hts⟩, hW, hG⟩, B.notSynchronized, B.returns, Nat.le_refl _, Nat.le_refl _, ⟨rfl, rfl⟩, (name_of_methodNamed B.named B.method).1⟩ hf _ _ _ _ _ hP (LO_nil G) ⟨rfl, rfl⟩ hl
abbrev cX8_read : ByteArray := prog_8_method_5_code
def yX8_read : MethodName := ⟨RX8, "read", "(J)V"⟩
theorem dX8_read_0 : decode cX8_read 0 = .ok (.aload_n 0, 1) := by decide +kernel
theorem dX8_read_1 : decode cX8_read 1 = .ok (.lload_n 1, 1) := by decide +kernel
theorem dX8_read_2 : decode cX8_read 2 = .ok (.ldc2_w 53, 3) := by decide +kernel
theorem dX8_read_5 : decode cX8_read 5 = .ok (.ladd, 1) := by decide +kernel
theorem dX8_read_6 : decode cX8_read 6 = .ok (.putfield 55, 3) := by decide +kernel
theorem dX8_read_9 : decode cX8_read 9 = .ok (.aload_n 0, 1) := by decide +kernel
theorem dX8_read_10 : decode cX8_read 10 = .ok (.aload_n 0, 1) := by decide +kernel
theorem dX8_read_11 : decode cX8_read 11 = .ok (.getfield 28, 3) := by decide +kernel
theorem dX8_read_14 : decode cX8_read 14 = .ok (.lload_n 1, 1) := by decide +kernel
theorem dX8_read_15 : decode cX8_read 15 = .ok (.ldc2_w 59, 3) := by decide +kernel
theorem dX8_read_18 : decode cX8_read 18 = .ok (.ladd, 1) := by decide +kernel
theorem dX8_read_19 : decode cX8_read 19 = .ok (.invokevirtual 39, 3) := by decide +kernel
theorem dX8_read_22 : decode cX8_read 22 = .ok (.putfield 61, 3) := by decide +kernel
theorem dX8_read_25 : decode cX8_read 25 = .ok (.return_, 1) := by decide +kernel
/-- WriteOnceDisc$Reader.read(J)V -/
def wX8_read (x0 : Nat) (x1 : Int64) (σ : Hp) (post : Hp → Prop) : Prop :=
(tg_ σ x0 = 8 ∧ (∀ σ2, σ2 = sL_ σ 7 4 x0 (x1 + (33 : Int64)) → (tg_ σ2 (fR_ σ2 7 3 x0) = 7 ∧ (wX7_at (fR_ σ2 7 3 x0) (x1 + (32 : Int64)) σ2 (fun r4 => (∀ σ5, σ5 = sI_ σ2 7 6 x0 r4 → post σ5))))))
set_option maxHeartbeats 4000000 in
theorem sX8_read {G : GG_} {p : Program} {l : Launch} {e : Env} {R : Room} {s : State} {m : MethodId} {args : Array Value} {below : List Frame} {meth : Method} {c : Code} (Y : MX_ G p R s m args meth c cX8_read 3 RX8 none 2 42 0 0 "read") {post : Hp → Prop} {x0 : Nat} {x1 : Int64} {σ : Hp} (hf : wX8_read x0 x1 σ post) : WG_ G p l e R s m args below meth c (MQ below (QV_ G post) args s 0 0 (FR_ G)) BN_ 3 0 [(0, rv_ x0), (1, .long x1)] [] σ := by
  have ⟨X, hlk, hr, hRf, hRl, hRc, hnm⟩ := Y
  have ⟨⟨hx, hb, _, hown, hts⟩, _, _⟩ := X
  intro H locs cells slots ls hP hL hB hl
  obtain ⟨rfl, rfl⟩ := hB
  unfold wX8_read at hf
  refine p_aload_n hx hb dX8_read_0 rfl (lv_at hl 0 rfl) ?_
  refine lv_lload_n hx hb dX8_read_1 rfl (lv_at hl 1 rfl) ?_
  refine lv_ldc2 hx hb hown (hts _ q1034) dX8_read_2 ?_
  refine lv_ladd hx hb dX8_read_5 ?_
  obtain ⟨ht1, hf⟩ := hf
  refine p_pL X cf7_ (k := 4) (by decide) rfl hP hL ht1 (p_ow hP ht1 rfl) q595 (fun _ h => h) (Or.inl rfl) rfl rfl dX8_read_6 (fun H locs hP hL => ?_)
  refine p_nmP hP (fun σ2 hσ2 hP => ?_)
  have hf := hf σ2 hσ2
  have ht1 : tg_ σ2 x0 = 8 := by rw [hσ2]; exact ht1
  refine p_aload_n hx hb dX8_read_9 rfl (lv_at hl 0 rfl) ?_
  refine p_aload_n hx hb dX8_read_10 rfl (lv_at hl 0 rfl) ?_
  refine p_gR X cf7_ (k := 3) (by decide) rfl hP ht1 q594 (fun _ h => h) dX8_read_11 ?_
  refine lv_lload_n hx hb dX8_read_14 rfl (lv_at hl 1 rfl) ?_
  refine lv_ldc2 hx hb hown (hts _ q1025) dX8_read_15 ?_
  refine lv_ladd hx hb dX8_read_18 ?_
  obtain ⟨ht3, hf⟩ := hf
  refine p_calli hL (p_runV X cf6_ hP ht3 (metX7_at l G _ _ _ _ X.2.2 hf) (cwV 1 hts (lw_V q1004 q967 q968 q104 q969) rfl rfl rfl (by decide +kernel) ⟨Nat.le_trans (Nat.le_of_ble_eq_true rfl) hRf, Nat.le_trans (Nat.le_of_ble_eq_true rfl) hRl⟩) rfl hl.1 rfl (by rw [(ca_r ca_n)]; decide) dX8_read_19 ⟨Nat.zero_le _, Nat.zero_le _⟩) (fun r4 σ₁ H locs hf hP hL => ?_)
  obtain ⟨e₁, hf⟩ := hf
  rw [e₁] at hP
  refine p_pI X cf7_ (k := 6) (by decide) rfl hP hL ht1 (p_ow hP ht1 rfl) q597 (fun _ h => h) (Or.inl rfl) rfl rfl dX8_read_22 (fun H locs hP hL => ?_)
  refine p_nmP hP (fun σ5 hσ5 hP => ?_)
  have hf := hf σ5 hσ5
  have ht1 : tg_ σ5 x0 = 8 := by rw [hσ5]; exact ht1
  exact p_vret X hlk hP hL (Nat.le_refl _) (Nat.le_refl _) hr dX8_read_25 hf
set_option maxHeartbeats 4000000 in
theorem metX8_read (l : Launch) (G : GG_) (x0 : Nat) (x1 : Int64) (σ : Hp) (post : Hp → Prop) (hG : GOK_ G) (hf : wX8_read x0 x1 σ post) : Met l yX8_read (ws_ yX8_read cX8_read 3 none) { frames := 2, cells := 0, slots := 0, locals := 42 } (PC_ G [rv_ x0, .long x1] σ) (QV_ G post) 0 0 (FR_ G) := by
  refine Met.ofW (cc := cX8_read) (maxL := 3) (ret := none) (by decide) rfl ?_
  intro p e s m args below meth c s₁ B hml hv
  obtain ⟨rfl, hP, hW⟩ := hv
  have hts := atoms_spec (ws := ws_ yX8_read cX8_read 3 none) B.pre
  have hts : ∀ w ∈ lw_all, w.before _ s = true := fun w h => hts w (List.mem_cons_of_mem _ h)
  rw [lg_entry_eq]
  have hl := en_entry [rv_ x0, .long x1] [1, 2] (n := 3) (ca_r (ca_l ca_n)) (by decide)
  exact sX8_read ⟨⟨⟨B.exec, B.bytes, hml, findClass_of_methodNamed B.named, hts⟩, hW, hG⟩, B.notSynchronized, B.returns, Nat.le_refl _, Nat.le_refl _, ⟨rfl, rfl⟩, (name_of_methodNamed B.named B.method).1⟩ hf _ _ _ _ _ hP (LO_nil G) ⟨rfl, rfl⟩ hl
abbrev cX8_letter : ByteArray := prog_8_method_6_code
def yX8_letter : MethodName := ⟨RX8, "letter", "(I)I"⟩
theorem dX8_letter_0 : decode cX8_letter 0 = .ok (.aload_n 0, 1) := by decide +kernel
theorem dX8_letter_1 : decode cX8_letter 1 = .ok (.getfield 28, 3) := by decide +kernel
theorem dX8_letter_4 : decode cX8_letter 4 = .ok (.aload_n 0, 1) := by decide +kernel
theorem dX8_letter_5 : decode cX8_letter 5 = .ok (.getfield 55, 3) := by decide +kernel
theorem dX8_letter_8 : decode cX8_letter 8 = .ok (.iload_n 1, 1) := by decide +kernel
theorem dX8_letter_9 : decode cX8_letter 9 = .ok (.i2l, 1) := by decide +kernel
theorem dX8_letter_10 : decode cX8_letter 10 = .ok (.ladd, 1) := by decide +kernel
theorem dX8_letter_11 : decode cX8_letter 11 = .ok (.invokevirtual 39, 3) := by decide +kernel
theorem dX8_letter_14 : decode cX8_letter 14 = .ok (.ireturn, 1) := by decide +kernel
/-- WriteOnceDisc$Reader.letter(I)I -/
def wX8_letter (x0 : Nat) (x1 : Int32) (σ : Hp) (post : Int32 → Prop) : Prop :=
(tg_ σ x0 = 8 ∧ (tg_ σ (fR_ σ 7 3 x0) = 7 ∧ (wX7_at (fR_ σ 7 3 x0) ((fL_ σ 7 4 x0) + (x1).toInt64) σ (fun r3 => post r3))))
set_option maxHeartbeats 4000000 in
theorem sX8_letter {G : GG_} {p : Program} {l : Launch} {e : Env} {R : Room} {s : State} {m : MethodId} {args : Array Value} {below : List Frame} {meth : Method} {c : Code} (Y : MX_ G p R s m args meth c cX8_letter 2 RX8 (some Jvm.ClassFile.FieldType.int) 2 42 0 0 "letter") {post : Int32 → Prop} {x0 : Nat} {x1 : Int32} {σ : Hp} (hf : wX8_letter x0 x1 σ post) : WG_ G p l e R s m args below meth c (MQ below (QI_ G (fun r τ => τ = σ ∧ post r)) args s 0 0 (FR_ G)) BN_ 2 0 [(0, rv_ x0), (1, .int x1)] [] σ := by
  have ⟨X, hlk, hr, hRf, hRl, hRc, hnm⟩ := Y
  have ⟨⟨hx, hb, _, hown, hts⟩, _, _⟩ := X
  intro H locs cells slots ls hP hL hB hl
  obtain ⟨rfl, rfl⟩ := hB
  unfold wX8_letter at hf
  refine p_aload_n hx hb dX8_letter_0 rfl (lv_at hl 0 rfl) ?_
  obtain ⟨ht1, hf⟩ := hf
  refine p_gR X cf7_ (k := 3) (by decide) rfl hP ht1 q594 (fun _ h => h) dX8_letter_1 ?_
  refine p_aload_n hx hb dX8_letter_4 rfl (lv_at hl 0 rfl) ?_
  refine p_gL X cf7_ (k := 4) (by decide) rfl hP ht1 q595 (fun _ h => h) dX8_letter_5 ?_
  refine lv_iload_n hx hb dX8_letter_8 rfl (lv_at hl 1 rfl) ?_
  refine lv_i2l hx hb dX8_letter_9 rfl ?_
  refine lv_ladd hx hb dX8_letter_10 ?_
  obtain ⟨ht2, hf⟩ := hf
  refine p_calli hL (p_runV X cf6_ hP ht2 (metX7_at l G _ _ _ _ X.2.2 hf) (cwV 1 hts (lw_V q1004 q967 q968 q104 q969) rfl rfl rfl (by decide +kernel) ⟨Nat.le_trans (Nat.le_of_ble_eq_true rfl) hRf, Nat.le_trans (Nat.le_of_ble_eq_true rfl) hRl⟩) rfl hl.1 rfl (by decide) dX8_letter_11 ⟨Nat.zero_le _, Nat.zero_le _⟩) (fun r3 σ₁ H locs hf hP hL => ?_)
  obtain ⟨e₁, hf⟩ := hf
  rw [e₁] at hP
  exact p_iret X hlk hP hL (Nat.le_refl _) (Nat.le_refl _) hr dX8_letter_14 ⟨rfl, hf⟩
set_option maxHeartbeats 4000000 in
theorem metX8_letter (l : Launch) (G : GG_) (x0 : Nat) (x1 : Int32) (σ : Hp) (post : Int32 → Prop) (hG : GOK_ G) (hf : wX8_letter x0 x1 σ post) : Met l yX8_letter (ws_ yX8_letter cX8_letter 2 (some Jvm.ClassFile.FieldType.int)) { frames := 2, cells := 0, slots := 0, locals := 42 } (PC_ G [rv_ x0, .int x1] σ) (QI_ G (fun r τ => τ = σ ∧ post r)) 0 0 (FR_ G) := by
  refine Met.ofW (cc := cX8_letter) (maxL := 2) (ret := (some Jvm.ClassFile.FieldType.int)) (by decide) rfl ?_
  intro p e s m args below meth c s₁ B hml hv
  obtain ⟨rfl, hP, hW⟩ := hv
  have hts := atoms_spec (ws := ws_ yX8_letter cX8_letter 2 (some Jvm.ClassFile.FieldType.int)) B.pre
  have hts : ∀ w ∈ lw_all, w.before _ s = true := fun w h => hts w (List.mem_cons_of_mem _ h)
  rw [lg_entry_eq]
  have hl := en_entry [rv_ x0, .int x1] [1, 1] (n := 2) (ca_r (ca_i ca_n)) (by decide)
  exact sX8_letter ⟨⟨⟨B.exec, B.bytes, hml, findClass_of_methodNamed B.named, hts⟩, hW, hG⟩, B.notSynchronized, B.returns, Nat.le_refl _, Nat.le_refl _, ⟨rfl, rfl⟩, (name_of_methodNamed B.named B.method).1⟩ hf _ _ _ _ _ hP (LO_nil G) ⟨rfl, rfl⟩ hl
abbrev cX8_isPlain : ByteArray := prog_8_method_7_code
def yX8_isPlain : MethodName := ⟨RX8, "isPlain", "(I)Z"⟩
theorem dX8_isPlain_0 : decode cX8_isPlain 0 = .ok (.iload_n 1, 1) := by decide +kernel
theorem dX8_isPlain_1 : decode cX8_isPlain 1 = .ok (.ifCond .le 13, 3) := by decide +kernel
theorem dX8_isPlain_4 : decode cX8_isPlain 4 = .ok (.iload_n 1, 1) := by decide +kernel
theorem dX8_isPlain_5 : decode cX8_isPlain 5 = .ok (.bipush 9, 2) := by decide +kernel
theorem dX8_isPlain_7 : decode cX8_isPlain 7 = .ok (.if_icmp .ge 7, 3) := by decide +kernel
theorem dX8_isPlain_10 : decode cX8_isPlain 10 = .ok (.iconst 1, 1) := by decide +kernel
theorem dX8_isPlain_11 : decode cX8_isPlain 11 = .ok (.goto 4, 3) := by decide +kernel
theorem dX8_isPlain_14 : decode cX8_isPlain 14 = .ok (.iconst 0, 1) := by decide +kernel
theorem dX8_isPlain_15 : decode cX8_isPlain 15 = .ok (.istore_n 2, 1) := by decide +kernel
theorem dX8_isPlain_16 : decode cX8_isPlain 16 = .ok (.iconst 0, 1) := by decide +kernel
theorem dX8_isPlain_17 : decode cX8_isPlain 17 = .ok (.istore_n 3, 1) := by decide +kernel
theorem dX8_isPlain_18 : decode cX8_isPlain 18 = .ok (.iload_n 3, 1) := by decide +kernel
theorem dX8_isPlain_19 : decode cX8_isPlain 19 = .ok (.iload_n 1, 1) := by decide +kernel
theorem dX8_isPlain_20 : decode cX8_isPlain 20 = .ok (.if_icmp .ge 22, 3) := by decide +kernel
theorem dX8_isPlain_23 : decode cX8_isPlain 23 = .ok (.iload_n 2, 1) := by decide +kernel
theorem dX8_isPlain_24 : decode cX8_isPlain 24 = .ok (.ifCond .eq 18, 3) := by decide +kernel
theorem dX8_isPlain_27 : decode cX8_isPlain 27 = .ok (.aload_n 0, 1) := by decide +kernel
theorem dX8_isPlain_28 : decode cX8_isPlain 28 = .ok (.iload_n 3, 1) := by decide +kernel
theorem dX8_isPlain_29 : decode cX8_isPlain 29 = .ok (.invokevirtual 64, 3) := by decide +kernel
theorem dX8_isPlain_32 : decode cX8_isPlain 32 = .ok (.invokestatic 68, 3) := by decide +kernel
theorem dX8_isPlain_35 : decode cX8_isPlain 35 = .ok (.istore_n 2, 1) := by decide +kernel
theorem dX8_isPlain_36 : decode cX8_isPlain 36 = .ok (.iinc 3 1, 3) := by decide +kernel
theorem dX8_isPlain_39 : decode cX8_isPlain 39 = .ok (.goto (-21), 3) := by decide +kernel
theorem dX8_isPlain_42 : decode cX8_isPlain 42 = .ok (.iload_n 2, 1) := by decide +kernel
theorem dX8_isPlain_43 : decode cX8_isPlain 43 = .ok (.ireturn, 1) := by decide +kernel
/-- WriteOnceDisc$Reader.isPlain(I)Z -/
def wX8_isPlain_B18 (post : Int32 → Prop) (rc18 : Int32 → Int32 → Prop) (x0 : Nat) (x1 : Int32) (x2 : Int32) (x3 : Int32) (σ : Hp) : Prop :=
((x1 ≤ x3 →
  (nr_ .boolean x2 ∧ post x2)) ∧
 (¬ x1 ≤ x3 →
  ((x2 = 0 →
   (nr_ .boolean x2 ∧ post x2)) ∧
  (¬ x2 = 0 →
   (tg_ σ x0 = 8 ∧ (wX8_letter x0 x3 σ (fun r6 => (wX1_isName r6 σ (fun r7 => (∀ y8 : Int32, y8 = x3 + 1 → rc18 r7 y8))))))))))
def wX8_isPlain_L18 (post : Int32 → Prop) (x0 : Nat) (x1 : Int32) (x2 : Int32) (x3 : Int32) (σ : Hp) : Prop :=
 ∃ (I : Int32 → Int32 → Prop) (μ : Int32 → Int32 → Nat), I x2 x3 ∧ ∀ (x2 : Int32) (x3 : Int32), I x2 x3 → wX8_isPlain_B18 post (fun x2' x3' => I x2' x3' ∧ μ x2' x3' < μ x2 x3) x0 x1 x2 x3 σ
def wX8_isPlain_L15 (post : Int32 → Prop) (x0 : Nat) (x1 : Int32) (s0 : Int32) (σ : Hp) : Prop :=
wX8_isPlain_L18 post x0 x1 s0 (0 : Int32) σ
def wX8_isPlain_L14 (post : Int32 → Prop) (x0 : Nat) (x1 : Int32) (σ : Hp) : Prop :=
wX8_isPlain_L15 post x0 x1 (0 : Int32) σ
def wX8_isPlain (x0 : Nat) (x1 : Int32) (σ : Hp) (post : Int32 → Prop) : Prop :=
((x1 ≤ 0 →
  wX8_isPlain_L14 post x0 x1 σ) ∧
 (¬ x1 ≤ 0 →
  (((9 : Int32) ≤ x1 →
   wX8_isPlain_L14 post x0 x1 σ) ∧
  (¬ (9 : Int32) ≤ x1 →
   wX8_isPlain_L15 post x0 x1 (1 : Int32) σ))))
set_option maxHeartbeats 4000000 in
theorem sX8_isPlain_B18 {G : GG_} {p : Program} {l : Launch} {e : Env} {R : Room} {s : State} {m : MethodId} {args : Array Value} {below : List Frame} {meth : Method} {c : Code} (Y : MX_ G p R s m args meth c cX8_isPlain 4 RX8 (some Jvm.ClassFile.FieldType.boolean) 3 63 0 0 "isPlain") {post : Int32 → Prop} {rc18 : Int32 → Int32 → Prop} {x0 : Nat} {x1 : Int32} {x2 : Int32} {x3 : Int32} {σ : Hp} (hrc18 : ∀ (x2 : Int32) (x3 : Int32), rc18 x2 x3 → WG_ G p l e R s m args below meth c (MQ below (QI_ G (fun r τ => τ = σ ∧ post r)) args s 0 0 (FR_ G)) BN_ 4 18 [(0, rv_ x0), (1, .int x1), (2, .int x2), (3, .int x3)] [] σ) (hf : wX8_isPlain_B18 post rc18 x0 x1 x2 x3 σ) : WG_ G p l e R s m args below meth c (MQ below (QI_ G (fun r τ => τ = σ ∧ post r)) args s 0 0 (FR_ G)) BN_ 4 18 [(0, rv_ x0), (1, .int x1), (2, .int x2), (3, .int x3)] [] σ := by
  have ⟨X, hlk, hr, hRf, hRl, hRc, hnm⟩ := Y
  have ⟨⟨hx, hb, _, hown, hts⟩, _, _⟩ := X
  intro H locs cells slots ls hP hL hB hl
  obtain ⟨rfl, rfl⟩ := hB
  unfold wX8_isPlain_B18 at hf
  refine lv_iload_n hx hb dX8_isPlain_18 rfl (lv_at hl 3 rfl) ?_
  refine lv_iload_n hx hb dX8_isPlain_19 rfl (lv_at hl 1 rfl) ?_
  refine lv_icmp_ge (tgt := 42) hx hb dX8_isPlain_20 (by decide) (fun c1 => ?_) (fun c1 => ?_)
  · have hf := hf.1 c1
    refine lv_iload_n hx hb dX8_isPlain_42 rfl (lv_at hl 2 rfl) ?_
    obtain ⟨hn2, hf⟩ := hf
    exact p_zret X hlk hP hL (Nat.le_refl _) (Nat.le_refl _) hr hn2 dX8_isPlain_43 ⟨rfl, hf⟩
  · have hf := hf.2 c1
    refine lv_iload_n hx hb dX8_isPlain_23 rfl (lv_at hl 2 rfl) ?_
    refine lv_if_eq (tgt := 42) hx hb dX8_isPlain_24 (by decide) (fun c3 => ?_) (fun c3 => ?_)
    · have hf := hf.1 c3
      refine lv_iload_n hx hb dX8_isPlain_42 rfl (lv_at hl 2 rfl) ?_
      obtain ⟨hn4, hf⟩ := hf
      exact p_zret X hlk hP hL (Nat.le_refl _) (Nat.le_refl _) hr hn4 dX8_isPlain_43 ⟨rfl, hf⟩
    · have hf := hf.2 c3
      refine p_aload_n hx hb dX8_isPlain_27 rfl (lv_at hl 0 rfl) ?_
      refine lv_iload_n hx hb dX8_isPlain_28 rfl (lv_at hl 3 rfl) ?_
      obtain ⟨ht5, hf⟩ := hf
      refine p_calli hL (p_runV X cf7_ hP ht5 (metX8_letter l G _ _ _ _ X.2.2 hf) (cwV 1 hts (lw_V q1039 q1041 qs26 q105 q1042) rfl rfl rfl (by decide +kernel) ⟨Nat.le_trans (Nat.le_of_ble_eq_true rfl) hRf, Nat.le_trans (Nat.le_of_ble_eq_true rfl) hRl⟩) rfl hl.1 rfl (by decide) dX8_isPlain_29 ⟨Nat.zero_le _, Nat.zero_le _⟩) (fun r6 σ₁ H locs hf hP hL => ?_)
      obtain ⟨e₁, hf⟩ := hf
      rw [e₁] at hP
      refine p_calli hL (p_runSN X hP (metX1_isName l G _ _ _ X.2.2 hf) ⟨va_cnB 1 hts (lw_meth q682) rfl rfl rfl (p_nest X q1047) (hts _ q85) (by decide +kernel) ⟨Nat.le_trans (Nat.le_of_ble_eq_true rfl) hRf, Nat.le_trans (Nat.le_of_ble_eq_true rfl) hRl⟩, hts _ q681, trivial⟩ rfl hl.1 rfl (by decide) dX8_isPlain_32 ⟨Nat.zero_le _, Nat.zero_le _⟩) (fun r7 σ₁ H locs hf hP hL => ?_)
      obtain ⟨e₁, hf⟩ := hf
      rw [e₁] at hP
      have hl := lv_sub hl [0, 1, 3] rfl
      refine p_istore_n (i := 2) hx hb dX8_isPlain_35 rfl hl (by decide) ⟨⟨ne_ rfl, Or.inl (ne_ rfl)⟩, ⟨⟨ne_ rfl, Or.inr rfl⟩, ⟨⟨ne_ rfl, Or.inl (ne_ rfl)⟩, trivial⟩⟩⟩ (fun ls hl => ?_)
      have hl := lv_sub hl [3, 0, 1, 2] rfl
      refine p_iincc (i := 3) (k := 1) hx hb (by decide) dX8_isPlain_36 hl (by decide) ⟨⟨ne_ rfl, Or.inr rfl⟩, ⟨⟨ne_ rfl, Or.inl (ne_ rfl)⟩, ⟨⟨ne_ rfl, Or.inl (ne_ rfl)⟩, trivial⟩⟩⟩ (fun y8 hy8 ls hl => ?_)
      have hf := hf y8 hy8
      refine lv_goto (tgt := 18) hx hb dX8_isPlain_39 (by decide) ?_
      exact hrc18 _ _ hf _ _ _ _ _ hP hL ⟨rfl, rfl⟩ (lv_sub hl [2, 3, 1, 0] rfl)
set_option maxHeartbeats 4000000 in
theorem sX8_isPlain_L18 {G : GG_} {p : Program} {l : Launch} {e : Env} {R : Room} {s : State} {m : MethodId} {args : Array Value} {below : List Frame} {meth : Method} {c : Code} (Y : MX_ G p R s m args meth c cX8_isPlain 4 RX8 (some Jvm.ClassFile.FieldType.boolean) 3 63 0 0 "isPlain") {post : Int32 → Prop} {x0 : Nat} {x1 : Int32} {x2 : Int32} {x3 : Int32} {σ : Hp} (hf : wX8_isPlain_L18 post x0 x1 x2 x3 σ) : WG_ G p l e R s m args below meth c (MQ below (QI_ G (fun r τ => τ = σ ∧ post r)) args s 0 0 (FR_ G)) BN_ 4 18 [(0, rv_ x0), (1, .int x1), (2, .int x2), (3, .int x3)] [] σ := by
  unfold wX8_isPlain_L18 at hf
  obtain ⟨I, μ, h0, hI⟩ := hf
  have key : ∀ (n : Nat) (x2 : Int32) (x3 : Int32), I x2 x3 → μ x2 x3 < n → WG_ G p l e R s m args below meth c (MQ below (QI_ G (fun r τ => τ = σ ∧ post r)) args s 0 0 (FR_ G)) BN_ 4 18 [(0, rv_ x0), (1, .int x1), (2, .int x2), (3, .int x3)] [] σ := by
    intro n
    induction n with
    | zero => intro x2 x3 _ h; exact absurd h (Nat.not_lt_zero _)
    | succ n ih => intro x2 x3 hi hn; exact sX8_isPlain_B18 Y (fun x2' x3' h => ih x2' x3' h.1 (Nat.lt_of_lt_of_le h.2 (Nat.le_of_lt_succ hn))) (hI x2 x3 hi)
  exact key _ _ _ h0 (Nat.lt_succ_self _)
set_option maxHeartbeats 4000000 in
theorem sX8_isPlain_L15 {G : GG_} {p : Program} {l : Launch} {e : Env} {R : Room} {s : State} {m : MethodId} {args : Array Value} {below : List Frame} {meth : Method} {c : Code} (Y : MX_ G p R s m args meth c cX8_isPlain 4 RX8 (some Jvm.ClassFile.FieldType.boolean) 3 63 0 0 "isPlain") {post : Int32 → Prop} {x0 : Nat} {x1 : Int32} {s0 : Int32} {σ : Hp} (hf : wX8_isPlain_L15 post x0 x1 s0 σ) : WG_ G p l e R s m args below meth c (MQ below (QI_ G (fun r τ => τ = σ ∧ post r)) args s 0 0 (FR_ G)) BN_ 4 15 [(0, rv_ x0), (1, .int x1)] [.int s0] σ := by
  have ⟨X, hlk, hr, hRf, hRl, hRc, hnm⟩ := Y
  have ⟨⟨hx, hb, _, hown, hts⟩, _, _⟩ := X
  intro H locs cells slots ls hP hL hB hl
  obtain ⟨rfl, rfl⟩ := hB
  unfold wX8_isPlain_L15 at hf
  refine p_istore_n (i := 2) hx hb dX8_isPlain_15 rfl hl (by decide) ⟨⟨ne_ rfl, Or.inl (ne_ rfl)⟩, ⟨⟨ne_ rfl, Or.inr rfl⟩, trivial⟩⟩ (fun ls hl => ?_)
  refine lv_iconst (v := 0) hx hb dX8_isPlain_16 (by decide) ?_
  refine p_istore_n (i := 3) hx hb dX8_isPlain_17 rfl hl (by decide) ⟨⟨ne_ rfl, Or.inr rfl⟩, ⟨⟨ne_ rfl, Or.inl (ne_ rfl)⟩, ⟨⟨ne_ rfl, Or.inl (ne_ rfl)⟩, trivial⟩⟩⟩ (fun ls hl => ?_)
  exact sX8_isPlain_L18 Y hf _ _ _ _ _ hP hL ⟨rfl, rfl⟩ (lv_sub hl [2, 3, 1, 0] rfl)
set_option maxHeartbeats 4000000 in
theorem sX8_isPlain_L14 {G : GG_} {p : Program} {l : Launch} {e : Env} {R : Room} {s : State} {m : MethodId} {args : Array Value} {below : List Frame} {meth : Method} {c : Code} (Y : MX_ G p R s m args meth c cX8_isPlain 4 RX8 (some Jvm.ClassFile.FieldType.boolean) 3 63 0 0 "isPlain") {post : Int32 → Prop} {x0 : Nat} {x1 : Int32} {σ : Hp} (hf : wX8_isPlain_L14 post x0 x1 σ) : WG_ G p l e R s m args below meth c (MQ below (QI_ G (fun r τ => τ = σ ∧ post r)) args s 0 0 (FR_ G)) BN_ 4 14 [(0, rv_ x0), (1, .int x1)] [] σ := by
  have ⟨X, hlk, hr, hRf, hRl, hRc, hnm⟩ := Y
  have ⟨⟨hx, hb, _, hown, hts⟩, _, _⟩ := X
  intro H locs cells slots ls hP hL hB hl
  obtain ⟨rfl, rfl⟩ := hB
  unfold wX8_isPlain_L14 at hf
  refine lv_iconst (v := 0) hx hb dX8_isPlain_14 (by decide) ?_
  exact sX8_isPlain_L15 Y hf _ _ _ _ _ hP hL ⟨rfl, rfl⟩ (lv_sub hl [0, 1] rfl)
set_option maxHeartbeats 4000000 in
theorem sX8_isPlain {G : GG_} {p : Program} {l : Launch} {e : Env} {R : Room} {s : State} {m : MethodId} {args : Array Value} {below : List Frame} {meth : Method} {c : Code} (Y : MX_ G p R s m args meth c cX8_isPlain 4 RX8 (some Jvm.ClassFile.FieldType.boolean) 3 63 0 0 "isPlain") {post : Int32 → Prop} {x0 : Nat} {x1 : Int32} {σ : Hp} (hf : wX8_isPlain x0 x1 σ post) : WG_ G p l e R s m args below meth c (MQ below (QI_ G (fun r τ => τ = σ ∧ post r)) args s 0 0 (FR_ G)) BN_ 4 0 [(0, rv_ x0), (1, .int x1)] [] σ := by
  have ⟨X, hlk, hr, hRf, hRl, hRc, hnm⟩ := Y
  have ⟨⟨hx, hb, _, hown, hts⟩, _, _⟩ := X
  intro H locs cells slots ls hP hL hB hl
  obtain ⟨rfl, rfl⟩ := hB
  unfold wX8_isPlain at hf
  refine lv_iload_n hx hb dX8_isPlain_0 rfl (lv_at hl 1 rfl) ?_
  refine lv_if_le (tgt := 14) hx hb dX8_isPlain_1 (by decide) (fun c9 => ?_) (fun c9 => ?_)
  · have hf := hf.1 c9
    exact sX8_isPlain_L14 Y hf _ _ _ _ _ hP hL ⟨rfl, rfl⟩ (lv_sub hl [0, 1] rfl)
  · have hf := hf.2 c9
    refine lv_iload_n hx hb dX8_isPlain_4 rfl (lv_at hl 1 rfl) ?_
    refine lv_bipush (v := 9) hx hb dX8_isPlain_5 (by decide) ?_
    refine lv_icmp_ge (tgt := 14) hx hb dX8_isPlain_7 (by decide) (fun c10 => ?_) (fun c10 => ?_)
    · have hf := hf.1 c10
      exact sX8_isPlain_L14 Y hf _ _ _ _ _ hP hL ⟨rfl, rfl⟩ (lv_sub hl [0, 1] rfl)
    · have hf := hf.2 c10
      refine lv_iconst (v := 1) hx hb dX8_isPlain_10 (by decide) ?_
      refine lv_goto (tgt := 15) hx hb dX8_isPlain_11 (by decide) ?_
      exact sX8_isPlain_L15 Y hf _ _ _ _ _ hP hL ⟨rfl, rfl⟩ (lv_sub hl [0, 1] rfl)
set_option maxHeartbeats 4000000 in
theorem metX8_isPlain (l : Launch) (G : GG_) (x0 : Nat) (x1 : Int32) (σ : Hp) (post : Int32 → Prop) (hG : GOK_ G) (hf : wX8_isPlain x0 x1 σ post) : Met l yX8_isPlain (ws_ yX8_isPlain cX8_isPlain 4 (some Jvm.ClassFile.FieldType.boolean)) { frames := 3, cells := 0, slots := 0, locals := 63 } (PC_ G [rv_ x0, .int x1] σ) (QI_ G (fun r τ => τ = σ ∧ post r)) 0 0 (FR_ G) := by
  refine Met.ofW (cc := cX8_isPlain) (maxL := 4) (ret := (some Jvm.ClassFile.FieldType.boolean)) (by decide) rfl ?_
  intro p e s m args below meth c s₁ B hml hv
  obtain ⟨rfl, hP, hW⟩ := hv
  have hts := atoms_spec (ws := ws_ yX8_isPlain cX8_isPlain 4 (some Jvm.ClassFile.FieldType.boolean)) B.pre
  have hts : ∀ w ∈ lw_all, w.before _ s = true := fun w h => hts w (List.mem_cons_of_mem _ h)
  rw [lg_entry_eq]
  have hl := en_entry [rv_ x0, .int x1] [1, 1] (n := 4) (ca_r (ca_i ca_n)) (by decide)
  exact sX8_isPlain ⟨⟨⟨B.exec, B.bytes, hml, findClass_of_methodNamed B.named, hts⟩, hW, hG⟩, B.notSynchronized, B.returns, Nat.le_refl _, Nat.le_refl _, ⟨rfl, rfl⟩, (name_of_methodNamed B.named B.method).1⟩ hf _ _ _ _ _ hP (LO_nil G) ⟨rfl, rfl⟩ hl
abbrev cX8_isIdentifier : ByteArray := prog_8_method_10_code
def yX8_isIdentifier : MethodName := ⟨RX8, "isIdentifier", "(I)Z"⟩
theorem dX8_isIdentifier_0 : decode cX8_isIdentifier 0 = .ok (.aload_n 0, 1) := by decide +kernel
theorem dX8_isIdentifier_1 : decode cX8_isIdentifier 1 = .ok (.getfield 61, 3) := by decide +kernel
theorem dX8_isIdentifier_4 : decode cX8_isIdentifier 4 = .ok (.istore_n 2, 1) := by decide +kernel
theorem dX8_isIdentifier_5 : decode cX8_isIdentifier 5 = .ok (.iload_n 1, 1) := by decide +kernel
theorem dX8_isIdentifier_6 : decode cX8_isIdentifier 6 = .ok (.iconst 2, 1) := by decide +kernel
theorem dX8_isIdentifier_7 : decode cX8_isIdentifier 7 = .ok (.if_icmp .ge 23, 3) := by decide +kernel
theorem dX8_isIdentifier_10 : decode cX8_isIdentifier 10 = .ok (.iload_n 2, 1) := by decide +kernel
theorem dX8_isIdentifier_11 : decode cX8_isIdentifier 11 = .ok (.iconst 1, 1) := by decide +kernel
theorem dX8_isIdentifier_12 : decode cX8_isIdentifier 12 = .ok (.if_icmp .ne 16, 3) := by decide +kernel
theorem dX8_isIdentifier_15 : decode cX8_isIdentifier 15 = .ok (.aload_n 0, 1) := by decide +kernel
theorem dX8_isIdentifier_16 : decode cX8_isIdentifier 16 = .ok (.iconst 0, 1) := by decide +kernel
theorem dX8_isIdentifier_17 : decode cX8_isIdentifier 17 = .ok (.invokevirtual 64, 3) := by decide +kernel
theorem dX8_isIdentifier_20 : decode cX8_isIdentifier 20 = .ok (.iload_n 1, 1) := by decide +kernel
theorem dX8_isIdentifier_21 : decode cX8_isIdentifier 21 = .ok (.if_icmp .ne 7, 3) := by decide +kernel
theorem dX8_isIdentifier_24 : decode cX8_isIdentifier 24 = .ok (.iconst 1, 1) := by decide +kernel
theorem dX8_isIdentifier_25 : decode cX8_isIdentifier 25 = .ok (.goto 4, 3) := by decide +kernel
theorem dX8_isIdentifier_28 : decode cX8_isIdentifier 28 = .ok (.iconst 0, 1) := by decide +kernel
theorem dX8_isIdentifier_29 : decode cX8_isIdentifier 29 = .ok (.ireturn, 1) := by decide +kernel
theorem dX8_isIdentifier_30 : decode cX8_isIdentifier 30 = .ok (.iload_n 1, 1) := by decide +kernel
theorem dX8_isIdentifier_31 : decode cX8_isIdentifier 31 = .ok (.iconst 2, 1) := by decide +kernel
theorem dX8_isIdentifier_32 : decode cX8_isIdentifier 32 = .ok (.if_icmp .ne 11, 3) := by decide +kernel
theorem dX8_isIdentifier_35 : decode cX8_isIdentifier 35 = .ok (.aload_n 0, 1) := by decide +kernel
theorem dX8_isIdentifier_36 : decode cX8_isIdentifier 36 = .ok (.iload_n 2, 1) := by decide +kernel
theorem dX8_isIdentifier_37 : decode cX8_isIdentifier 37 = .ok (.invokevirtual 78, 3) := by decide +kernel
theorem dX8_isIdentifier_40 : decode cX8_isIdentifier 40 = .ok (.goto 46, 3) := by decide +kernel
theorem dX8_isIdentifier_43 : decode cX8_isIdentifier 43 = .ok (.iload_n 2, 1) := by decide +kernel
theorem dX8_isIdentifier_44 : decode cX8_isIdentifier 44 = .ok (.iconst 3, 1) := by decide +kernel
theorem dX8_isIdentifier_45 : decode cX8_isIdentifier 45 = .ok (.if_icmp .le 40, 3) := by decide +kernel
theorem dX8_isIdentifier_48 : decode cX8_isIdentifier 48 = .ok (.aload_n 0, 1) := by decide +kernel
theorem dX8_isIdentifier_49 : decode cX8_isIdentifier 49 = .ok (.getfield 28, 3) := by decide +kernel
theorem dX8_isIdentifier_52 : decode cX8_isIdentifier 52 = .ok (.aload_n 0, 1) := by decide +kernel
theorem dX8_isIdentifier_53 : decode cX8_isIdentifier 53 = .ok (.getfield 55, 3) := by decide +kernel
theorem dX8_isIdentifier_56 : decode cX8_isIdentifier 56 = .ok (.iload_n 2, 1) := by decide +kernel
theorem dX8_isIdentifier_57 : decode cX8_isIdentifier 57 = .ok (.i2l, 1) := by decide +kernel
theorem dX8_isIdentifier_58 : decode cX8_isIdentifier 58 = .ok (.ladd, 1) := by decide +kernel
theorem dX8_isIdentifier_59 : decode cX8_isIdentifier 59 = .ok (.ldc2_w 81, 3) := by decide +kernel
theorem dX8_isIdentifier_62 : decode cX8_isIdentifier 62 = .ok (.lsub, 1) := by decide +kernel
theorem dX8_isIdentifier_63 : decode cX8_isIdentifier 63 = .ok (.ldc 83, 2) := by decide +kernel
theorem dX8_isIdentifier_65 : decode cX8_isIdentifier 65 = .ok (.invokevirtual 47, 3) := by decide +kernel
theorem dX8_isIdentifier_68 : decode cX8_isIdentifier 68 = .ok (.ifCond .eq 17, 3) := by decide +kernel
theorem dX8_isIdentifier_71 : decode cX8_isIdentifier 71 = .ok (.aload_n 0, 1) := by decide +kernel
theorem dX8_isIdentifier_72 : decode cX8_isIdentifier 72 = .ok (.iload_n 2, 1) := by decide +kernel
theorem dX8_isIdentifier_73 : decode cX8_isIdentifier 73 = .ok (.iconst 3, 1) := by decide +kernel
theorem dX8_isIdentifier_74 : decode cX8_isIdentifier 74 = .ok (.isub, 1) := by decide +kernel
theorem dX8_isIdentifier_75 : decode cX8_isIdentifier 75 = .ok (.invokevirtual 78, 3) := by decide +kernel
theorem dX8_isIdentifier_78 : decode cX8_isIdentifier 78 = .ok (.ifCond .eq 7, 3) := by decide +kernel
theorem dX8_isIdentifier_81 : decode cX8_isIdentifier 81 = .ok (.iconst 1, 1) := by decide +kernel
theorem dX8_isIdentifier_82 : decode cX8_isIdentifier 82 = .ok (.goto 4, 3) := by decide +kernel
theorem dX8_isIdentifier_85 : decode cX8_isIdentifier 85 = .ok (.iconst 0, 1) := by decide +kernel
theorem dX8_isIdentifier_86 : decode cX8_isIdentifier 86 = .ok (.ireturn, 1) := by decide +kernel
/-- WriteOnceDisc$Reader.isIdentifier(I)Z -/
def wX8_isIdentifier (x0 : Nat) (x1 : Int32) (σ : Hp) (post : Int32 → Prop) : Prop :=
(tg_ σ x0 = 8 ∧ (∀ y2 : Int32, y2 = (fI_ σ 7 6 x0) → (((2 : Int32) ≤ x1 →
  ((¬ x1 = (2 : Int32) →
   ((y2 ≤ (3 : Int32) →
    post (0 : Int32)) ∧
   (¬ y2 ≤ (3 : Int32) →
    (tg_ σ (fR_ σ 7 3 x0) = 7 ∧ (wX7_says (fR_ σ 7 3 x0) (((fL_ σ 7 4 x0) + (y2).toInt64) - (3 : Int64)) (fR_ σ 101 8 0) σ (fun r7 => ((r7 = 0 →
     post (0 : Int32)) ∧
    (¬ r7 = 0 →
     (wX8_isPlain x0 (y2 - (3 : Int32)) σ (fun r9 => ((r9 = 0 →
      post (0 : Int32)) ∧
     (¬ r9 = 0 →
      post (1 : Int32))))))))))))) ∧
  (x1 = (2 : Int32) →
   (wX8_isPlain x0 y2 σ (fun r11 => (nr_ .boolean r11 ∧ post r11)))))) ∧
 (¬ (2 : Int32) ≤ x1 →
  ((¬ y2 = (1 : Int32) →
   post (0 : Int32)) ∧
  (y2 = (1 : Int32) →
   (wX8_letter x0 (0 : Int32) σ (fun r14 => ((¬ r14 = x1 →
    post (0 : Int32)) ∧
   (r14 = x1 →
    post (1 : Int32)))))))))))
set_option maxHeartbeats 4000000 in
theorem sX8_isIdentifier {G : GG_} {p : Program} {l : Launch} {e : Env} {R : Room} {s : State} {m : MethodId} {args : Array Value} {below : List Frame} {meth : Method} {c : Code} (Y : MX_ G p R s m args meth c cX8_isIdentifier 3 RX8 (some Jvm.ClassFile.FieldType.boolean) 6 130 0 0 "isIdentifier") {post : Int32 → Prop} {x0 : Nat} {x1 : Int32} {σ : Hp} (hf : wX8_isIdentifier x0 x1 σ post) : WG_ G p l e R s m args below meth c (MQ below (QI_ G (fun r τ => τ = σ ∧ post r)) args s 0 0 (FR_ G)) BN_ 3 0 [(0, rv_ x0), (1, .int x1)] [] σ := by
  have ⟨X, hlk, hr, hRf, hRl, hRc, hnm⟩ := Y
  have ⟨⟨hx, hb, _, hown, hts⟩, _, _⟩ := X
  intro H locs cells slots ls hP hL hB hl
  obtain ⟨rfl, rfl⟩ := hB
  unfold wX8_isIdentifier at hf
  refine p_aload_n hx hb dX8_isIdentifier_0 rfl (lv_at hl 0 rfl) ?_
  obtain ⟨ht1, hf⟩ := hf
  refine p_gI X cf7_ (k := 6) (by decide) rfl hP ht1 q597 (fun _ h => h) dX8_isIdentifier_1 ?_
  refine lv_topi (fun y2 hy2 => ?_)
  have hf := hf y2 hy2
  refine p_istore_n (i := 2) hx hb dX8_isIdentifier_4 rfl hl (by decide) ⟨⟨ne_ rfl, Or.inl (ne_ rfl)⟩, ⟨⟨ne_ rfl, Or.inr rfl⟩, trivial⟩⟩ (fun ls hl => ?_)
  refine lv_iload_n hx hb dX8_isIdentifier_5 rfl (lv_at hl 2 rfl) ?_
  refine lv_iconst (v := 2) hx hb dX8_isIdentifier_6 (by decide) ?_
  refine lv_icmp_ge (tgt := 30) hx hb dX8_isIdentifier_7 (by decide) (fun c3 => ?_) (fun c3 => ?_)
  · have hf := hf.1 c3
    refine lv_iload_n hx hb dX8_isIdentifier_30 rfl (lv_at hl 2 rfl) ?_
    refine lv_iconst (v := 2) hx hb dX8_isIdentifier_31 (by decide) ?_
    refine lv_icmp_ne (tgt := 43) hx hb dX8_isIdentifier_32 (by decide) (fun c4 => ?_) (fun c4 => ?_)
    · have hf := hf.1 c4
      refine lv_iload_n hx hb dX8_isIdentifier_43 rfl (lv_at hl 0 rfl) ?_
      refine lv_iconst (v := 3) hx hb dX8_isIdentifier_44 (by decide) ?_
      refine lv_icmp_le (tgt := 85) hx hb dX8_isIdentifier_45 (by decide) (fun c5 => ?_) (fun c5 => ?_)
      · have hf := hf.1 c5
        refine lv_iconst (v := 0) hx hb dX8_isIdentifier_85 (by decide) ?_
        exact p_zret X hlk hP hL (Nat.le_refl _) (Nat.le_refl _) hr nr_0 dX8_isIdentifier_86 ⟨rfl, hf⟩
      · have hf := hf.2 c5
        refine p_aload_n hx hb dX8_isIdentifier_48 rfl (lv_at hl 1 rfl) ?_
        refine p_gR X cf7_ (k := 3) (by decide) rfl hP ht1 q594 (fun _ h => h) dX8_isIdentifier_49 ?_
        refine p_aload_n hx hb dX8_isIdentifier_52 rfl (lv_at hl 1 rfl) ?_
        refine p_gL X cf7_ (k := 4) (by decide) rfl hP ht1 q595 (fun _ h => h) dX8_isIdentifier_53 ?_
        refine lv_iload_n hx hb dX8_isIdentifier_56 rfl (lv_at hl 0 rfl) ?_
        refine lv_i2l hx hb dX8_isIdentifier_57 rfl ?_
        refine lv_ladd hx hb dX8_isIdentifier_58 ?_
        refine lv_ldc2 hx hb hown (hts _ q1048) dX8_isIdentifier_59 ?_
        refine lv_lsub hx hb dX8_isIdentifier_62 ?_
        refine p_ldcS X hP (j := 8) rfl dX8_isIdentifier_63 ?_
        obtain ⟨ht6, hf⟩ := hf
        refine p_calli hL (p_runV X cf6_ hP ht6 (metX7_says l G _ _ _ _ _ X.2.2 hf) (cwV 2 hts (lw_V q1006 q962 q963 q104 q964) rfl rfl rfl (by decide +kernel) ⟨Nat.le_trans (Nat.le_of_ble_eq_true rfl) hRf, Nat.le_trans (Nat.le_of_ble_eq_true rfl) hRl⟩) rfl hl.1 rfl (by decide) dX8_isIdentifier_65 ⟨Nat.zero_le _, Nat.zero_le _⟩) (fun r7 σ₁ H locs hf hP hL => ?_)
        obtain ⟨e₁, hf⟩ := hf
        rw [e₁] at hP
        refine lv_if_eq (tgt := 85) hx hb dX8_isIdentifier_68 (by decide) (fun c8 => ?_) (fun c8 => ?_)
        · have hf := hf.1 c8
          refine lv_iconst (v := 0) hx hb dX8_isIdentifier_85 (by decide) ?_
          exact p_zret X hlk hP hL (Nat.le_refl _) (Nat.le_refl _) hr nr_0 dX8_isIdentifier_86 ⟨rfl, hf⟩
        · have hf := hf.2 c8
          refine p_aload_n hx hb dX8_isIdentifier_71 rfl (lv_at hl 1 rfl) ?_
          refine lv_iload_n hx hb dX8_isIdentifier_72 rfl (lv_at hl 0 rfl) ?_
          refine lv_iconst (v := 3) hx hb dX8_isIdentifier_73 (by decide) ?_
          refine lv_isub hx hb dX8_isIdentifier_74 ?_
          refine p_calli hL (p_runV X cf7_ hP ht1 (metX8_isPlain l G _ _ _ _ X.2.2 hf) (cwV 1 hts (lw_V q1043 q1045 qs27 q105 q1046) rfl rfl rfl (by decide +kernel) ⟨Nat.le_trans (Nat.le_of_ble_eq_true rfl) hRf, Nat.le_trans (Nat.le_of_ble_eq_true rfl) hRl⟩) rfl hl.1 rfl (by decide) dX8_isIdentifier_75 ⟨Nat.zero_le _, Nat.zero_le _⟩) (fun r9 σ₁ H locs hf hP hL => ?_)
          obtain ⟨e₁, hf⟩ := hf
          rw [e₁] at hP
          refine lv_if_eq (tgt := 85) hx hb dX8_isIdentifier_78 (by decide) (fun c10 => ?_) (fun c10 => ?_)
          · have hf := hf.1 c10
            refine lv_iconst (v := 0) hx hb dX8_isIdentifier_85 (by decide) ?_
            exact p_zret X hlk hP hL (Nat.le_refl _) (Nat.le_refl _) hr nr_0 dX8_isIdentifier_86 ⟨rfl, hf⟩
          · have hf := hf.2 c10
            refine lv_iconst (v := 1) hx hb dX8_isIdentifier_81 (by decide) ?_
            refine lv_goto (tgt := 86) hx hb dX8_isIdentifier_82 (by decide) ?_
            exact p_zret X hlk hP hL (Nat.le_refl _) (Nat.le_refl _) hr nr_1 dX8_isIdentifier_86 ⟨rfl, hf⟩
    · have hf := hf.2 c4
      refine p_aload_n hx hb dX8_isIdentifier_35 rfl (lv_at hl 1 rfl) ?_
      refine lv_iload_n hx hb dX8_isIdentifier_36 rfl (lv_at hl 0 rfl) ?_
      refine p_calli hL (p_runV X cf7_ hP ht1 (metX8_isPlain l G _ _ _ _ X.2.2 hf) (cwV 1 hts (lw_V q1043 q1045 qs27 q105 q1046) rfl rfl rfl (by decide +kernel) ⟨Nat.le_trans (Nat.le_of_ble_eq_true rfl) hRf, Nat.le_trans (Nat.le_of_ble_eq_true rfl) hRl⟩) rfl hl.1 rfl (by decide) dX8_isIdentifier_37 ⟨Nat.zero_le _, Nat.zero_le _⟩) (fun r11 σ₁ H locs hf hP hL => ?_)
      obtain ⟨e₁, hf⟩ := hf
      rw [e₁] at hP
      refine lv_goto (tgt := 86) hx hb dX8_isIdentifier_40 (by decide) ?_
      obtain ⟨hn12, hf⟩ := hf
      exact p_zret X hlk hP hL (Nat.le_refl _) (Nat.le_refl _) hr hn12 dX8_isIdentifier_86 ⟨rfl, hf⟩
  · have hf := hf.2 c3
    refine lv_iload_n hx hb dX8_isIdentifier_10 rfl (lv_at hl 0 rfl) ?_
    refine lv_iconst (v := 1) hx hb dX8_isIdentifier_11 (by decide) ?_
    refine lv_icmp_ne (tgt := 28) hx hb dX8_isIdentifier_12 (by decide) (fun c13 => ?_) (fun c13 => ?_)
    · have hf := hf.1 c13
      refine lv_iconst (v := 0) hx hb dX8_isIdentifier_28 (by decide) ?_
      exact p_zret X hlk hP hL (Nat.le_refl _) (Nat.le_refl _) hr nr_0 dX8_isIdentifier_29 ⟨rfl, hf⟩
    · have hf := hf.2 c13
      refine p_aload_n hx hb dX8_isIdentifier_15 rfl (lv_at hl 1 rfl) ?_
      refine lv_iconst (v := 0) hx hb dX8_isIdentifier_16 (by decide) ?_
      refine p_calli hL (p_runV X cf7_ hP ht1 (metX8_letter l G _ _ _ _ X.2.2 hf) (cwV 1 hts (lw_V q1039 q1041 qs26 q105 q1042) rfl rfl rfl (by decide +kernel) ⟨Nat.le_trans (Nat.le_of_ble_eq_true rfl) hRf, Nat.le_trans (Nat.le_of_ble_eq_true rfl) hRl⟩) rfl hl.1 rfl (by decide) dX8_isIdentifier_17 ⟨Nat.zero_le _, Nat.zero_le _⟩) (fun r14 σ₁ H locs hf hP hL => ?_)
      obtain ⟨e₁, hf⟩ := hf
      rw [e₁] at hP
      refine lv_iload_n hx hb dX8_isIdentifier_20 rfl (lv_at hl 2 rfl) ?_
      refine lv_icmp_ne (tgt := 28) hx hb dX8_isIdentifier_21 (by decide) (fun c15 => ?_) (fun c15 => ?_)
      · have hf := hf.1 c15
        refine lv_iconst (v := 0) hx hb dX8_isIdentifier_28 (by decide) ?_
        exact p_zret X hlk hP hL (Nat.le_refl _) (Nat.le_refl _) hr nr_0 dX8_isIdentifier_29 ⟨rfl, hf⟩
      · have hf := hf.2 c15
        refine lv_iconst (v := 1) hx hb dX8_isIdentifier_24 (by decide) ?_
        refine lv_goto (tgt := 29) hx hb dX8_isIdentifier_25 (by decide) ?_
        exact p_zret X hlk hP hL (Nat.le_refl _) (Nat.le_refl _) hr nr_1 dX8_isIdentifier_29 ⟨rfl, hf⟩
set_option maxHeartbeats 4000000 in
theorem metX8_isIdentifier (l : Launch) (G : GG_) (x0 : Nat) (x1 : Int32) (σ : Hp) (post : Int32 → Prop) (hG : GOK_ G) (hf : wX8_isIdentifier x0 x1 σ post) : Met l yX8_isIdentifier (ws_ yX8_isIdentifier cX8_isIdentifier 3 (some Jvm.ClassFile.FieldType.boolean)) { frames := 6, cells := 0, slots := 0, locals := 130 } (PC_ G [rv_ x0, .int x1] σ) (QI_ G (fun r τ => τ = σ ∧ post r)) 0 0 (FR_ G) := by
  refine Met.ofW (cc := cX8_isIdentifier) (maxL := 3) (ret := (some Jvm.ClassFile.FieldType.boolean)) (by decide) rfl ?_
  intro p e s m args below meth c s₁ B hml hv
  obtain ⟨rfl, hP, hW⟩ := hv
  have hts := atoms_spec (ws := ws_ yX8_isIdentifier cX8_isIdentifier 3 (some Jvm.ClassFile.FieldType.boolean)) B.pre
  have hts : ∀ w ∈ lw_all, w.before _ s = true := fun w h => hts w (List.mem_cons_of_mem _ h)
  rw [lg_entry_eq]
  have hl := en_entry [rv_ x0, .int x1] [1, 1] (n := 3) (ca_r (ca_i ca_n)) (by decide)
  exact sX8_isIdentifier ⟨⟨⟨B.exec, B.bytes, hml, findClass_of_methodNamed B.named, hts⟩, hW, hG⟩, B.notSynchronized, B.returns, Nat.le_refl _, Nat.le_refl _, ⟨rfl, rfl⟩, (name_of_methodNamed B.named B.method).1⟩ hf _ _ _ _ _ hP (LO_nil G) ⟨rfl, rfl⟩ hl
abbrev cX8_sound : ByteArray := prog_8_method_12_code
def yX8_sound : MethodName := ⟨RX8, "sound", "(JI)Z"⟩
theorem dX8_sound_0 : decode cX8_sound 0 = .ok (.aload_n 0, 1) := by decide +kernel
theorem dX8_sound_1 : decode cX8_sound 1 = .ok (.getfield 28, 3) := by decide +kernel
theorem dX8_sound_4 : decode cX8_sound 4 = .ok (.lload_n 1, 1) := by decide +kernel
theorem dX8_sound_5 : decode cX8_sound 5 = .ok (.invokevirtual 39, 3) := by decide +kernel
theorem dX8_sound_8 : decode cX8_sound 8 = .ok (.istore 4, 2) := by decide +kernel
theorem dX8_sound_10 : decode cX8_sound 10 = .ok (.iload 4, 2) := by decide +kernel
theorem dX8_sound_12 : decode cX8_sound 12 = .ok (.bipush 34, 2) := by decide +kernel
theorem dX8_sound_14 : decode cX8_sound 14 = .ok (.if_icmp .lt 44, 3) := by decide +kernel
theorem dX8_sound_17 : decode cX8_sound 17 = .ok (.lload_n 1, 1) := by decide +kernel
theorem dX8_sound_18 : decode cX8_sound 18 = .ok (.ldc2_w 87, 3) := by decide +kernel
theorem dX8_sound_21 : decode cX8_sound 21 = .ok (.lrem, 1) := by decide +kernel
theorem dX8_sound_22 : decode cX8_sound 22 = .ok (.iload 4, 2) := by decide +kernel
theorem dX8_sound_24 : decode cX8_sound 24 = .ok (.i2l, 1) := by decide +kernel
theorem dX8_sound_25 : decode cX8_sound 25 = .ok (.ladd, 1) := by decide +kernel
theorem dX8_sound_26 : decode cX8_sound 26 = .ok (.ldc2_w 87, 3) := by decide +kernel
theorem dX8_sound_29 : decode cX8_sound 29 = .ok (.lcmp, 1) := by decide +kernel
theorem dX8_sound_30 : decode cX8_sound 30 = .ok (.ifCond .gt 28, 3) := by decide +kernel
theorem dX8_sound_33 : decode cX8_sound 33 = .ok (.iload 4, 2) := by decide +kernel
theorem dX8_sound_35 : decode cX8_sound 35 = .ok (.bipush 33, 2) := by decide +kernel
theorem dX8_sound_37 : decode cX8_sound 37 = .ok (.aload_n 0, 1) := by decide +kernel
theorem dX8_sound_38 : decode cX8_sound 38 = .ok (.getfield 28, 3) := by decide +kernel
theorem dX8_sound_41 : decode cX8_sound 41 = .ok (.lload_n 1, 1) := by decide +kernel
theorem dX8_sound_42 : decode cX8_sound 42 = .ok (.ldc2_w 59, 3) := by decide +kernel
theorem dX8_sound_45 : decode cX8_sound 45 = .ok (.ladd, 1) := by decide +kernel
theorem dX8_sound_46 : decode cX8_sound 46 = .ok (.invokevirtual 39, 3) := by decide +kernel
theorem dX8_sound_49 : decode cX8_sound 49 = .ok (.iadd, 1) := by decide +kernel
theorem dX8_sound_50 : decode cX8_sound 50 = .ok (.iconst 1, 1) := by decide +kernel
theorem dX8_sound_51 : decode cX8_sound 51 = .ok (.iadd, 1) := by decide +kernel
theorem dX8_sound_52 : decode cX8_sound 52 = .ok (.bipush (-2), 2) := by decide +kernel
theorem dX8_sound_54 : decode cX8_sound 54 = .ok (.iand, 1) := by decide +kernel
theorem dX8_sound_55 : decode cX8_sound 55 = .ok (.if_icmp .eq 9, 3) := by decide +kernel
theorem dX8_sound_58 : decode cX8_sound 58 = .ok (.aload_n 0, 1) := by decide +kernel
theorem dX8_sound_59 : decode cX8_sound 59 = .ok (.lload_n 1, 1) := by decide +kernel
theorem dX8_sound_60 : decode cX8_sound 60 = .ok (.invokevirtual 89, 3) := by decide +kernel
theorem dX8_sound_63 : decode cX8_sound 63 = .ok (.ireturn, 1) := by decide +kernel
theorem dX8_sound_64 : decode cX8_sound 64 = .ok (.iload 4, 2) := by decide +kernel
theorem dX8_sound_66 : decode cX8_sound 66 = .ok (.bipush 33, 2) := by decide +kernel
theorem dX8_sound_68 : decode cX8_sound 68 = .ok (.aload_n 0, 1) := by decide +kernel
theorem dX8_sound_69 : decode cX8_sound 69 = .ok (.getfield 28, 3) := by decide +kernel
theorem dX8_sound_72 : decode cX8_sound 72 = .ok (.lload_n 1, 1) := by decide +kernel
theorem dX8_sound_73 : decode cX8_sound 73 = .ok (.ldc2_w 59, 3) := by decide +kernel
theorem dX8_sound_76 : decode cX8_sound 76 = .ok (.ladd, 1) := by decide +kernel
theorem dX8_sound_77 : decode cX8_sound 77 = .ok (.invokevirtual 39, 3) := by decide +kernel
theorem dX8_sound_80 : decode cX8_sound 80 = .ok (.iadd, 1) := by decide +kernel
theorem dX8_sound_81 : decode cX8_sound 81 = .ok (.if_icmp .le 26, 3) := by decide +kernel
theorem dX8_sound_84 : decode cX8_sound 84 = .ok (.aload_n 0, 1) := by decide +kernel
theorem dX8_sound_85 : decode cX8_sound 85 = .ok (.getfield 28, 3) := by decide +kernel
theorem dX8_sound_88 : decode cX8_sound 88 = .ok (.lload_n 1, 1) := by decide +kernel
theorem dX8_sound_89 : decode cX8_sound 89 = .ok (.iload 4, 2) := by decide +kernel
theorem dX8_sound_91 : decode cX8_sound 91 = .ok (.i2l, 1) := by decide +kernel
theorem dX8_sound_92 : decode cX8_sound 92 = .ok (.ladd, 1) := by decide +kernel
theorem dX8_sound_93 : decode cX8_sound 93 = .ok (.lconst 1, 1) := by decide +kernel
theorem dX8_sound_94 : decode cX8_sound 94 = .ok (.lsub, 1) := by decide +kernel
theorem dX8_sound_95 : decode cX8_sound 95 = .ok (.invokevirtual 39, 3) := by decide +kernel
theorem dX8_sound_98 : decode cX8_sound 98 = .ok (.ifCond .eq 9, 3) := by decide +kernel
theorem dX8_sound_101 : decode cX8_sound 101 = .ok (.aload_n 0, 1) := by decide +kernel
theorem dX8_sound_102 : decode cX8_sound 102 = .ok (.lload_n 1, 1) := by decide +kernel
theorem dX8_sound_103 : decode cX8_sound 103 = .ok (.invokevirtual 89, 3) := by decide +kernel
theorem dX8_sound_106 : decode cX8_sound 106 = .ok (.ireturn, 1) := by decide +kernel
theorem dX8_sound_107 : decode cX8_sound 107 = .ok (.aload_n 0, 1) := by decide +kernel
theorem dX8_sound_108 : decode cX8_sound 108 = .ok (.getfield 28, 3) := by decide +kernel
theorem dX8_sound_111 : decode cX8_sound 111 = .ok (.lload_n 1, 1) := by decide +kernel
theorem dX8_sound_112 : decode cX8_sound 112 = .ok (.ldc2_w 85, 3) := by decide +kernel
theorem dX8_sound_115 : decode cX8_sound 115 = .ok (.ladd, 1) := by decide +kernel
theorem dX8_sound_116 : decode cX8_sound 116 = .ok (.invokevirtual 39, 3) := by decide +kernel
theorem dX8_sound_119 : decode cX8_sound 119 = .ok (.istore 5, 2) := by decide +kernel
theorem dX8_sound_121 : decode cX8_sound 121 = .ok (.aload_n 0, 1) := by decide +kernel
theorem dX8_sound_122 : decode cX8_sound 122 = .ok (.getfield 28, 3) := by decide +kernel
theorem dX8_sound_125 : decode cX8_sound 125 = .ok (.lload_n 1, 1) := by decide +kernel
theorem dX8_sound_126 : decode cX8_sound 126 = .ok (.ldc2_w 93, 3) := by decide +kernel
theorem dX8_sound_129 : decode cX8_sound 129 = .ok (.ladd, 1) := by decide +kernel
theorem dX8_sound_130 : decode cX8_sound 130 = .ok (.iconst 4, 1) := by decide +kernel
theorem dX8_sound_131 : decode cX8_sound 131 = .ok (.invokevirtual 95, 3) := by decide +kernel
theorem dX8_sound_134 : decode cX8_sound 134 = .ok (.ifCond .eq 56, 3) := by decide +kernel
theorem dX8_sound_137 : decode cX8_sound 137 = .ok (.aload_n 0, 1) := by decide +kernel
theorem dX8_sound_138 : decode cX8_sound 138 = .ok (.getfield 28, 3) := by decide +kernel
theorem dX8_sound_141 : decode cX8_sound 141 = .ok (.lload_n 1, 1) := by decide +kernel
theorem dX8_sound_142 : decode cX8_sound 142 = .ok (.ldc2_w 99, 3) := by decide +kernel
theorem dX8_sound_145 : decode cX8_sound 145 = .ok (.ladd, 1) := by decide +kernel
theorem dX8_sound_146 : decode cX8_sound 146 = .ok (.iconst 4, 1) := by decide +kernel
theorem dX8_sound_147 : decode cX8_sound 147 = .ok (.invokevirtual 95, 3) := by decide +kernel
theorem dX8_sound_150 : decode cX8_sound 150 = .ok (.ifCond .eq 40, 3) := by decide +kernel
theorem dX8_sound_153 : decode cX8_sound 153 = .ok (.aload_n 0, 1) := by decide +kernel
theorem dX8_sound_154 : decode cX8_sound 154 = .ok (.getfield 28, 3) := by decide +kernel
theorem dX8_sound_157 : decode cX8_sound 157 = .ok (.lload_n 1, 1) := by decide +kernel
theorem dX8_sound_158 : decode cX8_sound 158 = .ok (.ldc2_w 101, 3) := by decide +kernel
theorem dX8_sound_161 : decode cX8_sound 161 = .ok (.ladd, 1) := by decide +kernel
theorem dX8_sound_162 : decode cX8_sound 162 = .ok (.iconst 2, 1) := by decide +kernel
theorem dX8_sound_163 : decode cX8_sound 163 = .ok (.invokevirtual 95, 3) := by decide +kernel
theorem dX8_sound_166 : decode cX8_sound 166 = .ok (.ifCond .eq 24, 3) := by decide +kernel
theorem dX8_sound_169 : decode cX8_sound 169 = .ok (.iload 5, 2) := by decide +kernel
theorem dX8_sound_171 : decode cX8_sound 171 = .ok (.ifCond .eq 9, 3) := by decide +kernel
theorem dX8_sound_174 : decode cX8_sound 174 = .ok (.iload 5, 2) := by decide +kernel
theorem dX8_sound_176 : decode cX8_sound 176 = .ok (.iconst 2, 1) := by decide +kernel
theorem dX8_sound_177 : decode cX8_sound 177 = .ok (.if_icmp .ne 13, 3) := by decide +kernel
theorem dX8_sound_180 : decode cX8_sound 180 = .ok (.iload_n 3, 1) := by decide +kernel
theorem dX8_sound_181 : decode cX8_sound 181 = .ok (.ifCond .lt 15, 3) := by decide +kernel
theorem dX8_sound_184 : decode cX8_sound 184 = .ok (.iload 5, 2) := by decide +kernel
theorem dX8_sound_186 : decode cX8_sound 186 = .ok (.iconst 2, 1) := by decide +kernel
theorem dX8_sound_187 : decode cX8_sound 187 = .ok (.if_icmp .eq 9, 3) := by decide +kernel
theorem dX8_sound_190 : decode cX8_sound 190 = .ok (.aload_n 0, 1) := by decide +kernel
theorem dX8_sound_191 : decode cX8_sound 191 = .ok (.lload_n 1, 1) := by decide +kernel
theorem dX8_sound_192 : decode cX8_sound 192 = .ok (.invokevirtual 89, 3) := by decide +kernel
theorem dX8_sound_195 : decode cX8_sound 195 = .ok (.ireturn, 1) := by decide +kernel
theorem dX8_sound_196 : decode cX8_sound 196 = .ok (.aload_n 0, 1) := by decide +kernel
theorem dX8_sound_197 : decode cX8_sound 197 = .ok (.lload_n 1, 1) := by decide +kernel
theorem dX8_sound_198 : decode cX8_sound 198 = .ok (.invokevirtual 103, 3) := by decide +kernel
theorem dX8_sound_201 : decode cX8_sound 201 = .ok (.aload_n 0, 1) := by decide +kernel
theorem dX8_sound_202 : decode cX8_sound 202 = .ok (.iload_n 3, 1) := by decide +kernel
theorem dX8_sound_203 : decode cX8_sound 203 = .ok (.ifCond .lt 7, 3) := by decide +kernel
theorem dX8_sound_206 : decode cX8_sound 206 = .ok (.iload_n 3, 1) := by decide +kernel
theorem dX8_sound_207 : decode cX8_sound 207 = .ok (.goto 14, 3) := by decide +kernel
theorem dX8_sound_210 : decode cX8_sound 210 = .ok (.iload 5, 2) := by decide +kernel
theorem dX8_sound_212 : decode cX8_sound 212 = .ok (.iconst 2, 1) := by decide +kernel
theorem dX8_sound_213 : decode cX8_sound 213 = .ok (.if_icmp .ne 7, 3) := by decide +kernel
theorem dX8_sound_216 : decode cX8_sound 216 = .ok (.iconst 2, 1) := by decide +kernel
theorem dX8_sound_217 : decode cX8_sound 217 = .ok (.goto 4, 3) := by decide +kernel
theorem dX8_sound_220 : decode cX8_sound 220 = .ok (.iconst 3, 1) := by decide +kernel
theorem dX8_sound_221 : decode cX8_sound 221 = .ok (.invokevirtual 107, 3) := by decide +kernel
theorem dX8_sound_224 : decode cX8_sound 224 = .ok (.ifCond .ne 9, 3) := by decide +kernel
theorem dX8_sound_227 : decode cX8_sound 227 = .ok (.aload_n 0, 1) := by decide +kernel
theorem dX8_sound_228 : decode cX8_sound 228 = .ok (.lload_n 1, 1) := by decide +kernel
theorem dX8_sound_229 : decode cX8_sound 229 = .ok (.invokevirtual 89, 3) := by decide +kernel
theorem dX8_sound_232 : decode cX8_sound 232 = .ok (.ireturn, 1) := by decide +kernel
theorem dX8_sound_233 : decode cX8_sound 233 = .ok (.aload_n 0, 1) := by decide +kernel
theorem dX8_sound_234 : decode cX8_sound 234 = .ok (.getfield 28, 3) := by decide +kernel
theorem dX8_sound_237 : decode cX8_sound 237 = .ok (.lload_n 1, 1) := by decide +kernel
theorem dX8_sound_238 : decode cX8_sound 238 = .ok (.ldc2_w 93, 3) := by decide +kernel
theorem dX8_sound_241 : decode cX8_sound 241 = .ok (.ladd, 1) := by decide +kernel
theorem dX8_sound_242 : decode cX8_sound 242 = .ok (.iconst 4, 1) := by decide +kernel
theorem dX8_sound_243 : decode cX8_sound 243 = .ok (.invokevirtual 110, 3) := by decide +kernel
theorem dX8_sound_246 : decode cX8_sound 246 = .ok (.istore 6, 2) := by decide +kernel
theorem dX8_sound_248 : decode cX8_sound 248 = .ok (.aload_n 0, 1) := by decide +kernel
theorem dX8_sound_249 : decode cX8_sound 249 = .ok (.getfield 28, 3) := by decide +kernel
theorem dX8_sound_252 : decode cX8_sound 252 = .ok (.lload_n 1, 1) := by decide +kernel
theorem dX8_sound_253 : decode cX8_sound 253 = .ok (.ldc2_w 99, 3) := by decide +kernel
theorem dX8_sound_256 : decode cX8_sound 256 = .ok (.ladd, 1) := by decide +kernel
theorem dX8_sound_257 : decode cX8_sound 257 = .ok (.iconst 4, 1) := by decide +kernel
theorem dX8_sound_258 : decode cX8_sound 258 = .ok (.invokevirtual 110, 3) := by decide +kernel
theorem dX8_sound_261 : decode cX8_sound 261 = .ok (.istore 7, 2) := by decide +kernel
theorem dX8_sound_263 : decode cX8_sound 263 = .ok (.iload 5, 2) := by decide +kernel
theorem dX8_sound_265 : decode cX8_sound 265 = .ok (.iconst 2, 1) := by decide +kernel
theorem dX8_sound_266 : decode cX8_sound 266 = .ok (.if_icmp .ne 17, 3) := by decide +kernel
theorem dX8_sound_269 : decode cX8_sound 269 = .ok (.iload 7, 2) := by decide +kernel
theorem dX8_sound_271 : decode cX8_sound 271 = .ok (.ifCond .le 17, 3) := by decide +kernel
theorem dX8_sound_274 : decode cX8_sound 274 = .ok (.iload 7, 2) := by decide +kernel
theorem dX8_sound_276 : decode cX8_sound 276 = .ok (.sipush 2048, 3) := by decide +kernel
theorem dX8_sound_279 : decode cX8_sound 279 = .ok (.irem, 1) := by decide +kernel
theorem dX8_sound_280 : decode cX8_sound 280 = .ok (.ifCond .ne 8, 3) := by decide +kernel
theorem dX8_sound_283 : decode cX8_sound 283 = .ok (.iload 7, 2) := by decide +kernel
theorem dX8_sound_285 : decode cX8_sound 285 = .ok (.ifCond .ge 9, 3) := by decide +kernel
theorem dX8_sound_288 : decode cX8_sound 288 = .ok (.aload_n 0, 1) := by decide +kernel
theorem dX8_sound_289 : decode cX8_sound 289 = .ok (.lload_n 1, 1) := by decide +kernel
theorem dX8_sound_290 : decode cX8_sound 290 = .ok (.invokevirtual 89, 3) := by decide +kernel
theorem dX8_sound_293 : decode cX8_sound 293 = .ok (.ireturn, 1) := by decide +kernel
theorem dX8_sound_294 : decode cX8_sound 294 = .ok (.iload 7, 2) := by decide +kernel
theorem dX8_sound_296 : decode cX8_sound 296 = .ok (.ifCond .ne 22, 3) := by decide +kernel
theorem dX8_sound_299 : decode cX8_sound 299 = .ok (.iload 6, 2) := by decide +kernel
theorem dX8_sound_301 : decode cX8_sound 301 = .ok (.ifCond .eq 11, 3) := by decide +kernel
theorem dX8_sound_304 : decode cX8_sound 304 = .ok (.aload_n 0, 1) := by decide +kernel
theorem dX8_sound_305 : decode cX8_sound 305 = .ok (.lload_n 1, 1) := by decide +kernel
theorem dX8_sound_306 : decode cX8_sound 306 = .ok (.invokevirtual 89, 3) := by decide +kernel
theorem dX8_sound_309 : decode cX8_sound 309 = .ok (.ifCond .eq 7, 3) := by decide +kernel
theorem dX8_sound_312 : decode cX8_sound 312 = .ok (.iconst 1, 1) := by decide +kernel
theorem dX8_sound_313 : decode cX8_sound 313 = .ok (.goto 4, 3) := by decide +kernel
theorem dX8_sound_316 : decode cX8_sound 316 = .ok (.iconst 0, 1) := by decide +kernel
theorem dX8_sound_317 : decode cX8_sound 317 = .ok (.ireturn, 1) := by decide +kernel
theorem dX8_sound_318 : decode cX8_sound 318 = .ok (.aload_n 0, 1) := by decide +kernel
theorem dX8_sound_319 : decode cX8_sound 319 = .ok (.getfield 28, 3) := by decide +kernel
theorem dX8_sound_322 : decode cX8_sound 322 = .ok (.iload 6, 2) := by decide +kernel
theorem dX8_sound_324 : decode cX8_sound 324 = .ok (.i2l, 1) := by decide +kernel
theorem dX8_sound_325 : decode cX8_sound 325 = .ok (.iload 7, 2) := by decide +kernel
theorem dX8_sound_327 : decode cX8_sound 327 = .ok (.i2l, 1) := by decide +kernel
theorem dX8_sound_328 : decode cX8_sound 328 = .ok (.ldc2_w 87, 3) := by decide +kernel
theorem dX8_sound_331 : decode cX8_sound 331 = .ok (.ladd, 1) := by decide +kernel
theorem dX8_sound_332 : decode cX8_sound 332 = .ok (.lconst 1, 1) := by decide +kernel
theorem dX8_sound_333 : decode cX8_sound 333 = .ok (.lsub, 1) := by decide +kernel
theorem dX8_sound_334 : decode cX8_sound 334 = .ok (.ldc2_w 87, 3) := by decide +kernel
theorem dX8_sound_337 : decode cX8_sound 337 = .ok (.ldiv, 1) := by decide +kernel
theorem dX8_sound_338 : decode cX8_sound 338 = .ok (.invokevirtual 114, 3) := by decide +kernel
theorem dX8_sound_341 : decode cX8_sound 341 = .ok (.ifCond .ne 11, 3) := by decide +kernel
theorem dX8_sound_344 : decode cX8_sound 344 = .ok (.aload_n 0, 1) := by decide +kernel
theorem dX8_sound_345 : decode cX8_sound 345 = .ok (.lload_n 1, 1) := by decide +kernel
theorem dX8_sound_346 : decode cX8_sound 346 = .ok (.invokevirtual 89, 3) := by decide +kernel
theorem dX8_sound_349 : decode cX8_sound 349 = .ok (.ifCond .eq 7, 3) := by decide +kernel
theorem dX8_sound_352 : decode cX8_sound 352 = .ok (.iconst 1, 1) := by decide +kernel
theorem dX8_sound_353 : decode cX8_sound 353 = .ok (.goto 4, 3) := by decide +kernel
theorem dX8_sound_356 : decode cX8_sound 356 = .ok (.iconst 0, 1) := by decide +kernel
theorem dX8_sound_357 : decode cX8_sound 357 = .ok (.ireturn, 1) := by decide +kernel
/-- WriteOnceDisc$Reader.sound(JI)Z -/
def wX8_sound_L352 (post : Int32 → Hp → Prop) (σ : Hp) : Prop :=
post (1 : Int32) σ
def wX8_sound_L312 (post : Int32 → Hp → Prop) (σ : Hp) : Prop :=
post (1 : Int32) σ
def wX8_sound_L288 (post : Int32 → Hp → Prop) (x0 : Nat) (x1 : Int64) (σ : Hp) : Prop :=
(tg_ σ x0 = 8 ∧ (wX8_bad x0 x1 σ (fun r2 σ3 => (nr_ .boolean r2 ∧ post r2 σ3))))
def wX8_sound_L283 (post : Int32 → Hp → Prop) (x0 : Nat) (x1 : Int64) (x6 : Int32) (x7 : Int32) (σ : Hp) : Prop :=
((0 ≤ x7 →
  ((¬ x7 = 0 →
   (tg_ σ x0 = 8 ∧ (tg_ σ (fR_ σ 7 3 x0) = 7 ∧ (wX7_hasWritten (fR_ σ 7 3 x0) (x6).toInt64 ((((x7).toInt64 + (2048 : Int64)) - (1 : Int64)) / (2048 : Int64)) σ (fun r9 => ((¬ r9 = 0 →
    wX8_sound_L352 post σ) ∧
   (r9 = 0 →
    (wX8_bad x0 x1 σ (fun r11 σ12 => ((r11 = 0 →
     post (0 : Int32) σ12) ∧
    (¬ r11 = 0 →
     wX8_sound_L352 post σ12))))))))))) ∧
  (x7 = 0 →
   ((x6 = 0 →
    wX8_sound_L312 post σ) ∧
   (¬ x6 = 0 →
    (tg_ σ x0 = 8 ∧ (wX8_bad x0 x1 σ (fun r16 σ17 => ((r16 = 0 →
     post (0 : Int32) σ17) ∧
    (¬ r16 = 0 →
     wX8_sound_L312 post σ17)))))))))) ∧
 (¬ 0 ≤ x7 →
  wX8_sound_L288 post x0 x1 σ))
def wX8_sound_L221 (post : Int32 → Hp → Prop) (x0 : Nat) (x1 : Int64) (x5 : Int32) (s0 : Int32) (s1 : Nat) (σ : Hp) : Prop :=
(tg_ σ s1 = 8 ∧ (wX8_isIdentifier s1 s0 σ (fun r20 => ((¬ r20 = 0 →
  (tg_ σ x0 = 8 ∧ (tg_ σ (fR_ σ 7 3 x0) = 7 ∧ (wX7_low (fR_ σ 7 3 x0) (x1 + (2 : Int64)) (4 : Int32) σ (fun r24 => (wX7_low (fR_ σ 7 3 x0) (x1 + (10 : Int64)) (4 : Int32) σ (fun r25 => ((¬ x5 = (2 : Int32) →
   wX8_sound_L283 post x0 x1 r24 r25 σ) ∧
  (x5 = (2 : Int32) →
   ((r25 ≤ 0 →
    wX8_sound_L288 post x0 x1 σ) ∧
   (¬ r25 ≤ 0 →
    ((¬ (r25 - r25 / (2048 : Int32) * (2048 : Int32)) = 0 →
     wX8_sound_L288 post x0 x1 σ) ∧
    ((r25 - r25 / (2048 : Int32) * (2048 : Int32)) = 0 →
     wX8_sound_L283 post x0 x1 r24 r25 σ))))))))))))) ∧
 (r20 = 0 →
  (tg_ σ x0 = 8 ∧ (wX8_bad x0 x1 σ (fun r30 σ31 => (nr_ .boolean r30 ∧ post r30 σ31)))))))))
def wX8_sound_L196 (post : Int32 → Hp → Prop) (x0 : Nat) (x1 : Int64) (x3 : Int32) (x5 : Int32) (σ : Hp) : Prop :=
(tg_ σ x0 = 8 ∧ (wX8_read x0 x1 σ (fun σ34 => ((x3 < 0 →
  ((¬ x5 = (2 : Int32) →
   wX8_sound_L221 post x0 x1 x5 (3 : Int32) x0 σ34) ∧
  (x5 = (2 : Int32) →
   wX8_sound_L221 post x0 x1 x5 (2 : Int32) x0 σ34))) ∧
 (¬ x3 < 0 →
  wX8_sound_L221 post x0 x1 x5 x3 x0 σ34)))))
def wX8_sound_L190 (post : Int32 → Hp → Prop) (x0 : Nat) (x1 : Int64) (σ : Hp) : Prop :=
(tg_ σ x0 = 8 ∧ (wX8_bad x0 x1 σ (fun r38 σ39 => (nr_ .boolean r38 ∧ post r38 σ39))))
def wX8_sound_L180 (post : Int32 → Hp → Prop) (x0 : Nat) (x1 : Int64) (x3 : Int32) (x5 : Int32) (σ : Hp) : Prop :=
((x3 < 0 →
  wX8_sound_L196 post x0 x1 x3 x5 σ) ∧
 (¬ x3 < 0 →
  ((x5 = (2 : Int32) →
   wX8_sound_L196 post x0 x1 x3 x5 σ) ∧
  (¬ x5 = (2 : Int32) →
   wX8_sound_L190 post x0 x1 σ))))
def wX8_sound_L107 (post : Int32 → Hp → Prop) (x0 : Nat) (x1 : Int64) (x3 : Int32) (σ : Hp) : Prop :=
(tg_ σ x0 = 8 ∧ (tg_ σ (fR_ σ 7 3 x0) = 7 ∧ (wX7_at (fR_ σ 7 3 x0) (x1 + (25 : Int64)) σ (fun r45 => (wX7_isBoth (fR_ σ 7 3 x0) (x1 + (2 : Int64)) (4 : Int32) σ (fun r46 => ((r46 = 0 →
  wX8_sound_L190 post x0 x1 σ) ∧
 (¬ r46 = 0 →
  (wX7_isBoth (fR_ σ 7 3 x0) (x1 + (10 : Int64)) (4 : Int32) σ (fun r48 => ((r48 = 0 →
   wX8_sound_L190 post x0 x1 σ) ∧
  (¬ r48 = 0 →
   (wX7_isBoth (fR_ σ 7 3 x0) (x1 + (28 : Int64)) (2 : Int32) σ (fun r50 => ((r50 = 0 →
    wX8_sound_L190 post x0 x1 σ) ∧
   (¬ r50 = 0 →
    ((r45 = 0 →
     wX8_sound_L180 post x0 x1 x3 r45 σ) ∧
    (¬ r45 = 0 →
     ((¬ r45 = (2 : Int32) →
      wX8_sound_L190 post x0 x1 σ) ∧
     (r45 = (2 : Int32) →
      wX8_sound_L180 post x0 x1 x3 r45 σ))))))))))))))))))))
def wX8_sound_L58 (post : Int32 → Hp → Prop) (x0 : Nat) (x1 : Int64) (σ : Hp) : Prop :=
(tg_ σ x0 = 8 ∧ (wX8_bad x0 x1 σ (fun r55 σ56 => (nr_ .boolean r55 ∧ post r55 σ56))))
def wX8_sound (x0 : Nat) (x1 : Int64) (x3 : Int32) (σ : Hp) (post : Int32 → Hp → Prop) : Prop :=
(tg_ σ x0 = 8 ∧ (tg_ σ (fR_ σ 7 3 x0) = 7 ∧ (wX7_at (fR_ σ 7 3 x0) x1 σ (fun r60 => ((r60 < (34 : Int32) →
  wX8_sound_L58 post x0 x1 σ) ∧
 (¬ r60 < (34 : Int32) →
  ((0 < (lg_cmp ((x1 - x1 / (2048 : Int64) * (2048 : Int64)) + (r60).toInt64) (2048 : Int64)) →
   wX8_sound_L58 post x0 x1 σ) ∧
  (¬ 0 < (lg_cmp ((x1 - x1 / (2048 : Int64) * (2048 : Int64)) + (r60).toInt64) (2048 : Int64)) →
   (wX7_at (fR_ σ 7 3 x0) (x1 + (32 : Int64)) σ (fun r63 => ((r60 = ((((33 : Int32) + r63) + (1 : Int32)) &&& (-2 : Int32)) →
    (wX7_at (fR_ σ 7 3 x0) (x1 + (32 : Int64)) σ (fun r65 => ((r60 ≤ ((33 : Int32) + r65) →
     wX8_sound_L107 post x0 x1 x3 σ) ∧
    (¬ r60 ≤ ((33 : Int32) + r65) →
     (wX7_at (fR_ σ 7 3 x0) ((x1 + (r60).toInt64) - (1 : Int64)) σ (fun r67 => ((r67 = 0 →
      wX8_sound_L107 post x0 x1 x3 σ) ∧
     (¬ r67 = 0 →
      (wX8_bad x0 x1 σ (fun r69 σ70 => (nr_ .boolean r69 ∧ post r69 σ70)))))))))))) ∧
   (¬ r60 = ((((33 : Int32) + r63) + (1 : Int32)) &&& (-2 : Int32)) →
    wX8_sound_L58 post x0 x1 σ))))))))))))
set_option maxHeartbeats 4000000 in
theorem sX8_sound_L352 {G : GG_} {p : Program} {l : Launch} {e : Env} {R : Room} {s : State} {m : MethodId} {args : Array Value} {below : List Frame} {meth : Method} {c : Code} (Y : MX_ G p R s m args meth c cX8_sound 8 RX8 (some Jvm.ClassFile.FieldType.boolean) 7 152 0 0 "sound") {post : Int32 → Hp → Prop} {σ : Hp} (hf : wX8_sound_L352 post σ) : WG_ G p l e R s m args below meth c (MQ below (QI_ G post) args s 0 0 (FR_ G)) BN_ 8 352 [] [] σ := by
  have ⟨X, hlk, hr, hRf, hRl, hRc, hnm⟩ := Y
  have ⟨⟨hx, hb, _, hown, hts⟩, _, _⟩ := X
  intro H locs cells slots ls hP hL hB hl
  obtain ⟨rfl, rfl⟩ := hB
  unfold wX8_sound_L352 at hf
  refine lv_iconst (v := 1) hx hb dX8_sound_352 (by decide) ?_
  refine lv_goto (tgt := 357) hx hb dX8_sound_353 (by decide) ?_
  exact p_zret X hlk hP hL (Nat.le_refl _) (Nat.le_refl _) hr nr_1 dX8_sound_357 hf
set_option maxHeartbeats 4000000 in
theorem sX8_sound_L312 {G : GG_} {p : Program} {l : Launch} {e : Env} {R : Room} {s : State} {m : MethodId} {args : Array Value} {below : List Frame} {meth : Method} {c : Code} (Y : MX_ G p R s m args meth c cX8_sound 8 RX8 (some Jvm.ClassFile.FieldType.boolean) 7 152 0 0 "sound") {post : Int32 → Hp → Prop} {σ : Hp} (hf : wX8_sound_L312 post σ) : WG_ G p l e R s m args below meth c (MQ below (QI_ G post) args s 0 0 (FR_ G)) BN_ 8 312 [] [] σ := by
  have ⟨X, hlk, hr, hRf, hRl, hRc, hnm⟩ := Y
  have ⟨⟨hx, hb, _, hown, hts⟩, _, _⟩ := X
  intro H locs cells slots ls hP hL hB hl
  obtain ⟨rfl, rfl⟩ := hB
  unfold wX8_sound_L312 at hf
  refine lv_iconst (v := 1) hx hb dX8_sound_312 (by decide) ?_
  refine lv_goto (tgt := 317) hx hb dX8_sound_313 (by decide) ?_
  exact p_zret X hlk hP hL (Nat.le_refl _) (Nat.le_refl _) hr nr_1 dX8_sound_317 hf
set_option maxHeartbeats 4000000 in
theorem sX8_sound_L288 {G : GG_} {p : Program} {l : Launch} {e : Env} {R : Room} {s : State} {m : MethodId} {args : Array Value} {below : List Frame} {meth : Method} {c : Code} (Y : MX_ G p R s m args meth c cX8_sound 8 RX8 (some Jvm.ClassFile.FieldType.boolean) 7 152 0 0 "sound") {post : Int32 → Hp → Prop} {x0 : Nat} {x1 : Int64} {σ : Hp} (hf : wX8_sound_L288 post x0 x1 σ) : WG_ G p l e R s m args below meth c (MQ below (QI_ G post) args s 0 0 (FR_ G)) BN_ 8 288 [(0, rv_ x0), (1, .long x1)] [] σ := by
  have ⟨X, hlk, hr, hRf, hRl, hRc, hnm⟩ := Y
  have ⟨⟨hx, hb, _, hown, hts⟩, _, _⟩ := X
  intro H locs cells slots ls hP hL hB hl
  obtain ⟨rfl, rfl⟩ := hB
  unfold wX8_sound_L288 at hf
  refine p_aload_n hx hb dX8_sound_288 rfl (lv_at hl 0 rfl) ?_
  refine lv_lload_n hx hb dX8_sound_289 rfl (lv_at hl 1 rfl) ?_
  obtain ⟨ht1, hf⟩ := hf
  refine p_calli hL (p_runV X cf7_ hP ht1 (metX8_bad l G _ _ _ _ X.2.2 hf) (cwV 1 hts (lw_V q996 q998 qs21 q105 q999) rfl rfl rfl (by decide +kernel) ⟨Nat.le_trans (Nat.le_of_ble_eq_true rfl) hRf, Nat.le_trans (Nat.le_of_ble_eq_true rfl) hRl⟩) rfl hl.1 rfl (by decide) dX8_sound_290 ⟨Nat.zero_le _, Nat.zero_le _⟩) (fun r2 σ3 H locs hf hP hL => ?_)
  obtain ⟨hn4, hf⟩ := hf
  exact p_zret X hlk hP hL (Nat.le_refl _) (Nat.le_refl _) hr hn4 dX8_sound_293 hf
set_option maxHeartbeats 4000000 in
theorem sX8_sound_L283 {G : GG_} {p : Program} {l : Launch} {e : Env} {R : Room} {s : State} {m : MethodId} {args : Array Value} {below : List Frame} {meth : Method} {c : Code} (Y : MX_ G p R s m args meth c cX8_sound 8 RX8 (some Jvm.ClassFile.FieldType.boolean) 7 152 0 0 "sound") {post : Int32 → Hp → Prop} {x0 : Nat} {x1 : Int64} {x6 : Int32} {x7 : Int32} {σ : Hp} (hf : wX8_sound_L283 post x0 x1 x6 x7 σ) : WG_ G p l e R s m args below meth c (MQ below (QI_ G post) args s 0 0 (FR_ G)) BN_ 8 283 [(0, rv_ x0), (1, .long x1), (6, .int x6), (7, .int x7)] [] σ := by
  have ⟨X, hlk, hr, hRf, hRl, hRc, hnm⟩ := Y
  have ⟨⟨hx, hb, _, hown, hts⟩, _, _⟩ := X
  intro H locs cells slots ls hP hL hB hl
  obtain ⟨rfl, rfl⟩ := hB
  unfold wX8_sound_L283 at hf
  refine lv_iload hx hb dX8_sound_283 (lv_at hl 3 rfl) ?_
  refine lv_if_ge (tgt := 294) hx hb dX8_sound_285 (by decide) (fun c5 => ?_) (fun c5 => ?_)
  · have hf := hf.1 c5
    refine lv_iload hx hb dX8_sound_294 (lv_at hl 3 rfl) ?_
    refine lv_if_ne (tgt := 318) hx hb dX8_sound_296 (by decide) (fun c6 => ?_) (fun c6 => ?_)
    · have hf := hf.1 c6
      refine p_aload_n hx hb dX8_sound_318 rfl (lv_at hl 0 rfl) ?_
      obtain ⟨ht7, hf⟩ := hf
      refine p_gR X cf7_ (k := 3) (by decide) rfl hP ht7 q594 (fun _ h => h) dX8_sound_319 ?_
      refine lv_iload hx hb dX8_sound_322 (lv_at hl 2 rfl) ?_
      refine lv_i2l hx hb dX8_sound_324 rfl ?_
      refine lv_iload hx hb dX8_sound_325 (lv_at hl 3 rfl) ?_
      refine lv_i2l hx hb dX8_sound_327 rfl ?_
      refine lv_ldc2 hx hb hown (hts _ q991) dX8_sound_328 ?_
      refine lv_ladd hx hb dX8_sound_331 ?_
      refine lv_lconst (v := 1) hx hb dX8_sound_332 (by decide) ?_
      refine lv_lsub hx hb dX8_sound_333 ?_
      refine lv_ldc2 hx hb hown (hts _ q991) dX8_sound_334 ?_
      refine lv_ldiv hx hb dX8_sound_337 (by decide) ?_
      obtain ⟨ht8, hf⟩ := hf
      refine p_calli hL (p_runV X cf6_ hP ht8 (metX7_hasWritten l G _ _ _ _ _ X.2.2 hf) (cwV 2 hts (lw_V q992 q993 q994 q104 q995) rfl rfl rfl (by decide +kernel) ⟨Nat.le_trans (Nat.le_of_ble_eq_true rfl) hRf, Nat.le_trans (Nat.le_of_ble_eq_true rfl) hRl⟩) rfl hl.1 rfl (by decide) dX8_sound_338 ⟨Nat.zero_le _, Nat.zero_le _⟩) (fun r9 σ₁ H locs hf hP hL => ?_)
      obtain ⟨e₁, hf⟩ := hf
      rw [e₁] at hP
      refine lv_if_ne (tgt := 352) hx hb dX8_sound_341 (by decide) (fun c10 => ?_) (fun c10 => ?_)
      · have hf := hf.1 c10
        exact sX8_sound_L352 Y hf _ _ _ _ _ hP hL ⟨rfl, rfl⟩ (lv_sub hl [] rfl)
      · have hf := hf.2 c10
        refine p_aload_n hx hb dX8_sound_344 rfl (lv_at hl 0 rfl) ?_
        refine lv_lload_n hx hb dX8_sound_345 rfl (lv_at hl 1 rfl) ?_
        refine p_calli hL (p_runV X cf7_ hP ht7 (metX8_bad l G _ _ _ _ X.2.2 hf) (cwV 1 hts (lw_V q996 q998 qs21 q105 q999) rfl rfl rfl (by decide +kernel) ⟨Nat.le_trans (Nat.le_of_ble_eq_true rfl) hRf, Nat.le_trans (Nat.le_of_ble_eq_true rfl) hRl⟩) rfl hl.1 rfl (by decide) dX8_sound_346 ⟨Nat.zero_le _, Nat.zero_le _⟩) (fun r11 σ12 H locs hf hP hL => ?_)
        refine lv_if_eq (tgt := 356) hx hb dX8_sound_349 (by decide) (fun c13 => ?_) (fun c13 => ?_)
        · have hf := hf.1 c13
          refine lv_iconst (v := 0) hx hb dX8_sound_356 (by decide) ?_
          exact p_zret X hlk hP hL (Nat.le_refl _) (Nat.le_refl _) hr nr_0 dX8_sound_357 hf
        · have hf := hf.2 c13
          exact sX8_sound_L352 Y hf _ _ _ _ _ hP hL ⟨rfl, rfl⟩ (lv_sub hl [] rfl)
    · have hf := hf.2 c6
      refine lv_iload hx hb dX8_sound_299 (lv_at hl 2 rfl) ?_
      refine lv_if_eq (tgt := 312) hx hb dX8_sound_301 (by decide) (fun c14 => ?_) (fun c14 => ?_)
      · have hf := hf.1 c14
        exact sX8_sound_L312 Y hf _ _ _ _ _ hP hL ⟨rfl, rfl⟩ (lv_sub hl [] rfl)
      · have hf := hf.2 c14
        refine p_aload_n hx hb dX8_sound_304 rfl (lv_at hl 0 rfl) ?_
        refine lv_lload_n hx hb dX8_sound_305 rfl (lv_at hl 1 rfl) ?_
        obtain ⟨ht15, hf⟩ := hf
        refine p_calli hL (p_runV X cf7_ hP ht15 (metX8_bad l G _ _ _ _ X.2.2 hf) (cwV 1 hts (lw_V q996 q998 qs21 q105 q999) rfl rfl rfl (by decide +kernel) ⟨Nat.le_trans (Nat.le_of_ble_eq_true rfl) hRf, Nat.le_trans (Nat.le_of_ble_eq_true rfl) hRl⟩) rfl hl.1 rfl (by decide) dX8_sound_306 ⟨Nat.zero_le _, Nat.zero_le _⟩) (fun r16 σ17 H locs hf hP hL => ?_)
        refine lv_if_eq (tgt := 316) hx hb dX8_sound_309 (by decide) (fun c18 => ?_) (fun c18 => ?_)
        · have hf := hf.1 c18
          refine lv_iconst (v := 0) hx hb dX8_sound_316 (by decide) ?_
          exact p_zret X hlk hP hL (Nat.le_refl _) (Nat.le_refl _) hr nr_0 dX8_sound_317 hf
        · have hf := hf.2 c18
          exact sX8_sound_L312 Y hf _ _ _ _ _ hP hL ⟨rfl, rfl⟩ (lv_sub hl [] rfl)
  · have hf := hf.2 c5
    exact sX8_sound_L288 Y hf _ _ _ _ _ hP hL ⟨rfl, rfl⟩ (lv_sub hl [0, 1] rfl)
set_option maxHeartbeats 4000000 in
theorem sX8_sound_L221 {G : GG_} {p : Program} {l : Launch} {e : Env} {R : Room} {s : State} {m : MethodId} {args : Array Value} {below : List Frame} {meth : Method} {c : Code} (Y : MX_ G p R s m args meth c cX8_sound 8 RX8 (some Jvm.ClassFile.FieldType.boolean) 7 152 0 0 "sound") {post : Int32 → Hp → Prop} {x0 : Nat} {x1 : Int64} {x5 : Int32} {s0 : Int32} {s1 : Nat} {σ : Hp} (hf : wX8_sound_L221 post x0 x1 x5 s0 s1 σ) : WG_ G p l e R s m args below meth c (MQ below (QI_ G post) args s 0 0 (FR_ G)) BN_ 8 221 [(0, rv_ x0), (1, .long x1), (5, .int x5)] [.int s0, rv_ s1] σ := by
  have ⟨X, hlk, hr, hRf, hRl, hRc, hnm⟩ := Y
  have ⟨⟨hx, hb, _, hown, hts⟩, _, _⟩ := X
  intro H locs cells slots ls hP hL hB hl
  obtain ⟨rfl, rfl⟩ := hB
  unfold wX8_sound_L221 at hf
  obtain ⟨ht19, hf⟩ := hf
  refine p_calli hL (p_runV X cf7_ hP ht19 (metX8_isIdentifier l G _ _ _ _ X.2.2 hf) (cwV 1 hts (lw_V q1035 q1037 qs25 q105 q1038) rfl rfl rfl (by decide +kernel) ⟨Nat.le_trans (Nat.le_of_ble_eq_true rfl) hRf, Nat.le_trans (Nat.le_of_ble_eq_true rfl) hRl⟩) rfl hl.1 rfl (by decide) dX8_sound_221 ⟨Nat.zero_le _, Nat.zero_le _⟩) (fun r20 σ₁ H locs hf hP hL => ?_)
  obtain ⟨e₁, hf⟩ := hf
  rw [e₁] at hP
  refine lv_if_ne (tgt := 233) hx hb dX8_sound_224 (by decide) (fun c21 => ?_) (fun c21 => ?_)
  · have hf := hf.1 c21
    refine p_aload_n hx hb dX8_sound_233 rfl (lv_at hl 0 rfl) ?_
    obtain ⟨ht22, hf⟩ := hf
    refine p_gR X cf7_ (k := 3) (by decide) rfl hP ht22 q594 (fun _ h => h) dX8_sound_234 ?_
    refine lv_lload_n hx hb dX8_sound_237 rfl (lv_at hl 1 rfl) ?_
    refine lv_ldc2 hx hb hown (hts _ q1027) dX8_sound_238 ?_
    refine lv_ladd hx hb dX8_sound_241 ?_
    refine lv_iconst (v := 4) hx hb dX8_sound_242 (by decide) ?_
    obtain ⟨ht23, hf⟩ := hf
    refine p_calli hL (p_runV X cf6_ hP ht23 (metX7_low l G _ _ _ _ _ X.2.2 hf) (cwV 2 hts (lw_V q1013 q973 q974 q104 q975) rfl rfl rfl (by decide +kernel) ⟨Nat.le_trans (Nat.le_of_ble_eq_true rfl) hRf, Nat.le_trans (Nat.le_of_ble_eq_true rfl) hRl⟩) rfl hl.1 rfl (by decide) dX8_sound_243 ⟨Nat.zero_le _, Nat.zero_le _⟩) (fun r24 σ₁ H locs hf hP hL => ?_)
    obtain ⟨e₁, hf⟩ := hf
    rw [e₁] at hP
    refine p_istore (i := 6) hx hb dX8_sound_246 hl (by decide) ⟨⟨ne_ rfl, Or.inl (ne_ rfl)⟩, ⟨⟨ne_ rfl, Or.inl (ne_ rfl)⟩, ⟨⟨ne_ rfl, Or.inr rfl⟩, trivial⟩⟩⟩ (fun ls hl => ?_)
    refine p_aload_n hx hb dX8_sound_248 rfl (lv_at hl 1 rfl) ?_
    refine p_gR X cf7_ (k := 3) (by decide) rfl hP ht22 q594 (fun _ h => h) dX8_sound_249 ?_
    refine lv_lload_n hx hb dX8_sound_252 rfl (lv_at hl 2 rfl) ?_
    refine lv_ldc2 hx hb hown (hts _ q1028) dX8_sound_253 ?_
    refine lv_ladd hx hb dX8_sound_256 ?_
    refine lv_iconst (v := 4) hx hb dX8_sound_257 (by decide) ?_
    refine p_calli hL (p_runV X cf6_ hP ht23 (metX7_low l G _ _ _ _ _ X.2.2 hf) (cwV 2 hts (lw_V q1013 q973 q974 q104 q975) rfl rfl rfl (by decide +kernel) ⟨Nat.le_trans (Nat.le_of_ble_eq_true rfl) hRf, Nat.le_trans (Nat.le_of_ble_eq_true rfl) hRl⟩) rfl hl.1 rfl (by decide) dX8_sound_258 ⟨Nat.zero_le _, Nat.zero_le _⟩) (fun r25 σ₁ H locs hf hP hL => ?_)
    obtain ⟨e₁, hf⟩ := hf
    rw [e₁] at hP
    refine p_istore (i := 7) hx hb dX8_sound_261 hl (by decide) ⟨⟨ne_ rfl, Or.inr rfl⟩, ⟨⟨ne_ rfl, Or.inl (ne_ rfl)⟩, ⟨⟨ne_ rfl, Or.inl (ne_ rfl)⟩, ⟨⟨ne_ rfl, Or.inl (ne_ rfl)⟩, trivial⟩⟩⟩⟩ (fun ls hl => ?_)
    refine lv_iload hx hb dX8_sound_263 (lv_at hl 4 rfl) ?_
    refine lv_iconst (v := 2) hx hb dX8_sound_265 (by decide) ?_
    refine lv_icmp_ne (tgt := 283) hx hb dX8_sound_266 (by decide) (fun c26 => ?_) (fun c26 => ?_)
    · have hf := hf.1 c26
      exact sX8_sound_L283 Y hf _ _ _ _ _ hP hL ⟨rfl, rfl⟩ (lv_sub hl [2, 3, 1, 0] rfl)
    · have hf := hf.2 c26
      refine lv_iload hx hb dX8_sound_269 (lv_at hl 0 rfl) ?_
      refine lv_if_le (tgt := 288) hx hb dX8_sound_271 (by decide) (fun c27 => ?_) (fun c27 => ?_)
      · have hf := hf.1 c27
        exact sX8_sound_L288 Y hf _ _ _ _ _ hP hL ⟨rfl, rfl⟩ (lv_sub hl [2, 3] rfl)
      · have hf := hf.2 c27
        refine lv_iload hx hb dX8_sound_274 (lv_at hl 0 rfl) ?_
        refine lv_sipush (v := 2048) hx hb dX8_sound_276 (by decide) ?_
        refine lv_irem hx hb dX8_sound_279 (by decide) ?_
        refine lv_if_ne (tgt := 288) hx hb dX8_sound_280 (by decide) (fun c28 => ?_) (fun c28 => ?_)
        · have hf := hf.1 c28
          exact sX8_sound_L288 Y hf _ _ _ _ _ hP hL ⟨rfl, rfl⟩ (lv_sub hl [2, 3] rfl)
        · have hf := hf.2 c28
          exact sX8_sound_L283 Y hf _ _ _ _ _ hP hL ⟨rfl, rfl⟩ (lv_sub hl [2, 3, 1, 0] rfl)
  · have hf := hf.2 c21
    refine p_aload_n hx hb dX8_sound_227 rfl (lv_at hl 0 rfl) ?_
    refine lv_lload_n hx hb dX8_sound_228 rfl (lv_at hl 1 rfl) ?_
    obtain ⟨ht29, hf⟩ := hf
    refine p_calli hL (p_runV X cf7_ hP ht29 (metX8_bad l G _ _ _ _ X.2.2 hf) (cwV 1 hts (lw_V q996 q998 qs21 q105 q999) rfl rfl rfl (by decide +kernel) ⟨Nat.le_trans (Nat.le_of_ble_eq_true rfl) hRf, Nat.le_trans (Nat.le_of_ble_eq_true rfl) hRl⟩) rfl hl.1 rfl (by decide) dX8_sound_229 ⟨Nat.zero_le _, Nat.zero_le _⟩) (fun r30 σ31 H locs hf hP hL => ?_)
    obtain ⟨hn32, hf⟩ := hf
    exact p_zret X hlk hP hL (Nat.le_refl _) (Nat.le_refl _) hr hn32 dX8_sound_232 hf
set_option maxHeartbeats 4000000 in
theorem sX8_sound_L196 {G : GG_} {p : Program} {l : Launch} {e : Env} {R : Room} {s : State} {m : MethodId} {args : Array Value} {below : List Frame} {meth : Method} {c : Code} (Y : MX_ G p R s m args meth c cX8_sound 8 RX8 (some Jvm.ClassFile.FieldType.boolean) 7 152 0 0 "sound") {post : Int32 → Hp → Prop} {x0 : Nat} {x1 : Int64} {x3 : Int32} {x5 : Int32} {σ : Hp} (hf : wX8_sound_L196 post x0 x1 x3 x5 σ) : WG_ G p l e R s m args below meth c (MQ below (QI_ G post) args s 0 0 (FR_ G)) BN_ 8 196 [(0, rv_ x0), (1, .long x1), (3, .int x3), (5, .int x5)] [] σ := by
  have ⟨X, hlk, hr, hRf, hRl, hRc, hnm⟩ := Y
  have ⟨⟨hx, hb, _, hown, hts⟩, _, _⟩ := X
  intro H locs cells slots ls hP hL hB hl
  obtain ⟨rfl, rfl⟩ := hB
  unfold wX8_sound_L196 at hf
  refine p_aload_n hx hb dX8_sound_196 rfl (lv_at hl 0 rfl) ?_
  refine lv_lload_n hx hb dX8_sound_197 rfl (lv_at hl 1 rfl) ?_
  obtain ⟨ht33, hf⟩ := hf
  refine p_callv hL (p_runV X cf7_ hP ht33 (metX8_read l G _ _ _ _ X.2.2 hf) (cwV 1 hts (lw_V q1030 q1032 qs24 q105 q1033) rfl rfl rfl (by decide +kernel) ⟨Nat.le_trans (Nat.le_of_ble_eq_true rfl) hRf, Nat.le_trans (Nat.le_of_ble_eq_true rfl) hRl⟩) rfl hl.1 rfl (by decide) dX8_sound_198 ⟨Nat.zero_le _, Nat.zero_le _⟩) (fun σ34 H locs hf hP hL => ?_)
  refine p_aload_n hx hb dX8_sound_201 rfl (lv_at hl 0 rfl) ?_
  refine lv_iload_n hx hb dX8_sound_202 rfl (lv_at hl 2 rfl) ?_
  refine lv_if_lt (tgt := 210) hx hb dX8_sound_203 (by decide) (fun c35 => ?_) (fun c35 => ?_)
  · have hf := hf.1 c35
    refine lv_iload hx hb dX8_sound_210 (lv_at hl 3 rfl) ?_
    refine lv_iconst (v := 2) hx hb dX8_sound_212 (by decide) ?_
    refine lv_icmp_ne (tgt := 220) hx hb dX8_sound_213 (by decide) (fun c36 => ?_) (fun c36 => ?_)
    · have hf := hf.1 c36
      refine lv_iconst (v := 3) hx hb dX8_sound_220 (by decide) ?_
      exact sX8_sound_L221 Y hf _ _ _ _ _ hP hL ⟨rfl, rfl⟩ (lv_sub hl [0, 1, 3] rfl)
    · have hf := hf.2 c36
      refine lv_iconst (v := 2) hx hb dX8_sound_216 (by decide) ?_
      refine lv_goto (tgt := 221) hx hb dX8_sound_217 (by decide) ?_
      exact sX8_sound_L221 Y hf _ _ _ _ _ hP hL ⟨rfl, rfl⟩ (lv_sub hl [0, 1, 3] rfl)
  · have hf := hf.2 c35
    refine lv_iload_n hx hb dX8_sound_206 rfl (lv_at hl 2 rfl) ?_
    refine lv_goto (tgt := 221) hx hb dX8_sound_207 (by decide) ?_
    exact sX8_sound_L221 Y hf _ _ _ _ _ hP hL ⟨rfl, rfl⟩ (lv_sub hl [0, 1, 3] rfl)
set_option maxHeartbeats 4000000 in
theorem sX8_sound_L190 {G : GG_} {p : Program} {l : Launch} {e : Env} {R : Room} {s : State} {m : MethodId} {args : Array Value} {below : List Frame} {meth : Method} {c : Code} (Y : MX_ G p R s m args meth c cX8_sound 8 RX8 (some Jvm.ClassFile.FieldType.boolean) 7 152 0 0 "sound") {post : Int32 → Hp → Prop} {x0 : Nat} {x1 : Int64} {σ : Hp} (hf : wX8_sound_L190 post x0 x1 σ) : WG_ G p l e R s m args below meth c (MQ below (QI_ G post) args s 0 0 (FR_ G)) BN_ 8 190 [(0, rv_ x0), (1, .long x1)] [] σ := by
  have ⟨X, hlk, hr, hRf, hRl, hRc, hnm⟩ := Y
  have ⟨⟨hx, hb, _, hown, hts⟩, _, _⟩ := X
  intro H locs cells slots ls hP hL hB hl
  obtain ⟨rfl, rfl⟩ := hB
  unfold wX8_sound_L190 at hf
  refine p_aload_n hx hb dX8_sound_190 rfl (lv_at hl 0 rfl) ?_
  refine lv_lload_n hx hb dX8_sound_191 rfl (lv_at hl 1 rfl) ?_
  obtain ⟨ht37, hf⟩ := hf
  refine p_calli hL (p_runV X cf7_ hP ht37 (metX8_bad l G _ _ _ _ X.2.2 hf) (cwV 1 hts (lw_V q996 q998 qs21 q105 q999) rfl rfl rfl (by decide +kernel) ⟨Nat.le_trans (Nat.le_of_ble_eq_true rfl) hRf, Nat.le_trans (Nat.le_of_ble_eq_true rfl) hRl⟩) rfl hl.1 rfl (by decide) dX8_sound_192 ⟨Nat.zero_le _, Nat.zero_le _⟩) (fun r38 σ39 H locs hf hP hL => ?_)
  obtain ⟨hn40, hf⟩ := hf
  exact p_zret X hlk hP hL (Nat.le_refl _) (Nat.le_refl _) hr hn40 dX8_sound_195 hf
set_option maxHeartbeats 4000000 in
theorem sX8_sound_L180 {G : GG_} {p : Program} {l : Launch} {e : Env} {R : Room} {s : State} {m : MethodId} {args : Array Value} {below : List Frame} {meth : Method} {c : Code} (Y : MX_ G p R s m args meth c cX8_sound 8 RX8 (some Jvm.ClassFile.FieldType.boolean) 7 152 0 0 "sound") {post : Int32 → Hp → Prop} {x0 : Nat} {x1 : Int64} {x3 : Int32} {x5 : Int32} {σ : Hp} (hf : wX8_sound_L180 post x0 x1 x3 x5 σ) : WG_ G p l e R s m args below meth c (MQ below (QI_ G post) args s 0 0 (FR_ G)) BN_ 8 180 [(0, rv_ x0), (1, .long x1), (3, .int x3), (5, .int x5)] [] σ := by
  have ⟨X, hlk, hr, hRf, hRl, hRc, hnm⟩ := Y
  have ⟨⟨hx, hb, _, hown, hts⟩, _, _⟩ := X
  intro H locs cells slots ls hP hL hB hl
  obtain ⟨rfl, rfl⟩ := hB
  unfold wX8_sound_L180 at hf
  refine lv_iload_n hx hb dX8_sound_180 rfl (lv_at hl 2 rfl) ?_
  refine lv_if_lt (tgt := 196) hx hb dX8_sound_181 (by decide) (fun c41 => ?_) (fun c41 => ?_)
  · have hf := hf.1 c41
    exact sX8_sound_L196 Y hf _ _ _ _ _ hP hL ⟨rfl, rfl⟩ (lv_sub hl [0, 1, 2, 3] rfl)
  · have hf := hf.2 c41
    refine lv_iload hx hb dX8_sound_184 (lv_at hl 3 rfl) ?_
    refine lv_iconst (v := 2) hx hb dX8_sound_186 (by decide) ?_
    refine lv_icmp_eq (tgt := 196) hx hb dX8_sound_187 (by decide) (fun c42 => ?_) (fun c42 => ?_)
    · have hf := hf.1 c42
      exact sX8_sound_L196 Y hf _ _ _ _ _ hP hL ⟨rfl, rfl⟩ (lv_sub hl [0, 1, 2, 3] rfl)
    · have hf := hf.2 c42
      exact sX8_sound_L190 Y hf _ _ _ _ _ hP hL ⟨rfl, rfl⟩ (lv_sub hl [0, 1] rfl)
set_option maxHeartbeats 4000000 in
theorem sX8_sound_L107 {G : GG_} {p : Program} {l : Launch} {e : Env} {R : Room} {s : State} {m : MethodId} {args : Array Value} {below : List Frame} {meth : Method} {c : Code} (Y : MX_ G p R s m args meth c cX8_sound 8 RX8 (some Jvm.ClassFile.FieldType.boolean) 7 152 0 0 "sound") {post : Int32 → Hp → Prop} {x0 : Nat} {x1 : Int64} {x3 : Int32} {σ : Hp} (hf : wX8_sound_L107 post x0 x1 x3 σ) : WG_ G p l e R s m args below meth c (MQ below (QI_ G post) args s 0 0 (FR_ G)) BN_ 8 107 [(0, rv_ x0), (1, .long x1), (3, .int x3)] [] σ := by
  have ⟨X, hlk, hr, hRf, hRl, hRc, hnm⟩ := Y
  have ⟨⟨hx, hb, _, hown, hts⟩, _, _⟩ := X
  intro H locs cells slots ls hP hL hB hl
  obtain ⟨rfl, rfl⟩ := hB
  unfold wX8_sound_L107 at hf
  refine p_aload_n hx hb dX8_sound_107 rfl (lv_at hl 0 rfl) ?_
  obtain ⟨ht43, hf⟩ := hf
  refine p_gR X cf7_ (k := 3) (by decide) rfl hP ht43 q594 (fun _ h => h) dX8_sound_108 ?_
  refine lv_lload_n hx hb dX8_sound_111 rfl (lv_at hl 1 rfl) ?_
  refine lv_ldc2 hx hb hown (hts _ q1026) dX8_sound_112 ?_
  refine lv_ladd hx hb dX8_sound_115 ?_
  obtain ⟨ht44, hf⟩ := hf
  refine p_calli hL (p_runV X cf6_ hP ht44 (metX7_at l G _ _ _ _ X.2.2 hf) (cwV 1 hts (lw_V q1004 q967 q968 q104 q969) rfl rfl rfl (by decide +kernel) ⟨Nat.le_trans (Nat.le_of_ble_eq_true rfl) hRf, Nat.le_trans (Nat.le_of_ble_eq_true rfl) hRl⟩) rfl hl.1 rfl (by decide) dX8_sound_116 ⟨Nat.zero_le _, Nat.zero_le _⟩) (fun r45 σ₁ H locs hf hP hL => ?_)
  obtain ⟨e₁, hf⟩ := hf
  rw [e₁] at hP
  refine p_istore (i := 5) hx hb dX8_sound_119 hl (by decide) ⟨⟨ne_ rfl, Or.inl (ne_ rfl)⟩, ⟨⟨ne_ rfl, Or.inl (ne_ rfl)⟩, ⟨⟨ne_ rfl, Or.inl (ne_ rfl)⟩, trivial⟩⟩⟩ (fun ls hl => ?_)
  refine p_aload_n hx hb dX8_sound_121 rfl (lv_at hl 1 rfl) ?_
  refine p_gR X cf7_ (k := 3) (by decide) rfl hP ht43 q594 (fun _ h => h) dX8_sound_122 ?_
  refine lv_lload_n hx hb dX8_sound_125 rfl (lv_at hl 2 rfl) ?_
  refine lv_ldc2 hx hb hown (hts _ q1027) dX8_sound_126 ?_
  refine lv_ladd hx hb dX8_sound_129 ?_
  refine lv_iconst (v := 4) hx hb dX8_sound_130 (by decide) ?_
  refine p_calli hL (p_runV X cf6_ hP ht44 (metX7_isBoth l G _ _ _ _ _ X.2.2 hf) (cwV 2 hts (lw_V q1009 q1010 q1011 q104 q1012) rfl rfl rfl (by decide +kernel) ⟨Nat.le_trans (Nat.le_of_ble_eq_true rfl) hRf, Nat.le_trans (Nat.le_of_ble_eq_true rfl) hRl⟩) rfl hl.1 rfl (by decide) dX8_sound_131 ⟨Nat.zero_le _, Nat.zero_le _⟩) (fun r46 σ₁ H locs hf hP hL => ?_)
  obtain ⟨e₁, hf⟩ := hf
  rw [e₁] at hP
  refine lv_if_eq (tgt := 190) hx hb dX8_sound_134 (by decide) (fun c47 => ?_) (fun c47 => ?_)
  · have hf := hf.1 c47
    exact sX8_sound_L190 Y hf _ _ _ _ _ hP hL ⟨rfl, rfl⟩ (lv_sub hl [1, 2] rfl)
  · have hf := hf.2 c47
    refine p_aload_n hx hb dX8_sound_137 rfl (lv_at hl 1 rfl) ?_
    refine p_gR X cf7_ (k := 3) (by decide) rfl hP ht43 q594 (fun _ h => h) dX8_sound_138 ?_
    refine lv_lload_n hx hb dX8_sound_141 rfl (lv_at hl 2 rfl) ?_
    refine lv_ldc2 hx hb hown (hts _ q1028) dX8_sound_142 ?_
    refine lv_ladd hx hb dX8_sound_145 ?_
    refine lv_iconst (v := 4) hx hb dX8_sound_146 (by decide) ?_
    refine p_calli hL (p_runV X cf6_ hP ht44 (metX7_isBoth l G _ _ _ _ _ X.2.2 hf) (cwV 2 hts (lw_V q1009 q1010 q1011 q104 q1012) rfl rfl rfl (by decide +kernel) ⟨Nat.le_trans (Nat.le_of_ble_eq_true rfl) hRf, Nat.le_trans (Nat.le_of_ble_eq_true rfl) hRl⟩) rfl hl.1 rfl (by decide) dX8_sound_147 ⟨Nat.zero_le _, Nat.zero_le _⟩) (fun r48 σ₁ H locs hf hP hL => ?_)
    obtain ⟨e₁, hf⟩ := hf
    rw [e₁] at hP
    refine lv_if_eq (tgt := 190) hx hb dX8_sound_150 (by decide) (fun c49 => ?_) (fun c49 => ?_)
    · have hf := hf.1 c49
      exact sX8_sound_L190 Y hf _ _ _ _ _ hP hL ⟨rfl, rfl⟩ (lv_sub hl [1, 2] rfl)
    · have hf := hf.2 c49
      refine p_aload_n hx hb dX8_sound_153 rfl (lv_at hl 1 rfl) ?_
      refine p_gR X cf7_ (k := 3) (by decide) rfl hP ht43 q594 (fun _ h => h) dX8_sound_154 ?_
      refine lv_lload_n hx hb dX8_sound_157 rfl (lv_at hl 2 rfl) ?_
      refine lv_ldc2 hx hb hown (hts _ q1029) dX8_sound_158 ?_
      refine lv_ladd hx hb dX8_sound_161 ?_
      refine lv_iconst (v := 2) hx hb dX8_sound_162 (by decide) ?_
      refine p_calli hL (p_runV X cf6_ hP ht44 (metX7_isBoth l G _ _ _ _ _ X.2.2 hf) (cwV 2 hts (lw_V q1009 q1010 q1011 q104 q1012) rfl rfl rfl (by decide +kernel) ⟨Nat.le_trans (Nat.le_of_ble_eq_true rfl) hRf, Nat.le_trans (Nat.le_of_ble_eq_true rfl) hRl⟩) rfl hl.1 rfl (by decide) dX8_sound_163 ⟨Nat.zero_le _, Nat.zero_le _⟩) (fun r50 σ₁ H locs hf hP hL => ?_)
      obtain ⟨e₁, hf⟩ := hf
      rw [e₁] at hP
      refine lv_if_eq (tgt := 190) hx hb dX8_sound_166 (by decide) (fun c51 => ?_) (fun c51 => ?_)
      · have hf := hf.1 c51
        exact sX8_sound_L190 Y hf _ _ _ _ _ hP hL ⟨rfl, rfl⟩ (lv_sub hl [1, 2] rfl)
      · have hf := hf.2 c51
        refine lv_iload hx hb dX8_sound_169 (lv_at hl 0 rfl) ?_
        refine lv_if_eq (tgt := 180) hx hb dX8_sound_171 (by decide) (fun c52 => ?_) (fun c52 => ?_)
        · have hf := hf.1 c52
          exact sX8_sound_L180 Y hf _ _ _ _ _ hP hL ⟨rfl, rfl⟩ (lv_sub hl [1, 2, 3, 0] rfl)
        · have hf := hf.2 c52
          refine lv_iload hx hb dX8_sound_174 (lv_at hl 0 rfl) ?_
          refine lv_iconst (v := 2) hx hb dX8_sound_176 (by decide) ?_
          refine lv_icmp_ne (tgt := 190) hx hb dX8_sound_177 (by decide) (fun c53 => ?_) (fun c53 => ?_)
          · have hf := hf.1 c53
            exact sX8_sound_L190 Y hf _ _ _ _ _ hP hL ⟨rfl, rfl⟩ (lv_sub hl [1, 2] rfl)
          · have hf := hf.2 c53
            exact sX8_sound_L180 Y hf _ _ _ _ _ hP hL ⟨rfl, rfl⟩ (lv_sub hl [1, 2, 3, 0] rfl)
set_option maxHeartbeats 4000000 in
theorem sX8_sound_L58 {G : GG_} {p : Program} {l : Launch} {e : Env} {R : Room} {s : State} {m : MethodId} {args : Array Value} {below : List Frame} {meth : Method} {c : Code} (Y : MX_ G p R s m args meth c cX8_sound 8 RX8 (some Jvm.ClassFile.FieldType.boolean) 7 152 0 0 "sound") {post : Int32 → Hp → Prop} {x0 : Nat} {x1 : Int64} {σ : Hp} (hf : wX8_sound_L58 post x0 x1 σ) : WG_ G p l e R s m args below meth c (MQ below (QI_ G post) args s 0 0 (FR_ G)) BN_ 8 58 [(0, rv_ x0), (1, .long x1)] [] σ := by
  have ⟨X, hlk, hr, hRf, hRl, hRc, hnm⟩ := Y
  have ⟨⟨hx, hb, _, hown, hts⟩, _, _⟩ := X
  intro H locs cells slots ls hP hL hB hl
  obtain ⟨rfl, rfl⟩ := hB
  unfold wX8_sound_L58 at hf
  refine p_aload_n hx hb dX8_sound_58 rfl (lv_at hl 0 rfl) ?_
  refine lv_lload_n hx hb dX8_sound_59 rfl (lv_at hl 1 rfl) ?_
  obtain ⟨ht54, hf⟩ := hf
  refine p_calli hL (p_runV X cf7_ hP ht54 (metX8_bad l G _ _ _ _ X.2.2 hf) (cwV 1 hts (lw_V q996 q998 qs21 q105 q999) rfl rfl rfl (by decide +kernel) ⟨Nat.le_trans (Nat.le_of_ble_eq_true rfl) hRf, Nat.le_trans (Nat.le_of_ble_eq_true rfl) hRl⟩) rfl hl.1 rfl (by decide) dX8_sound_60 ⟨Nat.zero_le _, Nat.zero_le _⟩) (fun r55 σ56 H locs hf hP hL => ?_)
  obtain ⟨hn57, hf⟩ := hf
  exact p_zret X hlk hP hL (Nat.le_refl _) (Nat.le_refl _) hr hn57 dX8_sound_63 hf
set_option maxHeartbeats 4000000 in
theorem sX8_sound {G : GG_} {p : Program} {l : Launch} {e : Env} {R : Room} {s : State} {m : MethodId} {args : Array Value} {below : List Frame} {meth : Method} {c : Code} (Y : MX_ G p R s m args meth c cX8_sound 8 RX8 (some Jvm.ClassFile.FieldType.boolean) 7 152 0 0 "sound") {post : Int32 → Hp → Prop} {x0 : Nat} {x1 : Int64} {x3 : Int32} {σ : Hp} (hf : wX8_sound x0 x1 x3 σ post) : WG_ G p l e R s m args below meth c (MQ below (QI_ G post) args s 0 0 (FR_ G)) BN_ 8 0 [(0, rv_ x0), (1, .long x1), (3, .int x3)] [] σ := by
  have ⟨X, hlk, hr, hRf, hRl, hRc, hnm⟩ := Y
  have ⟨⟨hx, hb, _, hown, hts⟩, _, _⟩ := X
  intro H locs cells slots ls hP hL hB hl
  obtain ⟨rfl, rfl⟩ := hB
  unfold wX8_sound at hf
  refine p_aload_n hx hb dX8_sound_0 rfl (lv_at hl 0 rfl) ?_
  obtain ⟨ht58, hf⟩ := hf
  refine p_gR X cf7_ (k := 3) (by decide) rfl hP ht58 q594 (fun _ h => h) dX8_sound_1 ?_
  refine lv_lload_n hx hb dX8_sound_4 rfl (lv_at hl 1 rfl) ?_
  obtain ⟨ht59, hf⟩ := hf
  refine p_calli hL (p_runV X cf6_ hP ht59 (metX7_at l G _ _ _ _ X.2.2 hf) (cwV 1 hts (lw_V q1004 q967 q968 q104 q969) rfl rfl rfl (by decide +kernel) ⟨Nat.le_trans (Nat.le_of_ble_eq_true rfl) hRf, Nat.le_trans (Nat.le_of_ble_eq_true rfl) hRl⟩) rfl hl.1 rfl (by decide) dX8_sound_5 ⟨Nat.zero_le _, Nat.zero_le _⟩) (fun r60 σ₁ H locs hf hP hL => ?_)
  obtain ⟨e₁, hf⟩ := hf
  rw [e₁] at hP
  refine p_istore (i := 4) hx hb dX8_sound_8 hl (by decide) ⟨⟨ne_ rfl, Or.inl (ne_ rfl)⟩, ⟨⟨ne_ rfl, Or.inl (ne_ rfl)⟩, ⟨⟨ne_ rfl, Or.inr rfl⟩, trivial⟩⟩⟩ (fun ls hl => ?_)
  refine lv_iload hx hb dX8_sound_10 (lv_at hl 0 rfl) ?_
  refine lv_bipush (v := 34) hx hb dX8_sound_12 (by decide) ?_
  refine lv_icmp_lt (tgt := 58) hx hb dX8_sound_14 (by decide) (fun c61 => ?_) (fun c61 => ?_)
  · have hf := hf.1 c61
    exact sX8_sound_L58 Y hf _ _ _ _ _ hP hL ⟨rfl, rfl⟩ (lv_sub hl [1, 2] rfl)
  · have hf := hf.2 c61
    refine lv_lload_n hx hb dX8_sound_17 rfl (lv_at hl 2 rfl) ?_
    refine lv_ldc2 hx hb hown (hts _ q991) dX8_sound_18 ?_
    refine lv_lrem hx hb dX8_sound_21 (by decide) ?_
    refine lv_iload hx hb dX8_sound_22 (lv_at hl 0 rfl) ?_
    refine lv_i2l hx hb dX8_sound_24 rfl ?_
    refine lv_ladd hx hb dX8_sound_25 ?_
    refine lv_ldc2 hx hb hown (hts _ q991) dX8_sound_26 ?_
    refine W.lcmp hx hb dX8_sound_29 ?_
    refine lv_if_gt (tgt := 58) hx hb dX8_sound_30 (by decide) (fun c62 => ?_) (fun c62 => ?_)
    · have hf := hf.1 c62
      exact sX8_sound_L58 Y hf _ _ _ _ _ hP hL ⟨rfl, rfl⟩ (lv_sub hl [1, 2] rfl)
    · have hf := hf.2 c62
      refine lv_iload hx hb dX8_sound_33 (lv_at hl 0 rfl) ?_
      refine lv_bipush (v := 33) hx hb dX8_sound_35 (by decide) ?_
      refine p_aload_n hx hb dX8_sound_37 rfl (lv_at hl 1 rfl) ?_
      refine p_gR X cf7_ (k := 3) (by decide) rfl hP ht58 q594 (fun _ h => h) dX8_sound_38 ?_
      refine lv_lload_n hx hb dX8_sound_41 rfl (lv_at hl 2 rfl) ?_
      refine lv_ldc2 hx hb hown (hts _ q1025) dX8_sound_42 ?_
      refine lv_ladd hx hb dX8_sound_45 ?_
      refine p_calli hL (p_runV X cf6_ hP ht59 (metX7_at l G _ _ _ _ X.2.2 hf) (cwV 1 hts (lw_V q1004 q967 q968 q104 q969) rfl rfl rfl (by decide +kernel) ⟨Nat.le_trans (Nat.le_of_ble_eq_true rfl) hRf, Nat.le_trans (Nat.le_of_ble_eq_true rfl) hRl⟩) rfl hl.1 rfl (by rw [(ca_i (ca_i ca_n))]; decide) dX8_sound_46 ⟨Nat.zero_le _, Nat.zero_le _⟩) (fun r63 σ₁ H locs hf hP hL => ?_)
      obtain ⟨e₁, hf⟩ := hf
      rw [e₁] at hP
      refine lv_iadd hx hb dX8_sound_49 ?_
      refine lv_iconst (v := 1) hx hb dX8_sound_50 (by decide) ?_
      refine lv_iadd hx hb dX8_sound_51 ?_
      refine lv_bipush (v := (-2)) hx hb dX8_sound_52 (by decide) ?_
      refine lv_iand hx hb dX8_sound_54 ?_
      refine lv_icmp_eq (tgt := 64) hx hb dX8_sound_55 (by decide) (fun c64 => ?_) (fun c64 => ?_)
      · have hf := hf.1 c64
        refine lv_iload hx hb dX8_sound_64 (lv_at hl 0 rfl) ?_
        refine lv_bipush (v := 33) hx hb dX8_sound_66 (by decide) ?_
        refine p_aload_n hx hb dX8_sound_68 rfl (lv_at hl 1 rfl) ?_
        refine p_gR X cf7_ (k := 3) (by decide) rfl hP ht58 q594 (fun _ h => h) dX8_sound_69 ?_
        refine lv_lload_n hx hb dX8_sound_72 rfl (lv_at hl 2 rfl) ?_
        refine lv_ldc2 hx hb hown (hts _ q1025) dX8_sound_73 ?_
        refine lv_ladd hx hb dX8_sound_76 ?_
        refine p_calli hL (p_runV X cf6_ hP ht59 (metX7_at l G _ _ _ _ X.2.2 hf) (cwV 1 hts (lw_V q1004 q967 q968 q104 q969) rfl rfl rfl (by decide +kernel) ⟨Nat.le_trans (Nat.le_of_ble_eq_true rfl) hRf, Nat.le_trans (Nat.le_of_ble_eq_true rfl) hRl⟩) rfl hl.1 rfl (by rw [(ca_i (ca_i ca_n))]; decide) dX8_sound_77 ⟨Nat.zero_le _, Nat.zero_le _⟩) (fun r65 σ₁ H locs hf hP hL => ?_)
        obtain ⟨e₁, hf⟩ := hf
        rw [e₁] at hP
        refine lv_iadd hx hb dX8_sound_80 ?_
        refine lv_icmp_le (tgt := 107) hx hb dX8_sound_81 (by decide) (fun c66 => ?_) (fun c66 => ?_)
        · have hf := hf.1 c66
          exact sX8_sound_L107 Y hf _ _ _ _ _ hP hL ⟨rfl, rfl⟩ (lv_sub hl [1, 2, 3] rfl)
        · have hf := hf.2 c66
          refine p_aload_n hx hb dX8_sound_84 rfl (lv_at hl 1 rfl) ?_
          refine p_gR X cf7_ (k := 3) (by decide) rfl hP ht58 q594 (fun _ h => h) dX8_sound_85 ?_
          refine lv_lload_n hx hb dX8_sound_88 rfl (lv_at hl 2 rfl) ?_
          refine lv_iload hx hb dX8_sound_89 (lv_at hl 0 rfl) ?_
          refine lv_i2l hx hb dX8_sound_91 rfl ?_
          refine lv_ladd hx hb dX8_sound_92 ?_
          refine lv_lconst (v := 1) hx hb dX8_sound_93 (by decide) ?_
          refine lv_lsub hx hb dX8_sound_94 ?_
          refine p_calli hL (p_runV X cf6_ hP ht59 (metX7_at l G _ _ _ _ X.2.2 hf) (cwV 1 hts (lw_V q1004 q967 q968 q104 q969) rfl rfl rfl (by decide +kernel) ⟨Nat.le_trans (Nat.le_of_ble_eq_true rfl) hRf, Nat.le_trans (Nat.le_of_ble_eq_true rfl) hRl⟩) rfl hl.1 rfl (by decide) dX8_sound_95 ⟨Nat.zero_le _, Nat.zero_le _⟩) (fun r67 σ₁ H locs hf hP hL => ?_)
          obtain ⟨e₁, hf⟩ := hf
          rw [e₁] at hP
          refine lv_if_eq (tgt := 107) hx hb dX8_sound_98 (by decide) (fun c68 => ?_) (fun c68 => ?_)
          · have hf := hf.1 c68
            exact sX8_sound_L107 Y hf _ _ _ _ _ hP hL ⟨rfl, rfl⟩ (lv_sub hl [1, 2, 3] rfl)
          · have hf := hf.2 c68
            refine p_aload_n hx hb dX8_sound_101 rfl (lv_at hl 1 rfl) ?_
            refine lv_lload_n hx hb dX8_sound_102 rfl (lv_at hl 2 rfl) ?_
            refine p_calli hL (p_runV X cf7_ hP ht58 (metX8_bad l G _ _ _ _ X.2.2 hf) (cwV 1 hts (lw_V q996 q998 qs21 q105 q999) rfl rfl rfl (by decide +kernel) ⟨Nat.le_trans (Nat.le_of_ble_eq_true rfl) hRf, Nat.le_trans (Nat.le_of_ble_eq_true rfl) hRl⟩) rfl hl.1 rfl (by decide) dX8_sound_103 ⟨Nat.zero_le _, Nat.zero_le _⟩) (fun r69 σ70 H locs hf hP hL => ?_)
            obtain ⟨hn71, hf⟩ := hf
            exact p_zret X hlk hP hL (Nat.le_refl _) (Nat.le_refl _) hr hn71 dX8_sound_106 hf
      · have hf := hf.2 c64
        exact sX8_sound_L58 Y hf _ _ _ _ _ hP hL ⟨rfl, rfl⟩ (lv_sub hl [1, 2] rfl)
set_option maxHeartbeats 4000000 in
theorem metX8_sound (l : Launch) (G : GG_) (x0 : Nat) (x1 : Int64) (x3 : Int32) (σ : Hp) (post : Int32 → Hp → Prop) (hG : GOK_ G) (hf : wX8_sound x0 x1 x3 σ post) : Met l yX8_sound (ws_ yX8_sound cX8_sound 8 (some Jvm.ClassFile.FieldType.boolean)) { frames := 7, cells := 0, slots := 0, locals := 152 } (PC_ G [rv_ x0, .long x1, .int x3] σ) (QI_ G post) 0 0 (FR_ G) := by
  refine Met.ofW (cc := cX8_sound) (maxL := 8) (ret := (some Jvm.ClassFile.FieldType.boolean)) (by decide) rfl ?_
  intro p e s m args below meth c s₁ B hml hv
  obtain ⟨rfl, hP, hW⟩ := hv
  have hts := atoms_spec (ws := ws_ yX8_sound cX8_sound 8 (some Jvm.ClassFile.FieldType.boolean)) B.pre
  have hts : ∀ w ∈ lw_all, w.before _ s = true := fun w h => hts w (List.mem_cons_of_mem _ h)
  rw [lg_entry_eq]
  have hl := en_entry [rv_ x0, .long x1, .int x3] [1, 2, 1] (n := 8) (ca_r (ca_l (ca_i ca_n))) (by decide)
  exact sX8_sound ⟨⟨⟨B.exec, B.bytes, hml, findClass_of_methodNamed B.named, hts⟩, hW, hG⟩, B.notSynchronized, B.returns, Nat.le_refl _, Nat.le_refl _, ⟨rfl, rfl⟩, (name_of_methodNamed B.named B.method).1⟩ hf _ _ _ _ _ hP (LO_nil G) ⟨rfl, rfl⟩ hl
abbrev cX10_init : ByteArray := prog_3_method_1_code
def yX10_init : MethodName := ⟨RX10, "<init>", "()V"⟩
theorem dX10_init_0 : decode cX10_init 0 = .ok (.aload_n 0, 1) := by decide +kernel
theorem dX10_init_1 : decode cX10_init 1 = .ok (.invokespecial 3, 3) := by decide +kernel
theorem dX10_init_4 : decode cX10_init 4 = .ok (.return_, 1) := by decide +kernel
/-- WriteOnceDisc$Found.<init>()V -/
def wX10_init (x0 : Nat) (σ : Hp) (post : Prop) : Prop :=
(tg_ σ x0 = 10 ∧ post)
set_option maxHeartbeats 4000000 in
theorem sX10_init {G : GG_} {p : Program} {l : Launch} {e : Env} {R : Room} {s : State} {m : MethodId} {args : Array Value} {below : List Frame} {meth : Method} {c : Code} (Y : MX_ G p R s m args meth c cX10_init 1 RX10 none 1 28 0 0 "<init>") {post : Prop} {x0 : Nat} {σ : Hp} (hf : wX10_init x0 σ post) : WG_ G p l e R s m args below meth c (MQ below (QV_ G (fun τ => τ = σ ∧ post)) args s 0 0 (FR_ G)) BN_ 1 0 [(0, rv_ x0)] [] σ := by
  have ⟨X, hlk, hr, hRf, hRl, hRc, hnm⟩ := Y
  have ⟨⟨hx, hb, _, hown, hts⟩, _, _⟩ := X
  intro H locs cells slots ls hP hL hB hl
  obtain ⟨rfl, rfl⟩ := hB
  unfold wX10_init at hf
  refine p_aload_n hx hb dX10_init_0 rfl (lv_at hl 0 rfl) ?_
  obtain ⟨ht1, hf⟩ := hf
  refine p_objInit X hP ht1 q1058 q119 q120 hl.1 dX10_init_1 (Nat.le_trans (by decide) hRf) (by decide) (Nat.le_trans (by decide) hRl) ?_
  exact p_vret X hlk hP hL (Nat.le_refl _) (Nat.le_refl _) hr dX10_init_4 ⟨rfl, hf⟩
set_option maxHeartbeats 4000000 in
theorem metX10_init (l : Launch) (G : GG_) (x0 : Nat) (σ : Hp) (post : Prop) (hG : GOK_ G) (hf : wX10_init x0 σ post) : Met l yX10_init (ws_ yX10_init cX10_init 1 none) { frames := 1, cells := 0, slots := 0, locals := 28 } (PC_ G [rv_ x0] σ) (QV_ G (fun τ => τ = σ ∧ post)) 0 0 (FR_ G) := by
  refine Met.ofW (cc := cX10_init) (maxL := 1) (ret := none) (by decide) rfl ?_
  intro p e s m args below meth c s₁ B hml hv
  obtain ⟨rfl, hP, hW⟩ := hv
  have hts := atoms_spec (ws := ws_ yX10_init cX10_init 1 none) B.pre
  have hts : ∀ w ∈ lw_all, w.before _ s = true := fun w h => hts w (List.mem_cons_of_mem _ h)
  rw [lg_entry_eq]
  have hl := en_entry [rv_ x0] [1] (n := 1) (ca_r ca_n) (by decide)
  exact sX10_init ⟨⟨⟨B.exec, B.bytes, hml, findClass_of_methodNamed B.named, hts⟩, hW, hG⟩, B.notSynchronized, B.returns, Nat.le_refl _, Nat.le_refl _, ⟨rfl, rfl⟩, (name_of_methodNamed B.named B.method).1⟩ hf _ _ _ _ _ hP (LO_nil G) ⟨rfl, rfl⟩ hl
abbrev cX8_isDirectory : ByteArray := prog_8_method_11_code
def yX8_isDirectory : MethodName := ⟨RX8, "isDirectory", "(J)Z"⟩
theorem dX8_isDirectory_0 : decode cX8_isDirectory 0 = .ok (.aload_n 0, 1) := by decide +kernel
theorem dX8_isDirectory_1 : decode cX8_isDirectory 1 = .ok (.getfield 28, 3) := by decide +kernel
theorem dX8_isDirectory_4 : decode cX8_isDirectory 4 = .ok (.lload_n 1, 1) := by decide +kernel
theorem dX8_isDirectory_5 : decode cX8_isDirectory 5 = .ok (.ldc2_w 85, 3) := by decide +kernel
theorem dX8_isDirectory_8 : decode cX8_isDirectory 8 = .ok (.ladd, 1) := by decide +kernel
theorem dX8_isDirectory_9 : decode cX8_isDirectory 9 = .ok (.invokevirtual 39, 3) := by decide +kernel
theorem dX8_isDirectory_12 : decode cX8_isDirectory 12 = .ok (.iconst 2, 1) := by decide +kernel
theorem dX8_isDirectory_13 : decode cX8_isDirectory 13 = .ok (.if_icmp .ne 7, 3) := by decide +kernel
theorem dX8_isDirectory_16 : decode cX8_isDirectory 16 = .ok (.iconst 1, 1) := by decide +kernel
theorem dX8_isDirectory_17 : decode cX8_isDirectory 17 = .ok (.goto 4, 3) := by decide +kernel
theorem dX8_isDirectory_20 : decode cX8_isDirectory 20 = .ok (.iconst 0, 1) := by decide +kernel
theorem dX8_isDirectory_21 : decode cX8_isDirectory 21 = .ok (.ireturn, 1) := by decide +kernel
/-- WriteOnceDisc$Reader.isDirectory(J)Z -/
def wX8_isDirectory (x0 : Nat) (x1 : Int64) (σ : Hp) (post : Int32 → Prop) : Prop :=
(tg_ σ x0 = 8 ∧ (tg_ σ (fR_ σ 7 3 x0) = 7 ∧ (wX7_at (fR_ σ 7 3 x0) (x1 + (25 : Int64)) σ (fun r3 => ((¬ r3 = (2 : Int32) →
  post (0 : Int32)) ∧
 (r3 = (2 : Int32) →
  post (1 : Int32)))))))
set_option maxHeartbeats 4000000 in
theorem sX8_isDirectory {G : GG_} {p : Program} {l : Launch} {e : Env} {R : Room} {s : State} {m : MethodId} {args : Array Value} {below : List Frame} {meth : Method} {c : Code} (Y : MX_ G p R s m args meth c cX8_isDirectory 3 RX8 (some Jvm.ClassFile.FieldType.boolean) 2 42 0 0 "isDirectory") {post : Int32 → Prop} {x0 : Nat} {x1 : Int64} {σ : Hp} (hf : wX8_isDirectory x0 x1 σ post) : WG_ G p l e R s m args below meth c (MQ below (QI_ G (fun r τ => τ = σ ∧ post r)) args s 0 0 (FR_ G)) BN_ 3 0 [(0, rv_ x0), (1, .long x1)] [] σ := by
  have ⟨X, hlk, hr, hRf, hRl, hRc, hnm⟩ := Y
  have ⟨⟨hx, hb, _, hown, hts⟩, _, _⟩ := X
  intro H locs cells slots ls hP hL hB hl
  obtain ⟨rfl, rfl⟩ := hB
  unfold wX8_isDirectory at hf
  refine p_aload_n hx hb dX8_isDirectory_0 rfl (lv_at hl 0 rfl) ?_
  obtain ⟨ht1, hf⟩ := hf
  refine p_gR X cf7_ (k := 3) (by decide) rfl hP ht1 q594 (fun _ h => h) dX8_isDirectory_1 ?_
  refine lv_lload_n hx hb dX8_isDirectory_4 rfl (lv_at hl 1 rfl) ?_
  refine lv_ldc2 hx hb hown (hts _ q1026) dX8_isDirectory_5 ?_
  refine lv_ladd hx hb dX8_isDirectory_8 ?_
  obtain ⟨ht2, hf⟩ := hf
  refine p_calli hL (p_runV X cf6_ hP ht2 (metX7_at l G _ _ _ _ X.2.2 hf) (cwV 1 hts (lw_V q1004 q967 q968 q104 q969) rfl rfl rfl (by decide +kernel) ⟨Nat.le_trans (Nat.le_of_ble_eq_true rfl) hRf, Nat.le_trans (Nat.le_of_ble_eq_true rfl) hRl⟩) rfl hl.1 rfl (by decide) dX8_isDirectory_9 ⟨Nat.zero_le _, Nat.zero_le _⟩) (fun r3 σ₁ H locs hf hP hL => ?_)
  obtain ⟨e₁, hf⟩ := hf
  rw [e₁] at hP
  refine lv_iconst (v := 2) hx hb dX8_isDirectory_12 (by decide) ?_
  refine lv_icmp_ne (tgt := 20) hx hb dX8_isDirectory_13 (by decide) (fun c4 => ?_) (fun c4 => ?_)
  · have hf := hf.1 c4
    refine lv_iconst (v := 0) hx hb dX8_isDirectory_20 (by decide) ?_
    exact p_zret X hlk hP hL (Nat.le_refl _) (Nat.le_refl _) hr nr_0 dX8_isDirectory_21 ⟨rfl, hf⟩
  · have hf := hf.2 c4
    refine lv_iconst (v := 1) hx hb dX8_isDirectory_16 (by decide) ?_
    refine lv_goto (tgt := 21) hx hb dX8_isDirectory_17 (by decide) ?_
    exact p_zret X hlk hP hL (Nat.le_refl _) (Nat.le_refl _) hr nr_1 dX8_isDirectory_21 ⟨rfl, hf⟩
set_option maxHeartbeats 4000000 in
theorem metX8_isDirectory (l : Launch) (G : GG_) (x0 : Nat) (x1 : Int64) (σ : Hp) (post : Int32 → Prop) (hG : GOK_ G) (hf : wX8_isDirectory x0 x1 σ post) : Met l yX8_isDirectory (ws_ yX8_isDirectory cX8_isDirectory 3 (some Jvm.ClassFile.FieldType.boolean)) { frames := 2, cells := 0, slots := 0, locals := 42 } (PC_ G [rv_ x0, .long x1] σ) (QI_ G (fun r τ => τ = σ ∧ post r)) 0 0 (FR_ G) := by
  refine Met.ofW (cc := cX8_isDirectory) (maxL := 3) (ret := (some Jvm.ClassFile.FieldType.boolean)) (by decide) rfl ?_
  intro p e s m args below meth c s₁ B hml hv
  obtain ⟨rfl, hP, hW⟩ := hv
  have hts := atoms_spec (ws := ws_ yX8_isDirectory cX8_isDirectory 3 (some Jvm.ClassFile.FieldType.boolean)) B.pre
  have hts : ∀ w ∈ lw_all, w.before _ s = true := fun w h => hts w (List.mem_cons_of_mem _ h)
  rw [lg_entry_eq]
  have hl := en_entry [rv_ x0, .long x1] [1, 2] (n := 3) (ca_r (ca_l ca_n)) (by decide)
  exact sX8_isDirectory ⟨⟨⟨B.exec, B.bytes, hml, findClass_of_methodNamed B.named, hts⟩, hW, hG⟩, B.notSynchronized, B.returns, Nat.le_refl _, Nat.le_refl _, ⟨rfl, rfl⟩, (name_of_methodNamed B.named B.method).1⟩ hf _ _ _ _ _ hP (LO_nil G) ⟨rfl, rfl⟩ hl
abbrev cX8_found : ByteArray := prog_8_method_13_code
def yX8_found : MethodName := ⟨RX8, "found", "(JI)LWriteOnceDisc$Found;"⟩
theorem dX8_found_0 : decode cX8_found 0 = .ok (.aload_n 0, 1) := by decide +kernel
theorem dX8_found_1 : decode cX8_found 1 = .ok (.getfield 20, 3) := by decide +kernel
theorem dX8_found_4 : decode cX8_found 4 = .ok (.aload_n 0, 1) := by decide +kernel
theorem dX8_found_5 : decode cX8_found 5 = .ok (.getfield 118, 3) := by decide +kernel
theorem dX8_found_8 : decode cX8_found 8 = .ok (.aaload, 1) := by decide +kernel
theorem dX8_found_9 : decode cX8_found 9 = .ok (.ifnonnull 19, 3) := by decide +kernel
theorem dX8_found_12 : decode cX8_found 12 = .ok (.aload_n 0, 1) := by decide +kernel
theorem dX8_found_13 : decode cX8_found 13 = .ok (.getfield 20, 3) := by decide +kernel
theorem dX8_found_16 : decode cX8_found 16 = .ok (.aload_n 0, 1) := by decide +kernel
theorem dX8_found_17 : decode cX8_found 17 = .ok (.getfield 118, 3) := by decide +kernel
theorem dX8_found_20 : decode cX8_found 20 = .ok (.new 18, 3) := by decide +kernel
theorem dX8_found_23 : decode cX8_found 23 = .ok (.dup, 1) := by decide +kernel
theorem dX8_found_24 : decode cX8_found 24 = .ok (.invokespecial 121, 3) := by decide +kernel
theorem dX8_found_27 : decode cX8_found 27 = .ok (.aastore, 1) := by decide +kernel
theorem dX8_found_28 : decode cX8_found 28 = .ok (.aload_n 0, 1) := by decide +kernel
theorem dX8_found_29 : decode cX8_found 29 = .ok (.getfield 20, 3) := by decide +kernel
theorem dX8_found_32 : decode cX8_found 32 = .ok (.aload_n 0, 1) := by decide +kernel
theorem dX8_found_33 : decode cX8_found 33 = .ok (.getfield 118, 3) := by decide +kernel
theorem dX8_found_36 : decode cX8_found 36 = .ok (.aaload, 1) := by decide +kernel
theorem dX8_found_37 : decode cX8_found 37 = .ok (.astore 4, 2) := by decide +kernel
theorem dX8_found_39 : decode cX8_found 39 = .ok (.aload_n 0, 1) := by decide +kernel
theorem dX8_found_40 : decode cX8_found 40 = .ok (.dup, 1) := by decide +kernel
theorem dX8_found_41 : decode cX8_found 41 = .ok (.getfield 118, 3) := by decide +kernel
theorem dX8_found_44 : decode cX8_found 44 = .ok (.iconst 1, 1) := by decide +kernel
theorem dX8_found_45 : decode cX8_found 45 = .ok (.iadd, 1) := by decide +kernel
theorem dX8_found_46 : decode cX8_found 46 = .ok (.putfield 118, 3) := by decide +kernel
theorem dX8_found_49 : decode cX8_found 49 = .ok (.aload 4, 2) := by decide +kernel
theorem dX8_found_51 : decode cX8_found 51 = .ok (.iload_n 3, 1) := by decide +kernel
theorem dX8_found_52 : decode cX8_found 52 = .ok (.putfield 122, 3) := by decide +kernel
theorem dX8_found_55 : decode cX8_found 55 = .ok (.aload 4, 2) := by decide +kernel
theorem dX8_found_57 : decode cX8_found 57 = .ok (.iconst 0, 1) := by decide +kernel
theorem dX8_found_58 : decode cX8_found 58 = .ok (.putfield 125, 3) := by decide +kernel
theorem dX8_found_61 : decode cX8_found 61 = .ok (.aload 4, 2) := by decide +kernel
theorem dX8_found_63 : decode cX8_found 63 = .ok (.lconst 0, 1) := by decide +kernel
theorem dX8_found_64 : decode cX8_found 64 = .ok (.putfield 128, 3) := by decide +kernel
theorem dX8_found_67 : decode cX8_found 67 = .ok (.aload 4, 2) := by decide +kernel
theorem dX8_found_69 : decode cX8_found 69 = .ok (.aload_n 0, 1) := by decide +kernel
theorem dX8_found_70 : decode cX8_found 70 = .ok (.lload_n 1, 1) := by decide +kernel
theorem dX8_found_71 : decode cX8_found 71 = .ok (.invokevirtual 131, 3) := by decide +kernel
theorem dX8_found_74 : decode cX8_found 74 = .ok (.putfield 134, 3) := by decide +kernel
theorem dX8_found_77 : decode cX8_found 77 = .ok (.aload 4, 2) := by decide +kernel
theorem dX8_found_79 : decode cX8_found 79 = .ok (.aload_n 0, 1) := by decide +kernel
theorem dX8_found_80 : decode cX8_found 80 = .ok (.getfield 28, 3) := by decide +kernel
theorem dX8_found_83 : decode cX8_found 83 = .ok (.lload_n 1, 1) := by decide +kernel
theorem dX8_found_84 : decode cX8_found 84 = .ok (.ldc2_w 93, 3) := by decide +kernel
theorem dX8_found_87 : decode cX8_found 87 = .ok (.ladd, 1) := by decide +kernel
theorem dX8_found_88 : decode cX8_found 88 = .ok (.iconst 4, 1) := by decide +kernel
theorem dX8_found_89 : decode cX8_found 89 = .ok (.invokevirtual 110, 3) := by decide +kernel
theorem dX8_found_92 : decode cX8_found 92 = .ok (.putfield 138, 3) := by decide +kernel
theorem dX8_found_95 : decode cX8_found 95 = .ok (.aload 4, 2) := by decide +kernel
theorem dX8_found_97 : decode cX8_found 97 = .ok (.aload_n 0, 1) := by decide +kernel
theorem dX8_found_98 : decode cX8_found 98 = .ok (.getfield 28, 3) := by decide +kernel
theorem dX8_found_101 : decode cX8_found 101 = .ok (.lload_n 1, 1) := by decide +kernel
theorem dX8_found_102 : decode cX8_found 102 = .ok (.ldc2_w 99, 3) := by decide +kernel
theorem dX8_found_105 : decode cX8_found 105 = .ok (.ladd, 1) := by decide +kernel
theorem dX8_found_106 : decode cX8_found 106 = .ok (.iconst 4, 1) := by decide +kernel
theorem dX8_found_107 : decode cX8_found 107 = .ok (.invokevirtual 110, 3) := by decide +kernel
theorem dX8_found_110 : decode cX8_found 110 = .ok (.putfield 141, 3) := by decide +kernel
theorem dX8_found_113 : decode cX8_found 113 = .ok (.aload 4, 2) := by decide +kernel
theorem dX8_found_115 : decode cX8_found 115 = .ok (.areturn, 1) := by decide +kernel
/-- WriteOnceDisc$Reader.found(JI)LWriteOnceDisc$Found; -/
def wX8_found_L28 (post : Nat → Hp → Prop) (x0 : Nat) (x1 : Int64) (x3 : Int32) (σ : Hp) : Prop :=
(tg_ σ x0 = 8 ∧ (tg_ σ (fR_ σ 7 1 x0) = 105 ∧ (vp_in (fI_ σ 7 2 x0) (ln_ σ (fR_ σ 7 1 x0)) ∧ (∀ y4 : Nat, y4 = (aR_ σ (fR_ σ 7 1 x0) ((fI_ σ 7 2 x0)).toNatClampNeg) → (∀ σ5, σ5 = sI_ σ 7 2 x0 ((fI_ σ 7 2 x0) + (1 : Int32)) → (tg_ σ5 y4 = 10 ∧ (∀ σ7, σ7 = sI_ σ5 9 0 y4 x3 → (∀ σ8, σ8 = sI_ σ7 9 1 y4 (0 : Int32) → (∀ σ9, σ9 = sL_ σ8 9 5 y4 (0 : Int64) → (wX8_isDirectory x0 x1 σ9 (fun r10 => (pz_ .boolean r10 ∧ (∀ σ12, σ12 = sI_ σ9 9 4 y4 r10 → (tg_ σ12 (fR_ σ12 7 3 x0) = 7 ∧ (wX7_low (fR_ σ12 7 3 x0) (x1 + (2 : Int64)) (4 : Int32) σ12 (fun r14 => (∀ σ15, σ15 = sI_ σ12 9 2 y4 r14 → (tg_ σ15 (fR_ σ15 7 3 x0) = 7 ∧ (wX7_low (fR_ σ15 7 3 x0) (x1 + (10 : Int64)) (4 : Int32) σ15 (fun r17 => (∀ σ18, σ18 = sI_ σ15 9 3 y4 r17 → post y4 σ18)))))))))))))))))))))
def wX8_found (x0 : Nat) (x1 : Int64) (x3 : Int32) (σ : Hp) (post : Nat → Hp → Prop) : Prop :=
(tg_ σ x0 = 8 ∧ (tg_ σ (fR_ σ 7 1 x0) = 105 ∧ (vp_in (fI_ σ 7 2 x0) (ln_ σ (fR_ σ 7 1 x0)) ∧ ((¬ (aR_ σ (fR_ σ 7 1 x0) ((fI_ σ 7 2 x0)).toNatClampNeg) = 0 →
  wX8_found_L28 post x0 x1 x3 σ) ∧
 ((aR_ σ (fR_ σ 7 1 x0) ((fI_ σ 7 2 x0)).toNatClampNeg) = 0 →
  (1 ≤ bc_ σ ∧ (6 ≤ bs_ σ ∧ (∀ σ25, σ25 = mO_ σ 9 6 → (tg_ σ25 (nx_ σ) = 10 ∧ (wX10_init (nx_ σ)  σ25 ((tg_ σ25 (fR_ σ 7 1 x0) = 105 ∧ (vp_in (fI_ σ 7 2 x0) (ln_ σ25 (fR_ σ 7 1 x0)) ∧ (st_ σ25 105 (nx_ σ) ∧ (∀ σ30, σ30 = wR_ σ25 (fR_ σ 7 1 x0) ((fI_ σ 7 2 x0)).toNatClampNeg (nx_ σ) → wX8_found_L28 post x0 x1 x3 σ30)))))))))))))))
set_option maxHeartbeats 4000000 in
theorem sX8_found_L28 {G : GG_} {p : Program} {l : Launch} {e : Env} {R : Room} {s : State} {m : MethodId} {args : Array Value} {below : List Frame} {meth : Method} {c : Code} {mc ms : Nat} (Y : MX_ G p R s m args meth c cX8_found 5 RX8 (some ((Jvm.ClassFile.FieldType.object "WriteOnceDisc$Found"))) 3 67 mc ms "found") {post : Nat → Hp → Prop} {x0 : Nat} {x1 : Int64} {x3 : Int32} {σ : Hp} (hf : wX8_found_L28 post x0 x1 x3 σ) : WG_ G p l e R s m args below meth c (MQ below (QR_ G post) args s mc ms (FR_ G)) (BU_ R) 5 28 [(0, rv_ x0), (1, .long x1), (3, .int x3)] [] σ := by
  have ⟨X, hlk, hr, hRf, hRl, hRc, hnm⟩ := Y
  have ⟨⟨hx, hb, _, hown, hts⟩, _, _⟩ := X
  intro H locs cells slots ls hP hL hB hl
  unfold wX8_found_L28 at hf
  refine p_aload_n hx hb dX8_found_28 rfl (lv_at hl 0 rfl) ?_
  obtain ⟨ht1, hf⟩ := hf
  refine p_gR X cf7_ (k := 1) (by decide) rfl hP ht1 q592 (fun _ h => h) dX8_found_29 ?_
  refine p_aload_n hx hb dX8_found_32 rfl (lv_at hl 0 rfl) ?_
  refine p_gI X cf7_ (k := 2) (by decide) rfl hP ht1 q593 (fun _ h => h) dX8_found_33 ?_
  obtain ⟨ht2, hf⟩ := hf
  obtain ⟨hi3, hf⟩ := hf
  refine p_aald X hP ht2 (by decide) (by decide) hi3 dX8_found_36 ?_
  refine p_topr (fun y4 hy4 => ?_)
  have hf := hf y4 hy4
  refine p_astore (i := 4) hx hb dX8_found_37 hl (by decide) ⟨⟨ne_ rfl, Or.inl (ne_ rfl)⟩, ⟨⟨ne_ rfl, Or.inl (ne_ rfl)⟩, ⟨⟨ne_ rfl, Or.inr rfl⟩, trivial⟩⟩⟩ (fun ls hl => ?_)
  refine p_aload_n hx hb dX8_found_39 rfl (lv_at hl 1 rfl) ?_
  refine lv_dup hx hb dX8_found_40 (rv_cat _) ?_
  refine p_gI X cf7_ (k := 2) (by decide) rfl hP ht1 q593 (fun _ h => h) dX8_found_41 ?_
  refine lv_iconst (v := 1) hx hb dX8_found_44 (by decide) ?_
  refine lv_iadd hx hb dX8_found_45 ?_
  refine p_pI X cf7_ (k := 2) (by decide) rfl hP hL ht1 (p_ow hP ht1 rfl) q593 (fun _ h => h) (Or.inl rfl) rfl rfl dX8_found_46 (fun H locs hP hL => ?_)
  refine p_nmPB hP hB (fun σ5 hσ5 hP hB => ?_)
  have hf := hf σ5 hσ5
  have ht1 : tg_ σ5 x0 = 8 := by rw [hσ5]; exact ht1
  refine p_aload hx hb dX8_found_49 (lv_at hl 0 rfl) ?_
  refine lv_iload_n hx hb dX8_found_51 rfl (lv_at hl 3 rfl) ?_
  obtain ⟨ht6, hf⟩ := hf
  refine p_pI X cf9_ (k := 0) (by decide) rfl hP hL ht6 (p_ow hP ht6 rfl) q1059 (fun _ h => h) (Or.inl rfl) rfl rfl dX8_found_52 (fun H locs hP hL => ?_)
  refine p_nmPB hP hB (fun σ7 hσ7 hP hB => ?_)
  have hf := hf σ7 hσ7
  have ht1 : tg_ σ7 x0 = 8 := by rw [hσ7]; exact ht1
  have ht6 : tg_ σ7 y4 = 10 := by rw [hσ7]; exact ht6
  refine p_aload hx hb dX8_found_55 (lv_at hl 0 rfl) ?_
  refine lv_iconst (v := 0) hx hb dX8_found_57 (by decide) ?_
  refine p_pI X cf9_ (k := 1) (by decide) rfl hP hL ht6 (p_ow hP ht6 rfl) q1061 (fun _ h => h) (Or.inl rfl) rfl rfl dX8_found_58 (fun H locs hP hL => ?_)
  refine p_nmPB hP hB (fun σ8 hσ8 hP hB => ?_)
  have hf := hf σ8 hσ8
  have ht1 : tg_ σ8 x0 = 8 := by rw [hσ8]; exact ht1
  have ht6 : tg_ σ8 y4 = 10 := by rw [hσ8]; exact ht6
  refine p_aload hx hb dX8_found_61 (lv_at hl 0 rfl) ?_
  refine lv_lconst (v := 0) hx hb dX8_found_63 (by decide) ?_
  refine p_pL X cf9_ (k := 5) (by decide) rfl hP hL ht6 (p_ow hP ht6 rfl) q1069 (fun _ h => h) (Or.inl rfl) rfl rfl dX8_found_64 (fun H locs hP hL => ?_)
  refine p_nmPB hP hB (fun σ9 hσ9 hP hB => ?_)
  have hf := hf σ9 hσ9
  have ht1 : tg_ σ9 x0 = 8 := by rw [hσ9]; exact ht1
  have ht6 : tg_ σ9 y4 = 10 := by rw [hσ9]; exact ht6
  refine p_aload hx hb dX8_found_67 (lv_at hl 0 rfl) ?_
  refine p_aload_n hx hb dX8_found_69 rfl (lv_at hl 1 rfl) ?_
  refine lv_lload_n hx hb dX8_found_70 rfl (lv_at hl 2 rfl) ?_
  refine p_calli hL (p_runV X cf7_ hP ht1 (metX8_isDirectory l G _ _ _ _ X.2.2 hf) (cwV 1 hts (lw_V q1084 q1086 qs29 q105 q1087) rfl rfl rfl (by decide +kernel) ⟨Nat.le_trans (Nat.le_of_ble_eq_true rfl) hRf, Nat.le_trans (Nat.le_of_ble_eq_true rfl) hRl⟩) rfl hl.1 rfl (by rw [(ca_r ca_n)]; decide) dX8_found_71 (BU_call hB (Nat.zero_le _) (Nat.zero_le _))) (fun r10 σ₁ H locs hf hP hL => ?_)
  obtain ⟨e₁, hf⟩ := hf
  rw [e₁] at hP
  obtain ⟨hz11, hf⟩ := hf
  refine p_pI X cf9_ (k := 4) (by decide) rfl hP hL ht6 (p_ow hP ht6 rfl) q1067 (fun _ h => h) (Or.inl rfl) hz11.1 hz11.2 dX8_found_74 (fun H locs hP hL => ?_)
  refine p_nmPB hP hB (fun σ12 hσ12 hP hB => ?_)
  have hf := hf σ12 hσ12
  have ht1 : tg_ σ12 x0 = 8 := by rw [hσ12]; exact ht1
  have ht6 : tg_ σ12 y4 = 10 := by rw [hσ12]; exact ht6
  refine p_aload hx hb dX8_found_77 (lv_at hl 0 rfl) ?_
  refine p_aload_n hx hb dX8_found_79 rfl (lv_at hl 1 rfl) ?_
  refine p_gR X cf7_ (k := 3) (by decide) rfl hP ht1 q594 (fun _ h => h) dX8_found_80 ?_
  refine lv_lload_n hx hb dX8_found_83 rfl (lv_at hl 2 rfl) ?_
  refine lv_ldc2 hx hb hown (hts _ q1027) dX8_found_84 ?_
  refine lv_ladd hx hb dX8_found_87 ?_
  refine lv_iconst (v := 4) hx hb dX8_found_88 (by decide) ?_
  obtain ⟨ht13, hf⟩ := hf
  refine p_calli hL (p_runV X cf6_ hP ht13 (metX7_low l G _ _ _ _ _ X.2.2 hf) (cwV 2 hts (lw_V q1013 q973 q974 q104 q975) rfl rfl rfl (by decide +kernel) ⟨Nat.le_trans (Nat.le_of_ble_eq_true rfl) hRf, Nat.le_trans (Nat.le_of_ble_eq_true rfl) hRl⟩) rfl hl.1 rfl (by rw [(ca_r ca_n)]; decide) dX8_found_89 (BU_call hB (Nat.zero_le _) (Nat.zero_le _))) (fun r14 σ₁ H locs hf hP hL => ?_)
  obtain ⟨e₁, hf⟩ := hf
  rw [e₁] at hP
  refine p_pI X cf9_ (k := 2) (by decide) rfl hP hL ht6 (p_ow hP ht6 rfl) q1062 (fun _ h => h) (Or.inl rfl) rfl rfl dX8_found_92 (fun H locs hP hL => ?_)
  refine p_nmPB hP hB (fun σ15 hσ15 hP hB => ?_)
  have hf := hf σ15 hσ15
  have ht1 : tg_ σ15 x0 = 8 := by rw [hσ15]; exact ht1
  have ht6 : tg_ σ15 y4 = 10 := by rw [hσ15]; exact ht6
  refine p_aload hx hb dX8_found_95 (lv_at hl 0 rfl) ?_
  refine p_aload_n hx hb dX8_found_97 rfl (lv_at hl 1 rfl) ?_
  refine p_gR X cf7_ (k := 3) (by decide) rfl hP ht1 q594 (fun _ h => h) dX8_found_98 ?_
  refine lv_lload_n hx hb dX8_found_101 rfl (lv_at hl 2 rfl) ?_
  refine lv_ldc2 hx hb hown (hts _ q1028) dX8_found_102 ?_
  refine lv_ladd hx hb dX8_found_105 ?_
  refine lv_iconst (v := 4) hx hb dX8_found_106 (by decide) ?_
  obtain ⟨ht16, hf⟩ := hf
  refine p_calli hL (p_runV X cf6_ hP ht16 (metX7_low l G _ _ _ _ _ X.2.2 hf) (cwV 2 hts (lw_V q1013 q973 q974 q104 q975) rfl rfl rfl (by decide +kernel) ⟨Nat.le_trans (Nat.le_of_ble_eq_true rfl) hRf, Nat.le_trans (Nat.le_of_ble_eq_true rfl) hRl⟩) rfl hl.1 rfl (by rw [(ca_r ca_n)]; decide) dX8_found_107 (BU_call hB (Nat.zero_le _) (Nat.zero_le _))) (fun r17 σ₁ H locs hf hP hL => ?_)
  obtain ⟨e₁, hf⟩ := hf
  rw [e₁] at hP
  refine p_pI X cf9_ (k := 3) (by decide) rfl hP hL ht6 (p_ow hP ht6 rfl) q1065 (fun _ h => h) (Or.inl rfl) rfl rfl dX8_found_110 (fun H locs hP hL => ?_)
  refine p_nmPB hP hB (fun σ18 hσ18 hP hB => ?_)
  have hf := hf σ18 hσ18
  have ht1 : tg_ σ18 x0 = 8 := by rw [hσ18]; exact ht1
  have ht6 : tg_ σ18 y4 = 10 := by rw [hσ18]; exact ht6
  refine p_aload hx hb dX8_found_113 (lv_at hl 0 rfl) ?_
  exact p_aret X hlk hP hL (BU_le hB hRc).1 (BU_le hB hRc).2 hr (Or.inl ⟨_, rfl⟩) dX8_found_115 hf
set_option maxHeartbeats 4000000 in
theorem sX8_found {G : GG_} {p : Program} {l : Launch} {e : Env} {R : Room} {s : State} {m : MethodId} {args : Array Value} {below : List Frame} {meth : Method} {c : Code} {mc ms : Nat} (Y : MX_ G p R s m args meth c cX8_found 5 RX8 (some ((Jvm.ClassFile.FieldType.object "WriteOnceDisc$Found"))) 3 67 mc ms "found") {post : Nat → Hp → Prop} {x0 : Nat} {x1 : Int64} {x3 : Int32} {σ : Hp} (hf : wX8_found x0 x1 x3 σ post) : WG_ G p l e R s m args below meth c (MQ below (QR_ G post) args s mc ms (FR_ G)) (BU_ R) 5 0 [(0, rv_ x0), (1, .long x1), (3, .int x3)] [] σ := by
  have ⟨X, hlk, hr, hRf, hRl, hRc, hnm⟩ := Y
  have ⟨⟨hx, hb, _, hown, hts⟩, _, _⟩ := X
  intro H locs cells slots ls hP hL hB hl
  unfold wX8_found at hf
  refine p_aload_n hx hb dX8_found_0 rfl (lv_at hl 0 rfl) ?_
  obtain ⟨ht19, hf⟩ := hf
  refine p_gR X cf7_ (k := 1) (by decide) rfl hP ht19 q592 (fun _ h => h) dX8_found_1 ?_
  refine p_aload_n hx hb dX8_found_4 rfl (lv_at hl 0 rfl) ?_
  refine p_gI X cf7_ (k := 2) (by decide) rfl hP ht19 q593 (fun _ h => h) dX8_found_5 ?_
  obtain ⟨ht20, hf⟩ := hf
  obtain ⟨hi21, hf⟩ := hf
  refine p_aald X hP ht20 (by decide) (by decide) hi21 dX8_found_8 ?_
  refine p_ifnonnull (tgt := 28) hx hb dX8_found_9 (by decide) (fun c22 => ?_) (fun c22 => ?_)
  · have hf := hf.1 c22
    exact sX8_found_L28 Y hf _ _ _ _ _ hP hL hB (lv_sub hl [0, 1, 2] rfl)
  · have hf := hf.2 c22
    refine p_aload_n hx hb dX8_found_12 rfl (lv_at hl 0 rfl) ?_
    refine p_gR X cf7_ (k := 1) (by decide) rfl hP ht19 q592 (fun _ h => h) dX8_found_13 ?_
    refine p_aload_n hx hb dX8_found_16 rfl (lv_at hl 0 rfl) ?_
    refine p_gI X cf7_ (k := 2) (by decide) rfl hP ht19 q593 (fun _ h => h) dX8_found_17 ?_
    obtain ⟨hb23, hf⟩ := hf
    obtain ⟨hb24, hf⟩ := hf
    refine p_new X cf9_ (by decide +kernel) hP hB q588 q1054 q108 hb23 hb24 dX8_found_20 (fun H hP hB => ?_)
    refine p_nmPB hP hB (fun σ25 hσ25 hP hB => ?_)
    have hf := hf σ25 hσ25
    refine lv_dup hx hb dX8_found_23 (rv_cat _) ?_
    obtain ⟨ht26, hf⟩ := hf
    refine p_callv hL (p_runIN X hP ht26 (metX10_init l G _ _ _ X.2.2 hf) ⟨va_cnB 0 hts (lw_meth q1057) rfl rfl rfl (p_nest X q1055) (hts _ q108) (by decide +kernel) ⟨Nat.le_trans (Nat.le_of_ble_eq_true rfl) hRf, Nat.le_trans (Nat.le_of_ble_eq_true rfl) hRl⟩, rfl, hts _ q1056⟩ rfl hl.1 rfl (by rw [(ca_r (ca_i (ca_r ca_n)))]; decide) dX8_found_24 (BU_call hB (Nat.zero_le _) (Nat.zero_le _))) (fun σ₁ H locs hf hP hL => ?_)
    obtain ⟨e₁, hf⟩ := hf
    rw [e₁] at hP
    obtain ⟨ht27, hf⟩ := hf
    obtain ⟨hi28, hf⟩ := hf
    obtain ⟨hv29, hf⟩ := hf
    refine p_aast X hP hL ht27 (by decide) (by decide) (p_ow hP ht27 rfl) hi28 hv29 dX8_found_27 (fun H locs hP hL => ?_)
    refine p_nmPB hP hB (fun σ30 hσ30 hP hB => ?_)
    have hf := hf σ30 hσ30
    exact sX8_found_L28 Y hf _ _ _ _ _ hP hL hB (lv_sub hl [0, 1, 2] rfl)
set_option maxHeartbeats 4000000 in
theorem metX8_found (l : Launch) (G : GG_) (mc ms : Nat) (x0 : Nat) (x1 : Int64) (x3 : Int32) (σ : Hp) (post : Nat → Hp → Prop) (hG : GOK_ G) (hf : wX8_found x0 x1 x3 (bu_ σ mc ms) post) : Met l yX8_found (ws_ yX8_found cX8_found 5 (some ((Jvm.ClassFile.FieldType.object "WriteOnceDisc$Found")))) { frames := 3, cells := mc, slots := ms, locals := 67 } (PC_ G [rv_ x0, .long x1, .int x3] (bu_ σ mc ms)) (QR_ G post) mc ms (FR_ G) := by
  refine Met.ofW (cc := cX8_found) (maxL := 5) (ret := (some ((Jvm.ClassFile.FieldType.object "WriteOnceDisc$Found")))) (by decide) rfl ?_
  intro p e s m args below meth c s₁ B hml hv
  obtain ⟨rfl, hP, hW⟩ := hv
  have hts := atoms_spec (ws := ws_ yX8_found cX8_found 5 (some ((Jvm.ClassFile.FieldType.object "WriteOnceDisc$Found")))) B.pre
  have hts : ∀ w ∈ lw_all, w.before _ s = true := fun w h => hts w (List.mem_cons_of_mem _ h)
  rw [lg_entry_eq]
  have hl := en_entry [rv_ x0, .long x1, .int x3] [1, 2, 1] (n := 5) (ca_r (ca_l (ca_i ca_n))) (by decide)
  exact sX8_found ⟨⟨⟨B.exec, B.bytes, hml, findClass_of_methodNamed B.named, hts⟩, hW, hG⟩, B.notSynchronized, B.returns, Nat.le_refl _, Nat.le_refl _, ⟨rfl, rfl⟩, (name_of_methodNamed B.named B.method).1⟩ hf _ _ _ _ _ hP (LO_nil G) (BU_in ⟨rfl, rfl⟩) hl
abbrev cX8_same : ByteArray := prog_8_method_16_code
def yX8_same : MethodName := ⟨RX8, "same", "(JLWriteOnceDisc$Found;)Z"⟩
theorem dX8_same_0 : decode cX8_same 0 = .ok (.aload_n 0, 1) := by decide +kernel
theorem dX8_same_1 : decode cX8_same 1 = .ok (.getfield 28, 3) := by decide +kernel
theorem dX8_same_4 : decode cX8_same 4 = .ok (.lload_n 1, 1) := by decide +kernel
theorem dX8_same_5 : decode cX8_same 5 = .ok (.ldc2_w 93, 3) := by decide +kernel
theorem dX8_same_8 : decode cX8_same 8 = .ok (.ladd, 1) := by decide +kernel
theorem dX8_same_9 : decode cX8_same 9 = .ok (.iconst 4, 1) := by decide +kernel
theorem dX8_same_10 : decode cX8_same 10 = .ok (.invokevirtual 110, 3) := by decide +kernel
theorem dX8_same_13 : decode cX8_same 13 = .ok (.aload_n 3, 1) := by decide +kernel
theorem dX8_same_14 : decode cX8_same 14 = .ok (.getfield 138, 3) := by decide +kernel
theorem dX8_same_17 : decode cX8_same 17 = .ok (.if_icmp .ne 23, 3) := by decide +kernel
theorem dX8_same_20 : decode cX8_same 20 = .ok (.aload_n 0, 1) := by decide +kernel
theorem dX8_same_21 : decode cX8_same 21 = .ok (.getfield 28, 3) := by decide +kernel
theorem dX8_same_24 : decode cX8_same 24 = .ok (.lload_n 1, 1) := by decide +kernel
theorem dX8_same_25 : decode cX8_same 25 = .ok (.ldc2_w 99, 3) := by decide +kernel
theorem dX8_same_28 : decode cX8_same 28 = .ok (.ladd, 1) := by decide +kernel
theorem dX8_same_29 : decode cX8_same 29 = .ok (.iconst 4, 1) := by decide +kernel
theorem dX8_same_30 : decode cX8_same 30 = .ok (.invokevirtual 110, 3) := by decide +kernel
theorem dX8_same_33 : decode cX8_same 33 = .ok (.aload_n 3, 1) := by decide +kernel
theorem dX8_same_34 : decode cX8_same 34 = .ok (.getfield 141, 3) := by decide +kernel
theorem dX8_same_37 : decode cX8_same 37 = .ok (.if_icmp .eq 11, 3) := by decide +kernel
theorem dX8_same_40 : decode cX8_same 40 = .ok (.aload_n 0, 1) := by decide +kernel
theorem dX8_same_41 : decode cX8_same 41 = .ok (.lload_n 1, 1) := by decide +kernel
theorem dX8_same_42 : decode cX8_same 42 = .ok (.invokevirtual 89, 3) := by decide +kernel
theorem dX8_same_45 : decode cX8_same 45 = .ok (.ifCond .eq 7, 3) := by decide +kernel
theorem dX8_same_48 : decode cX8_same 48 = .ok (.iconst 1, 1) := by decide +kernel
theorem dX8_same_49 : decode cX8_same 49 = .ok (.goto 4, 3) := by decide +kernel
theorem dX8_same_52 : decode cX8_same 52 = .ok (.iconst 0, 1) := by decide +kernel
theorem dX8_same_53 : decode cX8_same 53 = .ok (.ireturn, 1) := by decide +kernel
/-- WriteOnceDisc$Reader.same(JLWriteOnceDisc$Found;)Z -/
def wX8_same_L48 (post : Int32 → Hp → Prop) (σ : Hp) : Prop :=
post (1 : Int32) σ
def wX8_same_L40 (post : Int32 → Hp → Prop) (x0 : Nat) (x1 : Int64) (σ : Hp) : Prop :=
(tg_ σ x0 = 8 ∧ (wX8_bad x0 x1 σ (fun r2 σ3 => ((r2 = 0 →
  post (0 : Int32) σ3) ∧
 (¬ r2 = 0 →
  wX8_same_L48 post σ3)))))
def wX8_same (x0 : Nat) (x1 : Int64) (x3 : Nat) (σ : Hp) (post : Int32 → Hp → Prop) : Prop :=
(tg_ σ x0 = 8 ∧ (tg_ σ (fR_ σ 7 3 x0) = 7 ∧ (wX7_low (fR_ σ 7 3 x0) (x1 + (2 : Int64)) (4 : Int32) σ (fun r7 => (tg_ σ x3 = 10 ∧ ((¬ r7 = (fI_ σ 9 2 x3) →
  wX8_same_L40 post x0 x1 σ) ∧
 (r7 = (fI_ σ 9 2 x3) →
  (wX7_low (fR_ σ 7 3 x0) (x1 + (10 : Int64)) (4 : Int32) σ (fun r10 => ((r10 = (fI_ σ 9 3 x3) →
   wX8_same_L48 post σ) ∧
  (¬ r10 = (fI_ σ 9 3 x3) →
   wX8_same_L40 post x0 x1 σ)))))))))))
set_option maxHeartbeats 4000000 in
theorem sX8_same_L48 {G : GG_} {p : Program} {l : Launch} {e : Env} {R : Room} {s : State} {m : MethodId} {args : Array Value} {below : List Frame} {meth : Method} {c : Code} (Y : MX_ G p R s m args meth c cX8_same 4 RX8 (some Jvm.ClassFile.FieldType.boolean) 3 67 0 0 "same") {post : Int32 → Hp → Prop} {σ : Hp} (hf : wX8_same_L48 post σ) : WG_ G p l e R s m args below meth c (MQ below (QI_ G post) args s 0 0 (FR_ G)) BN_ 4 48 [] [] σ := by
  have ⟨X, hlk, hr, hRf, hRl, hRc, hnm⟩ := Y
  have ⟨⟨hx, hb, _, hown, hts⟩, _, _⟩ := X
  intro H locs cells slots ls hP hL hB hl
  obtain ⟨rfl, rfl⟩ := hB
  unfold wX8_same_L48 at hf
  refine lv_iconst (v := 1) hx hb dX8_same_48 (by decide) ?_
  refine lv_goto (tgt := 53) hx hb dX8_same_49 (by decide) ?_
  exact p_zret X hlk hP hL (Nat.le_refl _) (Nat.le_refl _) hr nr_1 dX8_same_53 hf
set_option maxHeartbeats 4000000 in
theorem sX8_same_L40 {G : GG_} {p : Program} {l : Launch} {e : Env} {R : Room} {s : State} {m : MethodId} {args : Array Value} {below : List Frame} {meth : Method} {c : Code} (Y : MX_ G p R s m args meth c cX8_same 4 RX8 (some Jvm.ClassFile.FieldType.boolean) 3 67 0 0 "same") {post : Int32 → Hp → Prop} {x0 : Nat} {x1 : Int64} {σ : Hp} (hf : wX8_same_L40 post x0 x1 σ) : WG_ G p l e R s m args below meth c (MQ below (QI_ G post) args s 0 0 (FR_ G)) BN_ 4 40 [(0, rv_ x0), (1, .long x1)] [] σ := by
  have ⟨X, hlk, hr, hRf, hRl, hRc, hnm⟩ := Y
  have ⟨⟨hx, hb, _, hown, hts⟩, _, _⟩ := X
  intro H locs cells slots ls hP hL hB hl
  obtain ⟨rfl, rfl⟩ := hB
  unfold wX8_same_L40 at hf
  refine p_aload_n hx hb dX8_same_40 rfl (lv_at hl 0 rfl) ?_
  refine lv_lload_n hx hb dX8_same_41 rfl (lv_at hl 1 rfl) ?_
  obtain ⟨ht1, hf⟩ := hf
  refine p_calli hL (p_runV X cf7_ hP ht1 (metX8_bad l G _ _ _ _ X.2.2 hf) (cwV 1 hts (lw_V q996 q998 qs21 q105 q999) rfl rfl rfl (by decide +kernel) ⟨Nat.le_trans (Nat.le_of_ble_eq_true rfl) hRf, Nat.le_trans (Nat.le_of_ble_eq_true rfl) hRl⟩) rfl hl.1 rfl (by decide) dX8_same_42 ⟨Nat.zero_le _, Nat.zero_le _⟩) (fun r2 σ3 H locs hf hP hL => ?_)
  refine lv_if_eq (tgt := 52) hx hb dX8_same_45 (by decide) (fun c4 => ?_) (fun c4 => ?_)
  · have hf := hf.1 c4
    refine lv_iconst (v := 0) hx hb dX8_same_52 (by decide) ?_
    exact p_zret X hlk hP hL (Nat.le_refl _) (Nat.le_refl _) hr nr_0 dX8_same_53 hf
  · have hf := hf.2 c4
    exact sX8_same_L48 Y hf _ _ _ _ _ hP hL ⟨rfl, rfl⟩ (lv_sub hl [] rfl)
set_option maxHeartbeats 4000000 in
theorem sX8_same {G : GG_} {p : Program} {l : Launch} {e : Env} {R : Room} {s : State} {m : MethodId} {args : Array Value} {below : List Frame} {meth : Method} {c : Code} (Y : MX_ G p R s m args meth c cX8_same 4 RX8 (some Jvm.ClassFile.FieldType.boolean) 3 67 0 0 "same") {post : Int32 → Hp → Prop} {x0 : Nat} {x1 : Int64} {x3 : Nat} {σ : Hp} (hf : wX8_same x0 x1 x3 σ post) : WG_ G p l e R s m args below meth c (MQ below (QI_ G post) args s 0 0 (FR_ G)) BN_ 4 0 [(0, rv_ x0), (1, .long x1), (3, rv_ x3)] [] σ := by
  have ⟨X, hlk, hr, hRf, hRl, hRc, hnm⟩ := Y
  have ⟨⟨hx, hb, _, hown, hts⟩, _, _⟩ := X
  intro H locs cells slots ls hP hL hB hl
  obtain ⟨rfl, rfl⟩ := hB
  unfold wX8_same at hf
  refine p_aload_n hx hb dX8_same_0 rfl (lv_at hl 0 rfl) ?_
  obtain ⟨ht5, hf⟩ := hf
  refine p_gR X cf7_ (k := 3) (by decide) rfl hP ht5 q594 (fun _ h => h) dX8_same_1 ?_
  refine lv_lload_n hx hb dX8_same_4 rfl (lv_at hl 1 rfl) ?_
  refine lv_ldc2 hx hb hown (hts _ q1027) dX8_same_5 ?_
  refine lv_ladd hx hb dX8_same_8 ?_
  refine lv_iconst (v := 4) hx hb dX8_same_9 (by decide) ?_
  obtain ⟨ht6, hf⟩ := hf
  refine p_calli hL (p_runV X cf6_ hP ht6 (metX7_low l G _ _ _ _ _ X.2.2 hf) (cwV 2 hts (lw_V q1013 q973 q974 q104 q975) rfl rfl rfl (by decide +kernel) ⟨Nat.le_trans (Nat.le_of_ble_eq_true rfl) hRf, Nat.le_trans (Nat.le_of_ble_eq_true rfl) hRl⟩) rfl hl.1 rfl (by decide) dX8_same_10 ⟨Nat.zero_le _, Nat.zero_le _⟩) (fun r7 σ₁ H locs hf hP hL => ?_)
  obtain ⟨e₁, hf⟩ := hf
  rw [e₁] at hP
  refine p_aload_n hx hb dX8_same_13 rfl (lv_at hl 2 rfl) ?_
  obtain ⟨ht8, hf⟩ := hf
  refine p_gI X cf9_ (k := 2) (by decide) rfl hP ht8 q1062 (fun _ h => h) dX8_same_14 ?_
  refine lv_icmp_ne (tgt := 40) hx hb dX8_same_17 (by decide) (fun c9 => ?_) (fun c9 => ?_)
  · have hf := hf.1 c9
    exact sX8_same_L40 Y hf _ _ _ _ _ hP hL ⟨rfl, rfl⟩ (lv_sub hl [0, 1] rfl)
  · have hf := hf.2 c9
    refine p_aload_n hx hb dX8_same_20 rfl (lv_at hl 0 rfl) ?_
    refine p_gR X cf7_ (k := 3) (by decide) rfl hP ht5 q594 (fun _ h => h) dX8_same_21 ?_
    refine lv_lload_n hx hb dX8_same_24 rfl (lv_at hl 1 rfl) ?_
    refine lv_ldc2 hx hb hown (hts _ q1028) dX8_same_25 ?_
    refine lv_ladd hx hb dX8_same_28 ?_
    refine lv_iconst (v := 4) hx hb dX8_same_29 (by decide) ?_
    refine p_calli hL (p_runV X cf6_ hP ht6 (metX7_low l G _ _ _ _ _ X.2.2 hf) (cwV 2 hts (lw_V q1013 q973 q974 q104 q975) rfl rfl rfl (by decide +kernel) ⟨Nat.le_trans (Nat.le_of_ble_eq_true rfl) hRf, Nat.le_trans (Nat.le_of_ble_eq_true rfl) hRl⟩) rfl hl.1 rfl (by decide) dX8_same_30 ⟨Nat.zero_le _, Nat.zero_le _⟩) (fun r10 σ₁ H locs hf hP hL => ?_)
    obtain ⟨e₁, hf⟩ := hf
    rw [e₁] at hP
    refine p_aload_n hx hb dX8_same_33 rfl (lv_at hl 2 rfl) ?_
    refine p_gI X cf9_ (k := 3) (by decide) rfl hP ht8 q1065 (fun _ h => h) dX8_same_34 ?_
    refine lv_icmp_eq (tgt := 48) hx hb dX8_same_37 (by decide) (fun c11 => ?_) (fun c11 => ?_)
    · have hf := hf.1 c11
      exact sX8_same_L48 Y hf _ _ _ _ _ hP hL ⟨rfl, rfl⟩ (lv_sub hl [] rfl)
    · have hf := hf.2 c11
      exact sX8_same_L40 Y hf _ _ _ _ _ hP hL ⟨rfl, rfl⟩ (lv_sub hl [0, 1] rfl)
set_option maxHeartbeats 4000000 in
theorem metX8_same (l : Launch) (G : GG_) (x0 : Nat) (x1 : Int64) (x3 : Nat) (σ : Hp) (post : Int32 → Hp → Prop) (hG : GOK_ G) (hf : wX8_same x0 x1 x3 σ post) : Met l yX8_same (ws_ yX8_same cX8_same 4 (some Jvm.ClassFile.FieldType.boolean)) { frames := 3, cells := 0, slots := 0, locals := 67 } (PC_ G [rv_ x0, .long x1, rv_ x3] σ) (QI_ G post) 0 0 (FR_ G) := by
  refine Met.ofW (cc := cX8_same) (maxL := 4) (ret := (some Jvm.ClassFile.FieldType.boolean)) (by decide) rfl ?_
  intro p e s m args below meth c s₁ B hml hv
  obtain ⟨rfl, hP, hW⟩ := hv
  have hts := atoms_spec (ws := ws_ yX8_same cX8_same 4 (some Jvm.ClassFile.FieldType.boolean)) B.pre
  have hts : ∀ w ∈ lw_all, w.before _ s = true := fun w h => hts w (List.mem_cons_of_mem _ h)
  rw [lg_entry_eq]
  have hl := en_entry [rv_ x0, .long x1, rv_ x3] [1, 2, 1] (n := 4) (ca_r (ca_l (ca_r ca_n))) (by decide)
  exact sX8_same ⟨⟨⟨B.exec, B.bytes, hml, findClass_of_methodNamed B.named, hts⟩, hW, hG⟩, B.notSynchronized, B.returns, Nat.le_refl _, Nat.le_refl _, ⟨rfl, rfl⟩, (name_of_methodNamed B.named B.method).1⟩ hf _ _ _ _ _ hP (LO_nil G) ⟨rfl, rfl⟩ hl
