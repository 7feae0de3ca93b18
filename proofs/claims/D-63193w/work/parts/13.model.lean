set_option maxRecDepth 100000
abbrev cX9_even : ByteArray := prog_11_method_35_code
def yX9_even : MethodName := ⟨RX9, "even", "(I)I"⟩
theorem dX9_even_0 : decode cX9_even 0 = .ok (.iload_n 0, 1) := by decide +kernel
theorem dX9_even_1 : decode cX9_even 1 = .ok (.iload_n 0, 1) := by decide +kernel
theorem dX9_even_2 : decode cX9_even 2 = .ok (.iconst 2, 1) := by decide +kernel
theorem dX9_even_3 : decode cX9_even 3 = .ok (.irem, 1) := by decide +kernel
theorem dX9_even_4 : decode cX9_even 4 = .ok (.iadd, 1) := by decide +kernel
theorem dX9_even_5 : decode cX9_even 5 = .ok (.ireturn, 1) := by decide +kernel
/-- WriteOnceDiscModel.even(I)I -/
def wX9_even (x0 : Int32) (σ : Hp) (post : Int32 → Prop) : Prop :=
post (x0 + (x0 - x0 / (2 : Int32) * (2 : Int32)))
set_option maxHeartbeats 4000000 in
theorem sX9_even {G : GG_} {p : Program} {l : Launch} {e : Env} {R : Room} {s : State} {m : MethodId} {args : Array Value} {below : List Frame} {meth : Method} {c : Code} (Y : MX_ G p R s m args meth c cX9_even 1 RX9 (some Jvm.ClassFile.FieldType.int) 1 20 0 0 "even") {post : Int32 → Prop} {x0 : Int32} {σ : Hp} (hf : wX9_even x0 σ post) : WG_ G p l e R s m args below meth c (MQ below (QI_ G (fun r τ => τ = σ ∧ post r)) args s 0 0 (FR_ G)) BN_ 1 0 [(0, .int x0)] [] σ := by
  have ⟨X, hlk, hr, hRf, hRl, hRc, hnm⟩ := Y
  have ⟨⟨hx, hb, _, hown, hts⟩, _, _⟩ := X
  intro H locs cells slots ls hP hL hB hl
  obtain ⟨rfl, rfl⟩ := hB
  unfold wX9_even at hf
  refine lv_iload_n hx hb dX9_even_0 rfl (lv_at hl 0 rfl) ?_
  refine lv_iload_n hx hb dX9_even_1 rfl (lv_at hl 0 rfl) ?_
  refine lv_iconst (v := 2) hx hb dX9_even_2 (by decide) ?_
  refine lv_irem hx hb dX9_even_3 (by decide) ?_
  refine lv_iadd hx hb dX9_even_4 ?_
  exact p_iret X hlk hP hL (Nat.le_refl _) (Nat.le_refl _) hr dX9_even_5 ⟨rfl, hf⟩
set_option maxHeartbeats 4000000 in
theorem metX9_even (l : Launch) (G : GG_) (x0 : Int32) (σ : Hp) (post : Int32 → Prop) (hG : GOK_ G) (hf : wX9_even x0 σ post) : Met l yX9_even (ws_ yX9_even cX9_even 1 (some Jvm.ClassFile.FieldType.int)) { frames := 1, cells := 0, slots := 0, locals := 20 } (PC_ G [.int x0] σ) (QI_ G (fun r τ => τ = σ ∧ post r)) 0 0 (FR_ G) := by
  refine Met.ofW (cc := cX9_even) (maxL := 1) (ret := (some Jvm.ClassFile.FieldType.int)) (by decide) rfl ?_
  intro p e s m args below meth c s₁ B hml hv
  obtain ⟨rfl, hP, hW⟩ := hv
  have hts := atoms_spec (ws := ws_ yX9_even cX9_even 1 (some Jvm.ClassFile.FieldType.int)) B.pre
  have hts : ∀ w ∈ lw_all, w.before _ s = true := fun w h => hts w (List.mem_cons_of_mem _ h)
  rw [lg_entry_eq]
  have hl := en_entry [.int x0] [1] (n := 1) (ca_i ca_n) (by decide)
  exact sX9_even ⟨⟨⟨B.exec, B.bytes, hml, findClass_of_methodNamed B.named, hts⟩, hW, hG⟩, B.notSynchronized, B.returns, Nat.le_refl _, Nat.le_refl _, ⟨rfl, rfl⟩, (name_of_methodNamed B.named B.method).1⟩ hf _ _ _ _ _ hP (LO_nil G) ⟨rfl, rfl⟩ hl
abbrev cX9_low : ByteArray := prog_11_method_32_code
def yX9_low : MethodName := ⟨RX9, "low", "(III)V"⟩
theorem dX9_low_0 : decode cX9_low 0 = .ok (.iconst 0, 1) := by decide +kernel
theorem dX9_low_1 : decode cX9_low 1 = .ok (.istore 4, 2) := by decide +kernel
theorem dX9_low_3 : decode cX9_low 3 = .ok (.iload 4, 2) := by decide +kernel
theorem dX9_low_5 : decode cX9_low 5 = .ok (.iload_n 2, 1) := by decide +kernel
theorem dX9_low_6 : decode cX9_low 6 = .ok (.if_icmp .ge 26, 3) := by decide +kernel
theorem dX9_low_9 : decode cX9_low 9 = .ok (.aload_n 0, 1) := by decide +kernel
theorem dX9_low_10 : decode cX9_low 10 = .ok (.getfield 54, 3) := by decide +kernel
theorem dX9_low_13 : decode cX9_low 13 = .ok (.iload_n 1, 1) := by decide +kernel
theorem dX9_low_14 : decode cX9_low 14 = .ok (.iload 4, 2) := by decide +kernel
theorem dX9_low_16 : decode cX9_low 16 = .ok (.iadd, 1) := by decide +kernel
theorem dX9_low_17 : decode cX9_low 17 = .ok (.iload_n 3, 1) := by decide +kernel
theorem dX9_low_18 : decode cX9_low 18 = .ok (.bipush 8, 2) := by decide +kernel
theorem dX9_low_20 : decode cX9_low 20 = .ok (.iload 4, 2) := by decide +kernel
theorem dX9_low_22 : decode cX9_low 22 = .ok (.imul, 1) := by decide +kernel
theorem dX9_low_23 : decode cX9_low 23 = .ok (.ishr, 1) := by decide +kernel
theorem dX9_low_24 : decode cX9_low 24 = .ok (.i2b, 1) := by decide +kernel
theorem dX9_low_25 : decode cX9_low 25 = .ok (.bastore, 1) := by decide +kernel
theorem dX9_low_26 : decode cX9_low 26 = .ok (.iinc 4 1, 3) := by decide +kernel
theorem dX9_low_29 : decode cX9_low 29 = .ok (.goto (-26), 3) := by decide +kernel
theorem dX9_low_32 : decode cX9_low 32 = .ok (.return_, 1) := by decide +kernel
/-- WriteOnceDiscModel.low(III)V -/
def wX9_low_B3 (post : Hp → Prop) (rc3 : Int32 → Hp → Prop) (x0 : Nat) (x1 : Int32) (x2 : Int32) (x3 : Int32) (x4 : Int32) (σ : Hp) : Prop :=
((x2 ≤ x4 →
  post σ) ∧
 (¬ x2 ≤ x4 →
  (tg_ σ x0 = 9 ∧ (tg_ σ (fR_ σ 8 21 x0) = 100 ∧ (lo_ σ < (fR_ σ 8 21 x0) ∧ (vp_in (x1 + x4) (ln_ σ (fR_ σ 8 21 x0)) ∧ (∀ σ6, σ6 = wI_ σ (fR_ σ 8 21 x0) ((x1 + x4)).toNatClampNeg (vp_nar .byte ((x3 >>> (((8 : Int32) * x4) &&& 31))).toInt8.toInt32) → (∀ y7 : Int32, y7 = x4 + 1 → rc3 y7 σ6))))))))
def wX9_low_L3 (post : Hp → Prop) (x0 : Nat) (x1 : Int32) (x2 : Int32) (x3 : Int32) (x4 : Int32) (σ : Hp) : Prop :=
 ∃ (I : Int32 → Hp → Prop) (μ : Int32 → Hp → Nat), I x4 σ ∧ ∀ (x4 : Int32) (σ : Hp), I x4 σ → wX9_low_B3 post (fun x4' σ' => I x4' σ' ∧ μ x4' σ' < μ x4 σ) x0 x1 x2 x3 x4 σ
def wX9_low (x0 : Nat) (x1 : Int32) (x2 : Int32) (x3 : Int32) (σ : Hp) (post : Hp → Prop) : Prop :=
wX9_low_L3 post x0 x1 x2 x3 (0 : Int32) σ
set_option maxHeartbeats 4000000 in
theorem sX9_low_B3 {G : GG_} {p : Program} {l : Launch} {e : Env} {R : Room} {s : State} {m : MethodId} {args : Array Value} {below : List Frame} {meth : Method} {c : Code} (Y : MX_ G p R s m args meth c cX9_low 5 RX9 none 1 20 0 0 "low") {post : Hp → Prop} {rc3 : Int32 → Hp → Prop} {x0 : Nat} {x1 : Int32} {x2 : Int32} {x3 : Int32} {x4 : Int32} {σ : Hp} (hrc3 : ∀ (x4 : Int32) (σ : Hp), rc3 x4 σ → WG_ G p l e R s m args below meth c (MQ below (QV_ G post) args s 0 0 (FR_ G)) BN_ 5 3 [(0, rv_ x0), (1, .int x1), (2, .int x2), (3, .int x3), (4, .int x4)] [] σ) (hf : wX9_low_B3 post rc3 x0 x1 x2 x3 x4 σ) : WG_ G p l e R s m args below meth c (MQ below (QV_ G post) args s 0 0 (FR_ G)) BN_ 5 3 [(0, rv_ x0), (1, .int x1), (2, .int x2), (3, .int x3), (4, .int x4)] [] σ := by
  have ⟨X, hlk, hr, hRf, hRl, hRc, hnm⟩ := Y
  have ⟨⟨hx, hb, _, hown, hts⟩, _, _⟩ := X
  intro H locs cells slots ls hP hL hB hl
  obtain ⟨rfl, rfl⟩ := hB
  unfold wX9_low_B3 at hf
  refine lv_iload hx hb dX9_low_3 (lv_at hl 4 rfl) ?_
  refine lv_iload_n hx hb dX9_low_5 rfl (lv_at hl 2 rfl) ?_
  refine lv_icmp_ge (tgt := 32) hx hb dX9_low_6 (by decide) (fun c1 => ?_) (fun c1 => ?_)
  · have hf := hf.1 c1
    exact p_vret X hlk hP hL (Nat.le_refl _) (Nat.le_refl _) hr dX9_low_32 hf
  · have hf := hf.2 c1
    refine p_aload_n hx hb dX9_low_9 rfl (lv_at hl 0 rfl) ?_
    obtain ⟨ht2, hf⟩ := hf
    refine p_gR X cf8_ (k := 21) (by decide) rfl hP ht2 q1316 (fun _ h => h) dX9_low_10 ?_
    refine lv_iload_n hx hb dX9_low_13 rfl (lv_at hl 1 rfl) ?_
    refine lv_iload hx hb dX9_low_14 (lv_at hl 4 rfl) ?_
    refine lv_iadd hx hb dX9_low_16 ?_
    refine lv_iload_n hx hb dX9_low_17 rfl (lv_at hl 3 rfl) ?_
    refine lv_bipush (v := 8) hx hb dX9_low_18 (by decide) ?_
    refine lv_iload hx hb dX9_low_20 (lv_at hl 4 rfl) ?_
    refine lv_imul hx hb dX9_low_22 ?_
    refine lv_ishr hx hb dX9_low_23 ?_
    refine lv_i2b hx hb dX9_low_24 rfl ?_
    obtain ⟨ht3, hf⟩ := hf
    obtain ⟨hlo4, hf⟩ := hf
    obtain ⟨hi5, hf⟩ := hf
    refine p_bast X hP hL ht3 hlo4 hi5 dX9_low_25 (fun H locs hP hL => ?_)
    refine p_nmP hP (fun σ6 hσ6 hP => ?_)
    have hf := hf σ6 hσ6
    have ht2 : tg_ σ6 x0 = 9 := by rw [hσ6]; exact ht2
    have hl := lv_sub hl [4, 0, 1, 2, 3] rfl
    refine p_iincc (i := 4) (k := 1) hx hb (by decide) dX9_low_26 hl (by decide) ⟨⟨ne_ rfl, Or.inl (ne_ rfl)⟩, ⟨⟨ne_ rfl, Or.inl (ne_ rfl)⟩, ⟨⟨ne_ rfl, Or.inl (ne_ rfl)⟩, ⟨⟨ne_ rfl, Or.inr rfl⟩, trivial⟩⟩⟩⟩ (fun y7 hy7 ls hl => ?_)
    have hf := hf y7 hy7
    refine lv_goto (tgt := 3) hx hb dX9_low_29 (by decide) ?_
    exact hrc3 _ _ hf _ _ _ _ _ hP hL ⟨rfl, rfl⟩ (lv_sub hl [1, 2, 3, 4, 0] rfl)
set_option maxHeartbeats 4000000 in
theorem sX9_low_L3 {G : GG_} {p : Program} {l : Launch} {e : Env} {R : Room} {s : State} {m : MethodId} {args : Array Value} {below : List Frame} {meth : Method} {c : Code} (Y : MX_ G p R s m args meth c cX9_low 5 RX9 none 1 20 0 0 "low") {post : Hp → Prop} {x0 : Nat} {x1 : Int32} {x2 : Int32} {x3 : Int32} {x4 : Int32} {σ : Hp} (hf : wX9_low_L3 post x0 x1 x2 x3 x4 σ) : WG_ G p l e R s m args below meth c (MQ below (QV_ G post) args s 0 0 (FR_ G)) BN_ 5 3 [(0, rv_ x0), (1, .int x1), (2, .int x2), (3, .int x3), (4, .int x4)] [] σ := by
  unfold wX9_low_L3 at hf
  obtain ⟨I, μ, h0, hI⟩ := hf
  have key : ∀ (n : Nat) (x4 : Int32) (σ : Hp), I x4 σ → μ x4 σ < n → WG_ G p l e R s m args below meth c (MQ below (QV_ G post) args s 0 0 (FR_ G)) BN_ 5 3 [(0, rv_ x0), (1, .int x1), (2, .int x2), (3, .int x3), (4, .int x4)] [] σ := by
    intro n
    induction n with
    | zero => intro x4 σ _ h; exact absurd h (Nat.not_lt_zero _)
    | succ n ih => intro x4 σ hi hn; exact sX9_low_B3 Y (fun x4' σ' h => ih x4' σ' h.1 (Nat.lt_of_lt_of_le h.2 (Nat.le_of_lt_succ hn))) (hI x4 σ hi)
  exact key _ _ _ h0 (Nat.lt_succ_self _)
set_option maxHeartbeats 4000000 in
theorem sX9_low {G : GG_} {p : Program} {l : Launch} {e : Env} {R : Room} {s : State} {m : MethodId} {args : Array Value} {below : List Frame} {meth : Method} {c : Code} (Y : MX_ G p R s m args meth c cX9_low 5 RX9 none 1 20 0 0 "low") {post : Hp → Prop} {x0 : Nat} {x1 : Int32} {x2 : Int32} {x3 : Int32} {σ : Hp} (hf : wX9_low x0 x1 x2 x3 σ post) : WG_ G p l e R s m args below meth c (MQ below (QV_ G post) args s 0 0 (FR_ G)) BN_ 5 0 [(0, rv_ x0), (1, .int x1), (2, .int x2), (3, .int x3)] [] σ := by
  have ⟨X, hlk, hr, hRf, hRl, hRc, hnm⟩ := Y
  have ⟨⟨hx, hb, _, hown, hts⟩, _, _⟩ := X
  intro H locs cells slots ls hP hL hB hl
  obtain ⟨rfl, rfl⟩ := hB
  unfold wX9_low at hf
  refine lv_iconst (v := 0) hx hb dX9_low_0 (by decide) ?_
  refine p_istore (i := 4) hx hb dX9_low_1 hl (by decide) ⟨⟨ne_ rfl, Or.inl (ne_ rfl)⟩, ⟨⟨ne_ rfl, Or.inl (ne_ rfl)⟩, ⟨⟨ne_ rfl, Or.inl (ne_ rfl)⟩, ⟨⟨ne_ rfl, Or.inr rfl⟩, trivial⟩⟩⟩⟩ (fun ls hl => ?_)
  exact sX9_low_L3 Y hf _ _ _ _ _ hP hL ⟨rfl, rfl⟩ (lv_sub hl [1, 2, 3, 4, 0] rfl)
set_option maxHeartbeats 4000000 in
theorem metX9_low (l : Launch) (G : GG_) (x0 : Nat) (x1 : Int32) (x2 : Int32) (x3 : Int32) (σ : Hp) (post : Hp → Prop) (hG : GOK_ G) (hf : wX9_low x0 x1 x2 x3 σ post) : Met l yX9_low (ws_ yX9_low cX9_low 5 none) { frames := 1, cells := 0, slots := 0, locals := 20 } (PC_ G [rv_ x0, .int x1, .int x2, .int x3] σ) (QV_ G post) 0 0 (FR_ G) := by
  refine Met.ofW (cc := cX9_low) (maxL := 5) (ret := none) (by decide) rfl ?_
  intro p e s m args below meth c s₁ B hml hv
  obtain ⟨rfl, hP, hW⟩ := hv
  have hts := atoms_spec (ws := ws_ yX9_low cX9_low 5 none) B.pre
  have hts : ∀ w ∈ lw_all, w.before _ s = true := fun w h => hts w (List.mem_cons_of_mem _ h)
  rw [lg_entry_eq]
  have hl := en_entry [rv_ x0, .int x1, .int x2, .int x3] [1, 1, 1, 1] (n := 5) (ca_r (ca_i (ca_i (ca_i ca_n)))) (by decide)
  exact sX9_low ⟨⟨⟨B.exec, B.bytes, hml, findClass_of_methodNamed B.named, hts⟩, hW, hG⟩, B.notSynchronized, B.returns, Nat.le_refl _, Nat.le_refl _, ⟨rfl, rfl⟩, (name_of_methodNamed B.named B.method).1⟩ hf _ _ _ _ _ hP (LO_nil G) ⟨rfl, rfl⟩ hl
abbrev cX9_high : ByteArray := prog_11_method_33_code
def yX9_high : MethodName := ⟨RX9, "high", "(III)V"⟩
theorem dX9_high_0 : decode cX9_high 0 = .ok (.iconst 0, 1) := by decide +kernel
theorem dX9_high_1 : decode cX9_high 1 = .ok (.istore 4, 2) := by decide +kernel
theorem dX9_high_3 : decode cX9_high 3 = .ok (.iload 4, 2) := by decide +kernel
theorem dX9_high_5 : decode cX9_high 5 = .ok (.iload_n 2, 1) := by decide +kernel
theorem dX9_high_6 : decode cX9_high 6 = .ok (.if_icmp .ge 30, 3) := by decide +kernel
theorem dX9_high_9 : decode cX9_high 9 = .ok (.aload_n 0, 1) := by decide +kernel
theorem dX9_high_10 : decode cX9_high 10 = .ok (.getfield 54, 3) := by decide +kernel
theorem dX9_high_13 : decode cX9_high 13 = .ok (.iload_n 1, 1) := by decide +kernel
theorem dX9_high_14 : decode cX9_high 14 = .ok (.iload 4, 2) := by decide +kernel
theorem dX9_high_16 : decode cX9_high 16 = .ok (.iadd, 1) := by decide +kernel
theorem dX9_high_17 : decode cX9_high 17 = .ok (.iload_n 3, 1) := by decide +kernel
theorem dX9_high_18 : decode cX9_high 18 = .ok (.bipush 8, 2) := by decide +kernel
theorem dX9_high_20 : decode cX9_high 20 = .ok (.iload_n 2, 1) := by decide +kernel
theorem dX9_high_21 : decode cX9_high 21 = .ok (.iconst 1, 1) := by decide +kernel
theorem dX9_high_22 : decode cX9_high 22 = .ok (.isub, 1) := by decide +kernel
theorem dX9_high_23 : decode cX9_high 23 = .ok (.iload 4, 2) := by decide +kernel
theorem dX9_high_25 : decode cX9_high 25 = .ok (.isub, 1) := by decide +kernel
theorem dX9_high_26 : decode cX9_high 26 = .ok (.imul, 1) := by decide +kernel
theorem dX9_high_27 : decode cX9_high 27 = .ok (.ishr, 1) := by decide +kernel
theorem dX9_high_28 : decode cX9_high 28 = .ok (.i2b, 1) := by decide +kernel
theorem dX9_high_29 : decode cX9_high 29 = .ok (.bastore, 1) := by decide +kernel
theorem dX9_high_30 : decode cX9_high 30 = .ok (.iinc 4 1, 3) := by decide +kernel
theorem dX9_high_33 : decode cX9_high 33 = .ok (.goto (-30), 3) := by decide +kernel
theorem dX9_high_36 : decode cX9_high 36 = .ok (.return_, 1) := by decide +kernel
/-- WriteOnceDiscModel.high(III)V -/
def wX9_high_B3 (post : Hp → Prop) (rc3 : Int32 → Hp → Prop) (x0 : Nat) (x1 : Int32) (x2 : Int32) (x3 : Int32) (x4 : Int32) (σ : Hp) : Prop :=
((x2 ≤ x4 →
  post σ) ∧
 (¬ x2 ≤ x4 →
  (tg_ σ x0 = 9 ∧ (tg_ σ (fR_ σ 8 21 x0) = 100 ∧ (lo_ σ < (fR_ σ 8 21 x0) ∧ (vp_in (x1 + x4) (ln_ σ (fR_ σ 8 21 x0)) ∧ (∀ σ6, σ6 = wI_ σ (fR_ σ 8 21 x0) ((x1 + x4)).toNatClampNeg (vp_nar .byte ((x3 >>> (((8 : Int32) * ((x2 - (1 : Int32)) - x4)) &&& 31))).toInt8.toInt32) → (∀ y7 : Int32, y7 = x4 + 1 → rc3 y7 σ6))))))))
def wX9_high_L3 (post : Hp → Prop) (x0 : Nat) (x1 : Int32) (x2 : Int32) (x3 : Int32) (x4 : Int32) (σ : Hp) : Prop :=
 ∃ (I : Int32 → Hp → Prop) (μ : Int32 → Hp → Nat), I x4 σ ∧ ∀ (x4 : Int32) (σ : Hp), I x4 σ → wX9_high_B3 post (fun x4' σ' => I x4' σ' ∧ μ x4' σ' < μ x4 σ) x0 x1 x2 x3 x4 σ
def wX9_high (x0 : Nat) (x1 : Int32) (x2 : Int32) (x3 : Int32) (σ : Hp) (post : Hp → Prop) : Prop :=
wX9_high_L3 post x0 x1 x2 x3 (0 : Int32) σ
set_option maxHeartbeats 4000000 in
theorem sX9_high_B3 {G : GG_} {p : Program} {l : Launch} {e : Env} {R : Room} {s : State} {m : MethodId} {args : Array Value} {below : List Frame} {meth : Method} {c : Code} (Y : MX_ G p R s m args meth c cX9_high 5 RX9 none 1 20 0 0 "high") {post : Hp → Prop} {rc3 : Int32 → Hp → Prop} {x0 : Nat} {x1 : Int32} {x2 : Int32} {x3 : Int32} {x4 : Int32} {σ : Hp} (hrc3 : ∀ (x4 : Int32) (σ : Hp), rc3 x4 σ → WG_ G p l e R s m args below meth c (MQ below (QV_ G post) args s 0 0 (FR_ G)) BN_ 5 3 [(0, rv_ x0), (1, .int x1), (2, .int x2), (3, .int x3), (4, .int x4)] [] σ) (hf : wX9_high_B3 post rc3 x0 x1 x2 x3 x4 σ) : WG_ G p l e R s m args below meth c (MQ below (QV_ G post) args s 0 0 (FR_ G)) BN_ 5 3 [(0, rv_ x0), (1, .int x1), (2, .int x2), (3, .int x3), (4, .int x4)] [] σ := by
  have ⟨X, hlk, hr, hRf, hRl, hRc, hnm⟩ := Y
  have ⟨⟨hx, hb, _, hown, hts⟩, _, _⟩ := X
  intro H locs cells slots ls hP hL hB hl
  obtain ⟨rfl, rfl⟩ := hB
  unfold wX9_high_B3 at hf
  refine lv_iload hx hb dX9_high_3 (lv_at hl 4 rfl) ?_
  refine lv_iload_n hx hb dX9_high_5 rfl (lv_at hl 2 rfl) ?_
  refine lv_icmp_ge (tgt := 36) hx hb dX9_high_6 (by decide) (fun c1 => ?_) (fun c1 => ?_)
  · have hf := hf.1 c1
    exact p_vret X hlk hP hL (Nat.le_refl _) (Nat.le_refl _) hr dX9_high_36 hf
  · have hf := hf.2 c1
    refine p_aload_n hx hb dX9_high_9 rfl (lv_at hl 0 rfl) ?_
    obtain ⟨ht2, hf⟩ := hf
    refine p_gR X cf8_ (k := 21) (by decide) rfl hP ht2 q1316 (fun _ h => h) dX9_high_10 ?_
    refine lv_iload_n hx hb dX9_high_13 rfl (lv_at hl 1 rfl) ?_
    refine lv_iload hx hb dX9_high_14 (lv_at hl 4 rfl) ?_
    refine lv_iadd hx hb dX9_high_16 ?_
    refine lv_iload_n hx hb dX9_high_17 rfl (lv_at hl 3 rfl) ?_
    refine lv_bipush (v := 8) hx hb dX9_high_18 (by decide) ?_
    refine lv_iload_n hx hb dX9_high_20 rfl (lv_at hl 2 rfl) ?_
    refine lv_iconst (v := 1) hx hb dX9_high_21 (by decide) ?_
    refine lv_isub hx hb dX9_high_22 ?_
    refine lv_iload hx hb dX9_high_23 (lv_at hl 4 rfl) ?_
    refine lv_isub hx hb dX9_high_25 ?_
    refine lv_imul hx hb dX9_high_26 ?_
    refine lv_ishr hx hb dX9_high_27 ?_
    refine lv_i2b hx hb dX9_high_28 rfl ?_
    obtain ⟨ht3, hf⟩ := hf
    obtain ⟨hlo4, hf⟩ := hf
    obtain ⟨hi5, hf⟩ := hf
    refine p_bast X hP hL ht3 hlo4 hi5 dX9_high_29 (fun H locs hP hL => ?_)
    refine p_nmP hP (fun σ6 hσ6 hP => ?_)
    have hf := hf σ6 hσ6
    have ht2 : tg_ σ6 x0 = 9 := by rw [hσ6]; exact ht2
    have hl := lv_sub hl [4, 0, 1, 2, 3] rfl
    refine p_iincc (i := 4) (k := 1) hx hb (by decide) dX9_high_30 hl (by decide) ⟨⟨ne_ rfl, Or.inl (ne_ rfl)⟩, ⟨⟨ne_ rfl, Or.inl (ne_ rfl)⟩, ⟨⟨ne_ rfl, Or.inl (ne_ rfl)⟩, ⟨⟨ne_ rfl, Or.inr rfl⟩, trivial⟩⟩⟩⟩ (fun y7 hy7 ls hl => ?_)
    have hf := hf y7 hy7
    refine lv_goto (tgt := 3) hx hb dX9_high_33 (by decide) ?_
    exact hrc3 _ _ hf _ _ _ _ _ hP hL ⟨rfl, rfl⟩ (lv_sub hl [1, 2, 3, 4, 0] rfl)
set_option maxHeartbeats 4000000 in
theorem sX9_high_L3 {G : GG_} {p : Program} {l : Launch} {e : Env} {R : Room} {s : State} {m : MethodId} {args : Array Value} {below : List Frame} {meth : Method} {c : Code} (Y : MX_ G p R s m args meth c cX9_high 5 RX9 none 1 20 0 0 "high") {post : Hp → Prop} {x0 : Nat} {x1 : Int32} {x2 : Int32} {x3 : Int32} {x4 : Int32} {σ : Hp} (hf : wX9_high_L3 post x0 x1 x2 x3 x4 σ) : WG_ G p l e R s m args below meth c (MQ below (QV_ G post) args s 0 0 (FR_ G)) BN_ 5 3 [(0, rv_ x0), (1, .int x1), (2, .int x2), (3, .int x3), (4, .int x4)] [] σ := by
  unfold wX9_high_L3 at hf
  obtain ⟨I, μ, h0, hI⟩ := hf
  have key : ∀ (n : Nat) (x4 : Int32) (σ : Hp), I x4 σ → μ x4 σ < n → WG_ G p l e R s m args below meth c (MQ below (QV_ G post) args s 0 0 (FR_ G)) BN_ 5 3 [(0, rv_ x0), (1, .int x1), (2, .int x2), (3, .int x3), (4, .int x4)] [] σ := by
    intro n
    induction n with
    | zero => intro x4 σ _ h; exact absurd h (Nat.not_lt_zero _)
    | succ n ih => intro x4 σ hi hn; exact sX9_high_B3 Y (fun x4' σ' h => ih x4' σ' h.1 (Nat.lt_of_lt_of_le h.2 (Nat.le_of_lt_succ hn))) (hI x4 σ hi)
  exact key _ _ _ h0 (Nat.lt_succ_self _)
set_option maxHeartbeats 4000000 in
theorem sX9_high {G : GG_} {p : Program} {l : Launch} {e : Env} {R : Room} {s : State} {m : MethodId} {args : Array Value} {below : List Frame} {meth : Method} {c : Code} (Y : MX_ G p R s m args meth c cX9_high 5 RX9 none 1 20 0 0 "high") {post : Hp → Prop} {x0 : Nat} {x1 : Int32} {x2 : Int32} {x3 : Int32} {σ : Hp} (hf : wX9_high x0 x1 x2 x3 σ post) : WG_ G p l e R s m args below meth c (MQ below (QV_ G post) args s 0 0 (FR_ G)) BN_ 5 0 [(0, rv_ x0), (1, .int x1), (2, .int x2), (3, .int x3)] [] σ := by
  have ⟨X, hlk, hr, hRf, hRl, hRc, hnm⟩ := Y
  have ⟨⟨hx, hb, _, hown, hts⟩, _, _⟩ := X
  intro H locs cells slots ls hP hL hB hl
  obtain ⟨rfl, rfl⟩ := hB
  unfold wX9_high at hf
  refine lv_iconst (v := 0) hx hb dX9_high_0 (by decide) ?_
  refine p_istore (i := 4) hx hb dX9_high_1 hl (by decide) ⟨⟨ne_ rfl, Or.inl (ne_ rfl)⟩, ⟨⟨ne_ rfl, Or.inl (ne_ rfl)⟩, ⟨⟨ne_ rfl, Or.inl (ne_ rfl)⟩, ⟨⟨ne_ rfl, Or.inr rfl⟩, trivial⟩⟩⟩⟩ (fun ls hl => ?_)
  exact sX9_high_L3 Y hf _ _ _ _ _ hP hL ⟨rfl, rfl⟩ (lv_sub hl [1, 2, 3, 4, 0] rfl)
set_option maxHeartbeats 4000000 in
theorem metX9_high (l : Launch) (G : GG_) (x0 : Nat) (x1 : Int32) (x2 : Int32) (x3 : Int32) (σ : Hp) (post : Hp → Prop) (hG : GOK_ G) (hf : wX9_high x0 x1 x2 x3 σ post) : Met l yX9_high (ws_ yX9_high cX9_high 5 none) { frames := 1, cells := 0, slots := 0, locals := 20 } (PC_ G [rv_ x0, .int x1, .int x2, .int x3] σ) (QV_ G post) 0 0 (FR_ G) := by
  refine Met.ofW (cc := cX9_high) (maxL := 5) (ret := none) (by decide) rfl ?_
  intro p e s m args below meth c s₁ B hml hv
  obtain ⟨rfl, hP, hW⟩ := hv
  have hts := atoms_spec (ws := ws_ yX9_high cX9_high 5 none) B.pre
  have hts : ∀ w ∈ lw_all, w.before _ s = true := fun w h => hts w (List.mem_cons_of_mem _ h)
  rw [lg_entry_eq]
  have hl := en_entry [rv_ x0, .int x1, .int x2, .int x3] [1, 1, 1, 1] (n := 5) (ca_r (ca_i (ca_i (ca_i ca_n)))) (by decide)
  exact sX9_high ⟨⟨⟨B.exec, B.bytes, hml, findClass_of_methodNamed B.named, hts⟩, hW, hG⟩, B.notSynchronized, B.returns, Nat.le_refl _, Nat.le_refl _, ⟨rfl, rfl⟩, (name_of_methodNamed B.named B.method).1⟩ hf _ _ _ _ _ hP (LO_nil G) ⟨rfl, rfl⟩ hl
abbrev cX9_both : ByteArray := prog_11_method_34_code
def yX9_both : MethodName := ⟨RX9, "both", "(III)V"⟩
theorem dX9_both_0 : decode cX9_both 0 = .ok (.aload_n 0, 1) := by decide +kernel
theorem dX9_both_1 : decode cX9_both 1 = .ok (.iload_n 1, 1) := by decide +kernel
theorem dX9_both_2 : decode cX9_both 2 = .ok (.iload_n 2, 1) := by decide +kernel
theorem dX9_both_3 : decode cX9_both 3 = .ok (.iload_n 3, 1) := by decide +kernel
theorem dX9_both_4 : decode cX9_both 4 = .ok (.invokevirtual 181, 3) := by decide +kernel
theorem dX9_both_7 : decode cX9_both 7 = .ok (.aload_n 0, 1) := by decide +kernel
theorem dX9_both_8 : decode cX9_both 8 = .ok (.iload_n 1, 1) := by decide +kernel
theorem dX9_both_9 : decode cX9_both 9 = .ok (.iload_n 2, 1) := by decide +kernel
theorem dX9_both_10 : decode cX9_both 10 = .ok (.iadd, 1) := by decide +kernel
theorem dX9_both_11 : decode cX9_both 11 = .ok (.iload_n 2, 1) := by decide +kernel
theorem dX9_both_12 : decode cX9_both 12 = .ok (.iload_n 3, 1) := by decide +kernel
theorem dX9_both_13 : decode cX9_both 13 = .ok (.invokevirtual 185, 3) := by decide +kernel
theorem dX9_both_16 : decode cX9_both 16 = .ok (.return_, 1) := by decide +kernel
/-- WriteOnceDiscModel.both(III)V -/
def wX9_both (x0 : Nat) (x1 : Int32) (x2 : Int32) (x3 : Int32) (σ : Hp) (post : Hp → Prop) : Prop :=
(tg_ σ x0 = 9 ∧ (wX9_low x0 x1 x2 x3 σ (fun σ2 => (tg_ σ2 x0 = 9 ∧ (wX9_high x0 (x1 + x2) x2 x3 σ2 (fun σ4 => post σ4))))))
set_option maxHeartbeats 4000000 in
theorem sX9_both {G : GG_} {p : Program} {l : Launch} {e : Env} {R : Room} {s : State} {m : MethodId} {args : Array Value} {below : List Frame} {meth : Method} {c : Code} (Y : MX_ G p R s m args meth c cX9_both 4 RX9 none 2 44 0 0 "both") {post : Hp → Prop} {x0 : Nat} {x1 : Int32} {x2 : Int32} {x3 : Int32} {σ : Hp} (hf : wX9_both x0 x1 x2 x3 σ post) : WG_ G p l e R s m args below meth c (MQ below (QV_ G post) args s 0 0 (FR_ G)) BN_ 4 0 [(0, rv_ x0), (1, .int x1), (2, .int x2), (3, .int x3)] [] σ := by
  have ⟨X, hlk, hr, hRf, hRl, hRc, hnm⟩ := Y
  have ⟨⟨hx, hb, _, hown, hts⟩, _, _⟩ := X
  intro H locs cells slots ls hP hL hB hl
  obtain ⟨rfl, rfl⟩ := hB
  unfold wX9_both at hf
  refine p_aload_n hx hb dX9_both_0 rfl (lv_at hl 0 rfl) ?_
  refine lv_iload_n hx hb dX9_both_1 rfl (lv_at hl 1 rfl) ?_
  refine lv_iload_n hx hb dX9_both_2 rfl (lv_at hl 2 rfl) ?_
  refine lv_iload_n hx hb dX9_both_3 rfl (lv_at hl 3 rfl) ?_
  obtain ⟨ht1, hf⟩ := hf
  refine p_callv hL (p_runV X cf8_ hP ht1 (metX9_low l G _ _ _ _ _ _ X.2.2 hf) (cwV 3 hts (lw_V q1566 q1568 qs62 q106 q1569) rfl rfl rfl (by decide +kernel) ⟨Nat.le_trans (Nat.le_of_ble_eq_true rfl) hRf, Nat.le_trans (Nat.le_of_ble_eq_true rfl) hRl⟩) rfl hl.1 rfl (by decide) dX9_both_4 ⟨Nat.zero_le _, Nat.zero_le _⟩) (fun σ2 H locs hf hP hL => ?_)
  refine p_aload_n hx hb dX9_both_7 rfl (lv_at hl 0 rfl) ?_
  refine lv_iload_n hx hb dX9_both_8 rfl (lv_at hl 1 rfl) ?_
  refine lv_iload_n hx hb dX9_both_9 rfl (lv_at hl 2 rfl) ?_
  refine lv_iadd hx hb dX9_both_10 ?_
  refine lv_iload_n hx hb dX9_both_11 rfl (lv_at hl 2 rfl) ?_
  refine lv_iload_n hx hb dX9_both_12 rfl (lv_at hl 3 rfl) ?_
  obtain ⟨ht3, hf⟩ := hf
  refine p_callv hL (p_runV X cf8_ hP ht3 (metX9_high l G _ _ _ _ _ _ X.2.2 hf) (cwV 3 hts (lw_V q1570 q1572 qs63 q106 q1573) rfl rfl rfl (by decide +kernel) ⟨Nat.le_trans (Nat.le_of_ble_eq_true rfl) hRf, Nat.le_trans (Nat.le_of_ble_eq_true rfl) hRl⟩) rfl hl.1 rfl (by decide) dX9_both_13 ⟨Nat.zero_le _, Nat.zero_le _⟩) (fun σ4 H locs hf hP hL => ?_)
  exact p_vret X hlk hP hL (Nat.le_refl _) (Nat.le_refl _) hr dX9_both_16 hf
set_option maxHeartbeats 4000000 in
theorem metX9_both (l : Launch) (G : GG_) (x0 : Nat) (x1 : Int32) (x2 : Int32) (x3 : Int32) (σ : Hp) (post : Hp → Prop) (hG : GOK_ G) (hf : wX9_both x0 x1 x2 x3 σ post) : Met l yX9_both (ws_ yX9_both cX9_both 4 none) { frames := 2, cells := 0, slots := 0, locals := 44 } (PC_ G [rv_ x0, .int x1, .int x2, .int x3] σ) (QV_ G post) 0 0 (FR_ G) := by
  refine Met.ofW (cc := cX9_both) (maxL := 4) (ret := none) (by decide) rfl ?_
  intro p e s m args below meth c s₁ B hml hv
  obtain ⟨rfl, hP, hW⟩ := hv
  have hts := atoms_spec (ws := ws_ yX9_both cX9_both 4 none) B.pre
  have hts : ∀ w ∈ lw_all, w.before _ s = true := fun w h => hts w (List.mem_cons_of_mem _ h)
  rw [lg_entry_eq]
  have hl := en_entry [rv_ x0, .int x1, .int x2, .int x3] [1, 1, 1, 1] (n := 4) (ca_r (ca_i (ca_i (ca_i ca_n)))) (by decide)
  exact sX9_both ⟨⟨⟨B.exec, B.bytes, hml, findClass_of_methodNamed B.named, hts⟩, hW, hG⟩, B.notSynchronized, B.returns, Nat.le_refl _, Nat.le_refl _, ⟨rfl, rfl⟩, (name_of_methodNamed B.named B.method).1⟩ hf _ _ _ _ _ hP (LO_nil G) ⟨rfl, rfl⟩ hl
abbrev cX9_record : ByteArray := prog_11_method_37_code
def yX9_record : MethodName := ⟨RX9, "record", "(III)V"⟩
theorem dX9_record_0 : decode cX9_record 0 = .ok (.aload_n 0, 1) := by decide +kernel
theorem dX9_record_1 : decode cX9_record 1 = .ok (.iload_n 2, 1) := by decide +kernel
theorem dX9_record_2 : decode cX9_record 2 = .ok (.iload_n 3, 1) := by decide +kernel
theorem dX9_record_3 : decode cX9_record 3 = .ok (.invokevirtual 192, 3) := by decide +kernel
theorem dX9_record_6 : decode cX9_record 6 = .ok (.istore 4, 2) := by decide +kernel
theorem dX9_record_8 : decode cX9_record 8 = .ok (.aload_n 0, 1) := by decide +kernel
theorem dX9_record_9 : decode cX9_record 9 = .ok (.getfield 54, 3) := by decide +kernel
theorem dX9_record_12 : decode cX9_record 12 = .ok (.iload_n 1, 1) := by decide +kernel
theorem dX9_record_13 : decode cX9_record 13 = .ok (.bipush 33, 2) := by decide +kernel
theorem dX9_record_15 : decode cX9_record 15 = .ok (.iload 4, 2) := by decide +kernel
theorem dX9_record_17 : decode cX9_record 17 = .ok (.iadd, 1) := by decide +kernel
theorem dX9_record_18 : decode cX9_record 18 = .ok (.invokestatic 196, 3) := by decide +kernel
theorem dX9_record_21 : decode cX9_record 21 = .ok (.i2b, 1) := by decide +kernel
theorem dX9_record_22 : decode cX9_record 22 = .ok (.bastore, 1) := by decide +kernel
theorem dX9_record_23 : decode cX9_record 23 = .ok (.aload_n 0, 1) := by decide +kernel
theorem dX9_record_24 : decode cX9_record 24 = .ok (.iload_n 1, 1) := by decide +kernel
theorem dX9_record_25 : decode cX9_record 25 = .ok (.iconst 2, 1) := by decide +kernel
theorem dX9_record_26 : decode cX9_record 26 = .ok (.iadd, 1) := by decide +kernel
theorem dX9_record_27 : decode cX9_record 27 = .ok (.iconst 4, 1) := by decide +kernel
theorem dX9_record_28 : decode cX9_record 28 = .ok (.aload_n 0, 1) := by decide +kernel
theorem dX9_record_29 : decode cX9_record 29 = .ok (.getfield 27, 3) := by decide +kernel
theorem dX9_record_32 : decode cX9_record 32 = .ok (.iload_n 3, 1) := by decide +kernel
theorem dX9_record_33 : decode cX9_record 33 = .ok (.baload, 1) := by decide +kernel
theorem dX9_record_34 : decode cX9_record 34 = .ok (.ifCond .eq 12, 3) := by decide +kernel
theorem dX9_record_37 : decode cX9_record 37 = .ok (.aload_n 0, 1) := by decide +kernel
theorem dX9_record_38 : decode cX9_record 38 = .ok (.getfield 60, 3) := by decide +kernel
theorem dX9_record_41 : decode cX9_record 41 = .ok (.iload_n 3, 1) := by decide +kernel
theorem dX9_record_42 : decode cX9_record 42 = .ok (.iaload, 1) := by decide +kernel
theorem dX9_record_43 : decode cX9_record 43 = .ok (.goto 9, 3) := by decide +kernel
theorem dX9_record_46 : decode cX9_record 46 = .ok (.aload_n 0, 1) := by decide +kernel
theorem dX9_record_47 : decode cX9_record 47 = .ok (.getfield 47, 3) := by decide +kernel
theorem dX9_record_50 : decode cX9_record 50 = .ok (.iload_n 3, 1) := by decide +kernel
theorem dX9_record_51 : decode cX9_record 51 = .ok (.iaload, 1) := by decide +kernel
theorem dX9_record_52 : decode cX9_record 52 = .ok (.invokevirtual 199, 3) := by decide +kernel
theorem dX9_record_55 : decode cX9_record 55 = .ok (.aload_n 0, 1) := by decide +kernel
theorem dX9_record_56 : decode cX9_record 56 = .ok (.iload_n 1, 1) := by decide +kernel
theorem dX9_record_57 : decode cX9_record 57 = .ok (.bipush 10, 2) := by decide +kernel
theorem dX9_record_59 : decode cX9_record 59 = .ok (.iadd, 1) := by decide +kernel
theorem dX9_record_60 : decode cX9_record 60 = .ok (.iconst 4, 1) := by decide +kernel
theorem dX9_record_61 : decode cX9_record 61 = .ok (.aload_n 0, 1) := by decide +kernel
theorem dX9_record_62 : decode cX9_record 62 = .ok (.getfield 27, 3) := by decide +kernel
theorem dX9_record_65 : decode cX9_record 65 = .ok (.iload_n 3, 1) := by decide +kernel
theorem dX9_record_66 : decode cX9_record 66 = .ok (.baload, 1) := by decide +kernel
theorem dX9_record_67 : decode cX9_record 67 = .ok (.ifCond .eq 16, 3) := by decide +kernel
theorem dX9_record_70 : decode cX9_record 70 = .ok (.sipush 2048, 3) := by decide +kernel
theorem dX9_record_73 : decode cX9_record 73 = .ok (.aload_n 0, 1) := by decide +kernel
theorem dX9_record_74 : decode cX9_record 74 = .ok (.getfield 63, 3) := by decide +kernel
theorem dX9_record_77 : decode cX9_record 77 = .ok (.iload_n 3, 1) := by decide +kernel
theorem dX9_record_78 : decode cX9_record 78 = .ok (.iaload, 1) := by decide +kernel
theorem dX9_record_79 : decode cX9_record 79 = .ok (.imul, 1) := by decide +kernel
theorem dX9_record_80 : decode cX9_record 80 = .ok (.goto 9, 3) := by decide +kernel
theorem dX9_record_83 : decode cX9_record 83 = .ok (.aload_n 0, 1) := by decide +kernel
theorem dX9_record_84 : decode cX9_record 84 = .ok (.getfield 38, 3) := by decide +kernel
theorem dX9_record_87 : decode cX9_record 87 = .ok (.iload_n 3, 1) := by decide +kernel
theorem dX9_record_88 : decode cX9_record 88 = .ok (.iaload, 1) := by decide +kernel
theorem dX9_record_89 : decode cX9_record 89 = .ok (.invokevirtual 199, 3) := by decide +kernel
theorem dX9_record_92 : decode cX9_record 92 = .ok (.aload_n 0, 1) := by decide +kernel
theorem dX9_record_93 : decode cX9_record 93 = .ok (.getfield 54, 3) := by decide +kernel
theorem dX9_record_96 : decode cX9_record 96 = .ok (.iload_n 1, 1) := by decide +kernel
theorem dX9_record_97 : decode cX9_record 97 = .ok (.bipush 25, 2) := by decide +kernel
theorem dX9_record_99 : decode cX9_record 99 = .ok (.iadd, 1) := by decide +kernel
theorem dX9_record_100 : decode cX9_record 100 = .ok (.aload_n 0, 1) := by decide +kernel
theorem dX9_record_101 : decode cX9_record 101 = .ok (.getfield 27, 3) := by decide +kernel
theorem dX9_record_104 : decode cX9_record 104 = .ok (.iload_n 3, 1) := by decide +kernel
theorem dX9_record_105 : decode cX9_record 105 = .ok (.baload, 1) := by decide +kernel
theorem dX9_record_106 : decode cX9_record 106 = .ok (.ifCond .eq 7, 3) := by decide +kernel
theorem dX9_record_109 : decode cX9_record 109 = .ok (.iconst 2, 1) := by decide +kernel
theorem dX9_record_110 : decode cX9_record 110 = .ok (.goto 4, 3) := by decide +kernel
theorem dX9_record_113 : decode cX9_record 113 = .ok (.iconst 0, 1) := by decide +kernel
theorem dX9_record_114 : decode cX9_record 114 = .ok (.i2b, 1) := by decide +kernel
theorem dX9_record_115 : decode cX9_record 115 = .ok (.bastore, 1) := by decide +kernel
theorem dX9_record_116 : decode cX9_record 116 = .ok (.aload_n 0, 1) := by decide +kernel
theorem dX9_record_117 : decode cX9_record 117 = .ok (.iload_n 1, 1) := by decide +kernel
theorem dX9_record_118 : decode cX9_record 118 = .ok (.bipush 28, 2) := by decide +kernel
theorem dX9_record_120 : decode cX9_record 120 = .ok (.iadd, 1) := by decide +kernel
theorem dX9_record_121 : decode cX9_record 121 = .ok (.iconst 2, 1) := by decide +kernel
theorem dX9_record_122 : decode cX9_record 122 = .ok (.iconst 1, 1) := by decide +kernel
theorem dX9_record_123 : decode cX9_record 123 = .ok (.invokevirtual 199, 3) := by decide +kernel
theorem dX9_record_126 : decode cX9_record 126 = .ok (.aload_n 0, 1) := by decide +kernel
theorem dX9_record_127 : decode cX9_record 127 = .ok (.getfield 54, 3) := by decide +kernel
theorem dX9_record_130 : decode cX9_record 130 = .ok (.iload_n 1, 1) := by decide +kernel
theorem dX9_record_131 : decode cX9_record 131 = .ok (.bipush 32, 2) := by decide +kernel
theorem dX9_record_133 : decode cX9_record 133 = .ok (.iadd, 1) := by decide +kernel
theorem dX9_record_134 : decode cX9_record 134 = .ok (.iload 4, 2) := by decide +kernel
theorem dX9_record_136 : decode cX9_record 136 = .ok (.i2b, 1) := by decide +kernel
theorem dX9_record_137 : decode cX9_record 137 = .ok (.bastore, 1) := by decide +kernel
theorem dX9_record_138 : decode cX9_record 138 = .ok (.iconst 0, 1) := by decide +kernel
theorem dX9_record_139 : decode cX9_record 139 = .ok (.istore 5, 2) := by decide +kernel
theorem dX9_record_141 : decode cX9_record 141 = .ok (.iload 5, 2) := by decide +kernel
theorem dX9_record_143 : decode cX9_record 143 = .ok (.iload 4, 2) := by decide +kernel
theorem dX9_record_145 : decode cX9_record 145 = .ok (.if_icmp .ge 48, 3) := by decide +kernel
theorem dX9_record_148 : decode cX9_record 148 = .ok (.aload_n 0, 1) := by decide +kernel
theorem dX9_record_149 : decode cX9_record 149 = .ok (.getfield 54, 3) := by decide +kernel
theorem dX9_record_152 : decode cX9_record 152 = .ok (.iload_n 1, 1) := by decide +kernel
theorem dX9_record_153 : decode cX9_record 153 = .ok (.bipush 33, 2) := by decide +kernel
theorem dX9_record_155 : decode cX9_record 155 = .ok (.iadd, 1) := by decide +kernel
theorem dX9_record_156 : decode cX9_record 156 = .ok (.iload 5, 2) := by decide +kernel
theorem dX9_record_158 : decode cX9_record 158 = .ok (.iadd, 1) := by decide +kernel
theorem dX9_record_159 : decode cX9_record 159 = .ok (.iload_n 2, 1) := by decide +kernel
theorem dX9_record_160 : decode cX9_record 160 = .ok (.iconst 2, 1) := by decide +kernel
theorem dX9_record_161 : decode cX9_record 161 = .ok (.if_icmp .ge 7, 3) := by decide +kernel
theorem dX9_record_164 : decode cX9_record 164 = .ok (.iload_n 2, 1) := by decide +kernel
theorem dX9_record_165 : decode cX9_record 165 = .ok (.goto 20, 3) := by decide +kernel
theorem dX9_record_168 : decode cX9_record 168 = .ok (.aload_n 0, 1) := by decide +kernel
theorem dX9_record_169 : decode cX9_record 169 = .ok (.getfield 34, 3) := by decide +kernel
theorem dX9_record_172 : decode cX9_record 172 = .ok (.iload_n 3, 1) := by decide +kernel
theorem dX9_record_173 : decode cX9_record 173 = .ok (.laload, 1) := by decide +kernel
theorem dX9_record_174 : decode cX9_record 174 = .ok (.aload_n 0, 1) := by decide +kernel
theorem dX9_record_175 : decode cX9_record 175 = .ok (.getfield 27, 3) := by decide +kernel
theorem dX9_record_178 : decode cX9_record 178 = .ok (.iload_n 3, 1) := by decide +kernel
theorem dX9_record_179 : decode cX9_record 179 = .ok (.baload, 1) := by decide +kernel
theorem dX9_record_180 : decode cX9_record 180 = .ok (.iload 5, 2) := by decide +kernel
theorem dX9_record_182 : decode cX9_record 182 = .ok (.invokestatic 173, 3) := by decide +kernel
theorem dX9_record_185 : decode cX9_record 185 = .ok (.i2b, 1) := by decide +kernel
theorem dX9_record_186 : decode cX9_record 186 = .ok (.bastore, 1) := by decide +kernel
theorem dX9_record_187 : decode cX9_record 187 = .ok (.iinc 5 1, 3) := by decide +kernel
theorem dX9_record_190 : decode cX9_record 190 = .ok (.goto (-49), 3) := by decide +kernel
theorem dX9_record_193 : decode cX9_record 193 = .ok (.return_, 1) := by decide +kernel
/-- WriteOnceDiscModel.record(III)V -/
def wX9_record_L185 (post : Hp → Prop) (rc141 : Int32 → Hp → Prop) (x0 : Nat) (x1 : Int32) (x2 : Int32) (x3 : Int32) (x4 : Int32) (x5 : Int32) (s0 : Int32) (s1 : Int32) (s2 : Nat) (σ : Hp) : Prop :=
(tg_ σ s2 = 100 ∧ (lo_ σ < s2 ∧ (vp_in s1 (ln_ σ s2) ∧ (∀ σ4, σ4 = wI_ σ s2 (s1).toNatClampNeg (vp_nar .byte (s0).toInt8.toInt32) → (∀ y5 : Int32, y5 = x5 + 1 → rc141 y5 σ4)))))
def wX9_record_B141 (post : Hp → Prop) (rc141 : Int32 → Hp → Prop) (x0 : Nat) (x1 : Int32) (x2 : Int32) (x3 : Int32) (x4 : Int32) (x5 : Int32) (σ : Hp) : Prop :=
((x4 ≤ x5 →
  post σ) ∧
 (¬ x4 ≤ x5 →
  (tg_ σ x0 = 9 ∧ (((2 : Int32) ≤ x2 →
   (tg_ σ (fR_ σ 8 14 x0) = 103 ∧ (vp_in x3 (ln_ σ (fR_ σ 8 14 x0)) ∧ (tg_ σ (fR_ σ 8 12 x0) = 101 ∧ (vp_in x3 (ln_ σ (fR_ σ 8 12 x0)) ∧ (wX9_idByte (aL_ σ (fR_ σ 8 14 x0) (x3).toNatClampNeg) (aI_ σ (fR_ σ 8 12 x0) (x3).toNatClampNeg) x5 σ (fun r13 => wX9_record_L185 post rc141 x0 x1 x2 x3 x4 x5 r13 ((x1 + (33 : Int32)) + x5) (fR_ σ 8 21 x0) σ))))))) ∧
  (¬ (2 : Int32) ≤ x2 →
   wX9_record_L185 post rc141 x0 x1 x2 x3 x4 x5 x2 ((x1 + (33 : Int32)) + x5) (fR_ σ 8 21 x0) σ)))))
def wX9_record_L141 (post : Hp → Prop) (x0 : Nat) (x1 : Int32) (x2 : Int32) (x3 : Int32) (x4 : Int32) (x5 : Int32) (σ : Hp) : Prop :=
 ∃ (I : Int32 → Hp → Prop) (μ : Int32 → Hp → Nat), I x5 σ ∧ ∀ (x5 : Int32) (σ : Hp), I x5 σ → wX9_record_B141 post (fun x5' σ' => I x5' σ' ∧ μ x5' σ' < μ x5 σ) x0 x1 x2 x3 x4 x5 σ
def wX9_record_L114 (post : Hp → Prop) (x0 : Nat) (x1 : Int32) (x2 : Int32) (x3 : Int32) (x4 : Int32) (s0 : Int32) (s1 : Int32) (s2 : Nat) (σ : Hp) : Prop :=
(tg_ σ s2 = 100 ∧ (lo_ σ < s2 ∧ (vp_in s1 (ln_ σ s2) ∧ (∀ σ17, σ17 = wI_ σ s2 (s1).toNatClampNeg (vp_nar .byte (s0).toInt8.toInt32) → (tg_ σ17 x0 = 9 ∧ (wX9_both x0 (x1 + (28 : Int32)) (2 : Int32) (1 : Int32) σ17 (fun σ19 => (tg_ σ19 x0 = 9 ∧ (tg_ σ19 (fR_ σ19 8 21 x0) = 100 ∧ (lo_ σ19 < (fR_ σ19 8 21 x0) ∧ (vp_in (x1 + (32 : Int32)) (ln_ σ19 (fR_ σ19 8 21 x0)) ∧ (∀ σ24, σ24 = wI_ σ19 (fR_ σ19 8 21 x0) ((x1 + (32 : Int32))).toNatClampNeg (vp_nar .byte (x4).toInt8.toInt32) → wX9_record_L141 post x0 x1 x2 x3 x4 (0 : Int32) σ24))))))))))))
def wX9_record_L89 (post : Hp → Prop) (x0 : Nat) (x1 : Int32) (x2 : Int32) (x3 : Int32) (x4 : Int32) (s0 : Int32) (s1 : Int32) (s2 : Int32) (s3 : Nat) (σ : Hp) : Prop :=
(tg_ σ s3 = 9 ∧ (wX9_both s3 s2 s1 s0 σ (fun σ26 => (tg_ σ26 x0 = 9 ∧ (tg_ σ26 (fR_ σ26 8 12 x0) = 101 ∧ (vp_in x3 (ln_ σ26 (fR_ σ26 8 12 x0)) ∧ (((aI_ σ26 (fR_ σ26 8 12 x0) (x3).toNatClampNeg) = 0 →
  wX9_record_L114 post x0 x1 x2 x3 x4 (0 : Int32) (x1 + (25 : Int32)) (fR_ σ26 8 21 x0) σ26) ∧
 (¬ (aI_ σ26 (fR_ σ26 8 12 x0) (x3).toNatClampNeg) = 0 →
  wX9_record_L114 post x0 x1 x2 x3 x4 (2 : Int32) (x1 + (25 : Int32)) (fR_ σ26 8 21 x0) σ26))))))))
def wX9_record_L52 (post : Hp → Prop) (x0 : Nat) (x1 : Int32) (x2 : Int32) (x3 : Int32) (x4 : Int32) (s0 : Int32) (s1 : Int32) (s2 : Int32) (s3 : Nat) (σ : Hp) : Prop :=
(tg_ σ s3 = 9 ∧ (wX9_both s3 s2 s1 s0 σ (fun σ32 => (tg_ σ32 x0 = 9 ∧ (tg_ σ32 (fR_ σ32 8 12 x0) = 101 ∧ (vp_in x3 (ln_ σ32 (fR_ σ32 8 12 x0)) ∧ (((aI_ σ32 (fR_ σ32 8 12 x0) (x3).toNatClampNeg) = 0 →
  (tg_ σ32 (fR_ σ32 8 15 x0) = 102 ∧ (vp_in x3 (ln_ σ32 (fR_ σ32 8 15 x0)) ∧ wX9_record_L89 post x0 x1 x2 x3 x4 (aI_ σ32 (fR_ σ32 8 15 x0) (x3).toNatClampNeg) (4 : Int32) (x1 + (10 : Int32)) x0 σ32))) ∧
 (¬ (aI_ σ32 (fR_ σ32 8 12 x0) (x3).toNatClampNeg) = 0 →
  (tg_ σ32 (fR_ σ32 8 26 x0) = 102 ∧ (vp_in x3 (ln_ σ32 (fR_ σ32 8 26 x0)) ∧ wX9_record_L89 post x0 x1 x2 x3 x4 ((2048 : Int32) * (aI_ σ32 (fR_ σ32 8 26 x0) (x3).toNatClampNeg)) (4 : Int32) (x1 + (10 : Int32)) x0 σ32))))))))))
def wX9_record (x0 : Nat) (x1 : Int32) (x2 : Int32) (x3 : Int32) (σ : Hp) (post : Hp → Prop) : Prop :=
(tg_ σ x0 = 9 ∧ (wX9_recordId x0 x2 x3 σ (fun r42 => (wX9_even ((33 : Int32) + r42) σ (fun r43 => (tg_ σ (fR_ σ 8 21 x0) = 100 ∧ (lo_ σ < (fR_ σ 8 21 x0) ∧ (vp_in x1 (ln_ σ (fR_ σ 8 21 x0)) ∧ (∀ σ47, σ47 = wI_ σ (fR_ σ 8 21 x0) (x1).toNatClampNeg (vp_nar .byte (r43).toInt8.toInt32) → (tg_ σ47 (fR_ σ47 8 12 x0) = 101 ∧ (vp_in x3 (ln_ σ47 (fR_ σ47 8 12 x0)) ∧ (((aI_ σ47 (fR_ σ47 8 12 x0) (x3).toNatClampNeg) = 0 →
  (tg_ σ47 (fR_ σ47 8 18 x0) = 102 ∧ (vp_in x3 (ln_ σ47 (fR_ σ47 8 18 x0)) ∧ wX9_record_L52 post x0 x1 x2 x3 r42 (aI_ σ47 (fR_ σ47 8 18 x0) (x3).toNatClampNeg) (4 : Int32) (x1 + (2 : Int32)) x0 σ47))) ∧
 (¬ (aI_ σ47 (fR_ σ47 8 12 x0) (x3).toNatClampNeg) = 0 →
  (tg_ σ47 (fR_ σ47 8 25 x0) = 102 ∧ (vp_in x3 (ln_ σ47 (fR_ σ47 8 25 x0)) ∧ wX9_record_L52 post x0 x1 x2 x3 r42 (aI_ σ47 (fR_ σ47 8 25 x0) (x3).toNatClampNeg) (4 : Int32) (x1 + (2 : Int32)) x0 σ47)))))))))))))))
set_option maxHeartbeats 4000000 in
theorem sX9_record_L185 {G : GG_} {p : Program} {l : Launch} {e : Env} {R : Room} {s : State} {m : MethodId} {args : Array Value} {below : List Frame} {meth : Method} {c : Code} (Y : MX_ G p R s m args meth c cX9_record 6 RX9 none 4 88 0 0 "record") {post : Hp → Prop} {rc141 : Int32 → Hp → Prop} {x0 : Nat} {x1 : Int32} {x2 : Int32} {x3 : Int32} {x4 : Int32} {x5 : Int32} {s0 : Int32} {s1 : Int32} {s2 : Nat} {σ : Hp} (hrc141 : ∀ (x5 : Int32) (σ : Hp), rc141 x5 σ → WG_ G p l e R s m args below meth c (MQ below (QV_ G post) args s 0 0 (FR_ G)) BN_ 6 141 [(0, rv_ x0), (1, .int x1), (2, .int x2), (3, .int x3), (4, .int x4), (5, .int x5)] [] σ) (hf : wX9_record_L185 post rc141 x0 x1 x2 x3 x4 x5 s0 s1 s2 σ) : WG_ G p l e R s m args below meth c (MQ below (QV_ G post) args s 0 0 (FR_ G)) BN_ 6 185 [(0, rv_ x0), (1, .int x1), (2, .int x2), (3, .int x3), (4, .int x4), (5, .int x5)] [.int s0, .int s1, rv_ s2] σ := by
  have ⟨X, hlk, hr, hRf, hRl, hRc, hnm⟩ := Y
  have ⟨⟨hx, hb, _, hown, hts⟩, _, _⟩ := X
  intro H locs cells slots ls hP hL hB hl
  obtain ⟨rfl, rfl⟩ := hB
  unfold wX9_record_L185 at hf
  refine lv_i2b hx hb dX9_record_185 rfl ?_
  obtain ⟨ht1, hf⟩ := hf
  obtain ⟨hlo2, hf⟩ := hf
  obtain ⟨hi3, hf⟩ := hf
  refine p_bast X hP hL ht1 hlo2 hi3 dX9_record_186 (fun H locs hP hL => ?_)
  refine p_nmP hP (fun σ4 hσ4 hP => ?_)
  have hf := hf σ4 hσ4
  have ht1 : tg_ σ4 s2 = 100 := by rw [hσ4]; exact ht1
  have hl := lv_sub hl [5, 0, 1, 2, 3, 4] rfl
  refine p_iincc (i := 5) (k := 1) hx hb (by decide) dX9_record_187 hl (by decide) ⟨⟨ne_ rfl, Or.inl (ne_ rfl)⟩, ⟨⟨ne_ rfl, Or.inl (ne_ rfl)⟩, ⟨⟨ne_ rfl, Or.inl (ne_ rfl)⟩, ⟨⟨ne_ rfl, Or.inl (ne_ rfl)⟩, ⟨⟨ne_ rfl, Or.inr rfl⟩, trivial⟩⟩⟩⟩⟩ (fun y5 hy5 ls hl => ?_)
  have hf := hf y5 hy5
  refine lv_goto (tgt := 141) hx hb dX9_record_190 (by decide) ?_
  exact hrc141 _ _ hf _ _ _ _ _ hP hL ⟨rfl, rfl⟩ (lv_sub hl [1, 2, 3, 4, 5, 0] rfl)
set_option maxHeartbeats 4000000 in
theorem sX9_record_B141 {G : GG_} {p : Program} {l : Launch} {e : Env} {R : Room} {s : State} {m : MethodId} {args : Array Value} {below : List Frame} {meth : Method} {c : Code} (Y : MX_ G p R s m args meth c cX9_record 6 RX9 none 4 88 0 0 "record") {post : Hp → Prop} {rc141 : Int32 → Hp → Prop} {x0 : Nat} {x1 : Int32} {x2 : Int32} {x3 : Int32} {x4 : Int32} {x5 : Int32} {σ : Hp} (hrc141 : ∀ (x5 : Int32) (σ : Hp), rc141 x5 σ → WG_ G p l e R s m args below meth c (MQ below (QV_ G post) args s 0 0 (FR_ G)) BN_ 6 141 [(0, rv_ x0), (1, .int x1), (2, .int x2), (3, .int x3), (4, .int x4), (5, .int x5)] [] σ) (hf : wX9_record_B141 post rc141 x0 x1 x2 x3 x4 x5 σ) : WG_ G p l e R s m args below meth c (MQ below (QV_ G post) args s 0 0 (FR_ G)) BN_ 6 141 [(0, rv_ x0), (1, .int x1), (2, .int x2), (3, .int x3), (4, .int x4), (5, .int x5)] [] σ := by
  have ⟨X, hlk, hr, hRf, hRl, hRc, hnm⟩ := Y
  have ⟨⟨hx, hb, _, hown, hts⟩, _, _⟩ := X
  intro H locs cells slots ls hP hL hB hl
  obtain ⟨rfl, rfl⟩ := hB
  unfold wX9_record_B141 at hf
  refine lv_iload hx hb dX9_record_141 (lv_at hl 5 rfl) ?_
  refine lv_iload hx hb dX9_record_143 (lv_at hl 4 rfl) ?_
  refine lv_icmp_ge (tgt := 193) hx hb dX9_record_145 (by decide) (fun c6 => ?_) (fun c6 => ?_)
  · have hf := hf.1 c6
    exact p_vret X hlk hP hL (Nat.le_refl _) (Nat.le_refl _) hr dX9_record_193 hf
  · have hf := hf.2 c6
    refine p_aload_n hx hb dX9_record_148 rfl (lv_at hl 0 rfl) ?_
    obtain ⟨ht7, hf⟩ := hf
    refine p_gR X cf8_ (k := 21) (by decide) rfl hP ht7 q1316 (fun _ h => h) dX9_record_149 ?_
    refine lv_iload_n hx hb dX9_record_152 rfl (lv_at hl 1 rfl) ?_
    refine lv_bipush (v := 33) hx hb dX9_record_153 (by decide) ?_
    refine lv_iadd hx hb dX9_record_155 ?_
    refine lv_iload hx hb dX9_record_156 (lv_at hl 5 rfl) ?_
    refine lv_iadd hx hb dX9_record_158 ?_
    refine lv_iload_n hx hb dX9_record_159 rfl (lv_at hl 2 rfl) ?_
    refine lv_iconst (v := 2) hx hb dX9_record_160 (by decide) ?_
    refine lv_icmp_ge (tgt := 168) hx hb dX9_record_161 (by decide) (fun c8 => ?_) (fun c8 => ?_)
    · have hf := hf.1 c8
      refine p_aload_n hx hb dX9_record_168 rfl (lv_at hl 0 rfl) ?_
      refine p_gR X cf8_ (k := 14) (by decide) rfl hP ht7 q1309 (fun _ h => h) dX9_record_169 ?_
      refine lv_iload_n hx hb dX9_record_172 rfl (lv_at hl 3 rfl) ?_
      obtain ⟨ht9, hf⟩ := hf
      obtain ⟨hi10, hf⟩ := hf
      refine p_lald X hP ht9 hi10 dX9_record_173 ?_
      refine p_aload_n hx hb dX9_record_174 rfl (lv_at hl 0 rfl) ?_
      refine p_gR X cf8_ (k := 12) (by decide) rfl hP ht7 q1307 (fun _ h => h) dX9_record_175 ?_
      refine lv_iload_n hx hb dX9_record_178 rfl (lv_at hl 3 rfl) ?_
      obtain ⟨ht11, hf⟩ := hf
      obtain ⟨hi12, hf⟩ := hf
      refine p_zald X hP ht11 hi12 dX9_record_179 ?_
      refine lv_iload hx hb dX9_record_180 (lv_at hl 5 rfl) ?_
      refine p_calli hL (p_runS X hP (metX9_idByte l G _ _ _ _ _ X.2.2 hf) (va_cwS 3 hts (lw_S q1535 q1536 q106 q1537) rfl rfl rfl (by decide +kernel) ⟨Nat.le_trans (Nat.le_of_ble_eq_true rfl) hRf, Nat.le_trans (Nat.le_of_ble_eq_true rfl) hRl⟩) rfl hl.1 rfl (by rw [(ca_i (ca_r ca_n))]; decide) dX9_record_182 ⟨Nat.zero_le _, Nat.zero_le _⟩) (fun r13 σ₁ H locs hf hP hL => ?_)
      obtain ⟨e₁, hf⟩ := hf
      rw [e₁] at hP
      exact sX9_record_L185 Y hrc141 hf _ _ _ _ _ hP hL ⟨rfl, rfl⟩ (lv_sub hl [0, 1, 2, 3, 4, 5] rfl)
    · have hf := hf.2 c8
      refine lv_iload_n hx hb dX9_record_164 rfl (lv_at hl 2 rfl) ?_
      refine lv_goto (tgt := 185) hx hb dX9_record_165 (by decide) ?_
      exact sX9_record_L185 Y hrc141 hf _ _ _ _ _ hP hL ⟨rfl, rfl⟩ (lv_sub hl [0, 1, 2, 3, 4, 5] rfl)
set_option maxHeartbeats 4000000 in
theorem sX9_record_L141 {G : GG_} {p : Program} {l : Launch} {e : Env} {R : Room} {s : State} {m : MethodId} {args : Array Value} {below : List Frame} {meth : Method} {c : Code} (Y : MX_ G p R s m args meth c cX9_record 6 RX9 none 4 88 0 0 "record") {post : Hp → Prop} {x0 : Nat} {x1 : Int32} {x2 : Int32} {x3 : Int32} {x4 : Int32} {x5 : Int32} {σ : Hp} (hf : wX9_record_L141 post x0 x1 x2 x3 x4 x5 σ) : WG_ G p l e R s m args below meth c (MQ below (QV_ G post) args s 0 0 (FR_ G)) BN_ 6 141 [(0, rv_ x0), (1, .int x1), (2, .int x2), (3, .int x3), (4, .int x4), (5, .int x5)] [] σ := by
  unfold wX9_record_L141 at hf
  obtain ⟨I, μ, h0, hI⟩ := hf
  have key : ∀ (n : Nat) (x5 : Int32) (σ : Hp), I x5 σ → μ x5 σ < n → WG_ G p l e R s m args below meth c (MQ below (QV_ G post) args s 0 0 (FR_ G)) BN_ 6 141 [(0, rv_ x0), (1, .int x1), (2, .int x2), (3, .int x3), (4, .int x4), (5, .int x5)] [] σ := by
    intro n
    induction n with
    | zero => intro x5 σ _ h; exact absurd h (Nat.not_lt_zero _)
    | succ n ih => intro x5 σ hi hn; exact sX9_record_B141 Y (fun x5' σ' h => ih x5' σ' h.1 (Nat.lt_of_lt_of_le h.2 (Nat.le_of_lt_succ hn))) (hI x5 σ hi)
  exact key _ _ _ h0 (Nat.lt_succ_self _)
set_option maxHeartbeats 4000000 in
theorem sX9_record_L114 {G : GG_} {p : Program} {l : Launch} {e : Env} {R : Room} {s : State} {m : MethodId} {args : Array Value} {below : List Frame} {meth : Method} {c : Code} (Y : MX_ G p R s m args meth c cX9_record 6 RX9 none 4 88 0 0 "record") {post : Hp → Prop} {x0 : Nat} {x1 : Int32} {x2 : Int32} {x3 : Int32} {x4 : Int32} {s0 : Int32} {s1 : Int32} {s2 : Nat} {σ : Hp} (hf : wX9_record_L114 post x0 x1 x2 x3 x4 s0 s1 s2 σ) : WG_ G p l e R s m args below meth c (MQ below (QV_ G post) args s 0 0 (FR_ G)) BN_ 6 114 [(0, rv_ x0), (1, .int x1), (2, .int x2), (3, .int x3), (4, .int x4)] [.int s0, .int s1, rv_ s2] σ := by
  have ⟨X, hlk, hr, hRf, hRl, hRc, hnm⟩ := Y
  have ⟨⟨hx, hb, _, hown, hts⟩, _, _⟩ := X
  intro H locs cells slots ls hP hL hB hl
  obtain ⟨rfl, rfl⟩ := hB
  unfold wX9_record_L114 at hf
  refine lv_i2b hx hb dX9_record_114 rfl ?_
  obtain ⟨ht14, hf⟩ := hf
  obtain ⟨hlo15, hf⟩ := hf
  obtain ⟨hi16, hf⟩ := hf
  refine p_bast X hP hL ht14 hlo15 hi16 dX9_record_115 (fun H locs hP hL => ?_)
  refine p_nmP hP (fun σ17 hσ17 hP => ?_)
  have hf := hf σ17 hσ17
  have ht14 : tg_ σ17 s2 = 100 := by rw [hσ17]; exact ht14
  refine p_aload_n hx hb dX9_record_116 rfl (lv_at hl 0 rfl) ?_
  refine lv_iload_n hx hb dX9_record_117 rfl (lv_at hl 1 rfl) ?_
  refine lv_bipush (v := 28) hx hb dX9_record_118 (by decide) ?_
  refine lv_iadd hx hb dX9_record_120 ?_
  refine lv_iconst (v := 2) hx hb dX9_record_121 (by decide) ?_
  refine lv_iconst (v := 1) hx hb dX9_record_122 (by decide) ?_
  obtain ⟨ht18, hf⟩ := hf
  refine p_callv hL (p_runV X cf8_ hP ht18 (metX9_both l G _ _ _ _ _ _ X.2.2 hf) (cwV 3 hts (lw_V q1562 q1564 qs61 q106 q1565) rfl rfl rfl (by decide +kernel) ⟨Nat.le_trans (Nat.le_of_ble_eq_true rfl) hRf, Nat.le_trans (Nat.le_of_ble_eq_true rfl) hRl⟩) rfl hl.1 rfl (by decide) dX9_record_123 ⟨Nat.zero_le _, Nat.zero_le _⟩) (fun σ19 H locs hf hP hL => ?_)
  refine p_aload_n hx hb dX9_record_126 rfl (lv_at hl 0 rfl) ?_
  obtain ⟨ht20, hf⟩ := hf
  refine p_gR X cf8_ (k := 21) (by decide) rfl hP ht20 q1316 (fun _ h => h) dX9_record_127 ?_
  refine lv_iload_n hx hb dX9_record_130 rfl (lv_at hl 1 rfl) ?_
  refine lv_bipush (v := 32) hx hb dX9_record_131 (by decide) ?_
  refine lv_iadd hx hb dX9_record_133 ?_
  refine lv_iload hx hb dX9_record_134 (lv_at hl 4 rfl) ?_
  refine lv_i2b hx hb dX9_record_136 rfl ?_
  obtain ⟨ht21, hf⟩ := hf
  obtain ⟨hlo22, hf⟩ := hf
  obtain ⟨hi23, hf⟩ := hf
  refine p_bast X hP hL ht21 hlo22 hi23 dX9_record_137 (fun H locs hP hL => ?_)
  refine p_nmP hP (fun σ24 hσ24 hP => ?_)
  have hf := hf σ24 hσ24
  have ht20 : tg_ σ24 x0 = 9 := by rw [hσ24]; exact ht20
  refine lv_iconst (v := 0) hx hb dX9_record_138 (by decide) ?_
  refine p_istore (i := 5) hx hb dX9_record_139 hl (by decide) ⟨⟨ne_ rfl, Or.inl (ne_ rfl)⟩, ⟨⟨ne_ rfl, Or.inl (ne_ rfl)⟩, ⟨⟨ne_ rfl, Or.inl (ne_ rfl)⟩, ⟨⟨ne_ rfl, Or.inl (ne_ rfl)⟩, ⟨⟨ne_ rfl, Or.inr rfl⟩, trivial⟩⟩⟩⟩⟩ (fun ls hl => ?_)
  exact sX9_record_L141 Y hf _ _ _ _ _ hP hL ⟨rfl, rfl⟩ (lv_sub hl [1, 2, 3, 4, 5, 0] rfl)
set_option maxHeartbeats 4000000 in
theorem sX9_record_L89 {G : GG_} {p : Program} {l : Launch} {e : Env} {R : Room} {s : State} {m : MethodId} {args : Array Value} {below : List Frame} {meth : Method} {c : Code} (Y : MX_ G p R s m args meth c cX9_record 6 RX9 none 4 88 0 0 "record") {post : Hp → Prop} {x0 : Nat} {x1 : Int32} {x2 : Int32} {x3 : Int32} {x4 : Int32} {s0 : Int32} {s1 : Int32} {s2 : Int32} {s3 : Nat} {σ : Hp} (hf : wX9_record_L89 post x0 x1 x2 x3 x4 s0 s1 s2 s3 σ) : WG_ G p l e R s m args below meth c (MQ below (QV_ G post) args s 0 0 (FR_ G)) BN_ 6 89 [(0, rv_ x0), (1, .int x1), (2, .int x2), (3, .int x3), (4, .int x4)] [.int s0, .int s1, .int s2, rv_ s3] σ := by
  have ⟨X, hlk, hr, hRf, hRl, hRc, hnm⟩ := Y
  have ⟨⟨hx, hb, _, hown, hts⟩, _, _⟩ := X
  intro H locs cells slots ls hP hL hB hl
  obtain ⟨rfl, rfl⟩ := hB
  unfold wX9_record_L89 at hf
  obtain ⟨ht25, hf⟩ := hf
  refine p_callv hL (p_runV X cf8_ hP ht25 (metX9_both l G _ _ _ _ _ _ X.2.2 hf) (cwV 3 hts (lw_V q1562 q1564 qs61 q106 q1565) rfl rfl rfl (by decide +kernel) ⟨Nat.le_trans (Nat.le_of_ble_eq_true rfl) hRf, Nat.le_trans (Nat.le_of_ble_eq_true rfl) hRl⟩) rfl hl.1 rfl (by decide) dX9_record_89 ⟨Nat.zero_le _, Nat.zero_le _⟩) (fun σ26 H locs hf hP hL => ?_)
  refine p_aload_n hx hb dX9_record_92 rfl (lv_at hl 0 rfl) ?_
  obtain ⟨ht27, hf⟩ := hf
  refine p_gR X cf8_ (k := 21) (by decide) rfl hP ht27 q1316 (fun _ h => h) dX9_record_93 ?_
  refine lv_iload_n hx hb dX9_record_96 rfl (lv_at hl 1 rfl) ?_
  refine lv_bipush (v := 25) hx hb dX9_record_97 (by decide) ?_
  refine lv_iadd hx hb dX9_record_99 ?_
  refine p_aload_n hx hb dX9_record_100 rfl (lv_at hl 0 rfl) ?_
  refine p_gR X cf8_ (k := 12) (by decide) rfl hP ht27 q1307 (fun _ h => h) dX9_record_101 ?_
  refine lv_iload_n hx hb dX9_record_104 rfl (lv_at hl 3 rfl) ?_
  obtain ⟨ht28, hf⟩ := hf
  obtain ⟨hi29, hf⟩ := hf
  refine p_zald X hP ht28 hi29 dX9_record_105 ?_
  refine lv_if_eq (tgt := 113) hx hb dX9_record_106 (by decide) (fun c30 => ?_) (fun c30 => ?_)
  · have hf := hf.1 c30
    refine lv_iconst (v := 0) hx hb dX9_record_113 (by decide) ?_
    exact sX9_record_L114 Y hf _ _ _ _ _ hP hL ⟨rfl, rfl⟩ (lv_sub hl [0, 1, 2, 3, 4] rfl)
  · have hf := hf.2 c30
    refine lv_iconst (v := 2) hx hb dX9_record_109 (by decide) ?_
    refine lv_goto (tgt := 114) hx hb dX9_record_110 (by decide) ?_
    exact sX9_record_L114 Y hf _ _ _ _ _ hP hL ⟨rfl, rfl⟩ (lv_sub hl [0, 1, 2, 3, 4] rfl)
set_option maxHeartbeats 4000000 in
theorem sX9_record_L52 {G : GG_} {p : Program} {l : Launch} {e : Env} {R : Room} {s : State} {m : MethodId} {args : Array Value} {below : List Frame} {meth : Method} {c : Code} (Y : MX_ G p R s m args meth c cX9_record 6 RX9 none 4 88 0 0 "record") {post : Hp → Prop} {x0 : Nat} {x1 : Int32} {x2 : Int32} {x3 : Int32} {x4 : Int32} {s0 : Int32} {s1 : Int32} {s2 : Int32} {s3 : Nat} {σ : Hp} (hf : wX9_record_L52 post x0 x1 x2 x3 x4 s0 s1 s2 s3 σ) : WG_ G p l e R s m args below meth c (MQ below (QV_ G post) args s 0 0 (FR_ G)) BN_ 6 52 [(0, rv_ x0), (1, .int x1), (2, .int x2), (3, .int x3), (4, .int x4)] [.int s0, .int s1, .int s2, rv_ s3] σ := by
  have ⟨X, hlk, hr, hRf, hRl, hRc, hnm⟩ := Y
  have ⟨⟨hx, hb, _, hown, hts⟩, _, _⟩ := X
  intro H locs cells slots ls hP hL hB hl
  obtain ⟨rfl, rfl⟩ := hB
  unfold wX9_record_L52 at hf
  obtain ⟨ht31, hf⟩ := hf
  refine p_callv hL (p_runV X cf8_ hP ht31 (metX9_both l G _ _ _ _ _ _ X.2.2 hf) (cwV 3 hts (lw_V q1562 q1564 qs61 q106 q1565) rfl rfl rfl (by decide +kernel) ⟨Nat.le_trans (Nat.le_of_ble_eq_true rfl) hRf, Nat.le_trans (Nat.le_of_ble_eq_true rfl) hRl⟩) rfl hl.1 rfl (by decide) dX9_record_52 ⟨Nat.zero_le _, Nat.zero_le _⟩) (fun σ32 H locs hf hP hL => ?_)
  refine p_aload_n hx hb dX9_record_55 rfl (lv_at hl 0 rfl) ?_
  refine lv_iload_n hx hb dX9_record_56 rfl (lv_at hl 1 rfl) ?_
  refine lv_bipush (v := 10) hx hb dX9_record_57 (by decide) ?_
  refine lv_iadd hx hb dX9_record_59 ?_
  refine lv_iconst (v := 4) hx hb dX9_record_60 (by decide) ?_
  refine p_aload_n hx hb dX9_record_61 rfl (lv_at hl 0 rfl) ?_
  obtain ⟨ht33, hf⟩ := hf
  refine p_gR X cf8_ (k := 12) (by decide) rfl hP ht33 q1307 (fun _ h => h) dX9_record_62 ?_
  refine lv_iload_n hx hb dX9_record_65 rfl (lv_at hl 3 rfl) ?_
  obtain ⟨ht34, hf⟩ := hf
  obtain ⟨hi35, hf⟩ := hf
  refine p_zald X hP ht34 hi35 dX9_record_66 ?_
  refine lv_if_eq (tgt := 83) hx hb dX9_record_67 (by decide) (fun c36 => ?_) (fun c36 => ?_)
  · have hf := hf.1 c36
    refine p_aload_n hx hb dX9_record_83 rfl (lv_at hl 0 rfl) ?_
    refine p_gR X cf8_ (k := 15) (by decide) rfl hP ht33 q1310 (fun _ h => h) dX9_record_84 ?_
    refine lv_iload_n hx hb dX9_record_87 rfl (lv_at hl 3 rfl) ?_
    obtain ⟨ht37, hf⟩ := hf
    obtain ⟨hi38, hf⟩ := hf
    refine p_iald X hP ht37 hi38 dX9_record_88 ?_
    exact sX9_record_L89 Y hf _ _ _ _ _ hP hL ⟨rfl, rfl⟩ (lv_sub hl [0, 1, 2, 3, 4] rfl)
  · have hf := hf.2 c36
    refine lv_sipush (v := 2048) hx hb dX9_record_70 (by decide) ?_
    refine p_aload_n hx hb dX9_record_73 rfl (lv_at hl 0 rfl) ?_
    refine p_gR X cf8_ (k := 26) (by decide) rfl hP ht33 q1320 (fun _ h => h) dX9_record_74 ?_
    refine lv_iload_n hx hb dX9_record_77 rfl (lv_at hl 3 rfl) ?_
    obtain ⟨ht39, hf⟩ := hf
    obtain ⟨hi40, hf⟩ := hf
    refine p_iald X hP ht39 hi40 dX9_record_78 ?_
    refine lv_imul hx hb dX9_record_79 ?_
    refine lv_goto (tgt := 89) hx hb dX9_record_80 (by decide) ?_
    exact sX9_record_L89 Y hf _ _ _ _ _ hP hL ⟨rfl, rfl⟩ (lv_sub hl [0, 1, 2, 3, 4] rfl)
set_option maxHeartbeats 4000000 in
theorem sX9_record {G : GG_} {p : Program} {l : Launch} {e : Env} {R : Room} {s : State} {m : MethodId} {args : Array Value} {below : List Frame} {meth : Method} {c : Code} (Y : MX_ G p R s m args meth c cX9_record 6 RX9 none 4 88 0 0 "record") {post : Hp → Prop} {x0 : Nat} {x1 : Int32} {x2 : Int32} {x3 : Int32} {σ : Hp} (hf : wX9_record x0 x1 x2 x3 σ post) : WG_ G p l e R s m args below meth c (MQ below (QV_ G post) args s 0 0 (FR_ G)) BN_ 6 0 [(0, rv_ x0), (1, .int x1), (2, .int x2), (3, .int x3)] [] σ := by
  have ⟨X, hlk, hr, hRf, hRl, hRc, hnm⟩ := Y
  have ⟨⟨hx, hb, _, hown, hts⟩, _, _⟩ := X
  intro H locs cells slots ls hP hL hB hl
  obtain ⟨rfl, rfl⟩ := hB
  unfold wX9_record at hf
  refine p_aload_n hx hb dX9_record_0 rfl (lv_at hl 0 rfl) ?_
  refine lv_iload_n hx hb dX9_record_1 rfl (lv_at hl 2 rfl) ?_
  refine lv_iload_n hx hb dX9_record_2 rfl (lv_at hl 3 rfl) ?_
  obtain ⟨ht41, hf⟩ := hf
  refine p_calli hL (p_runV X cf8_ hP ht41 (metX9_recordId l G _ _ _ _ _ X.2.2 hf) (cwV 2 hts (lw_V q1548 q1550 qs59 q106 q1551) rfl rfl rfl (by decide +kernel) ⟨Nat.le_trans (Nat.le_of_ble_eq_true rfl) hRf, Nat.le_trans (Nat.le_of_ble_eq_true rfl) hRl⟩) rfl hl.1 rfl (by decide) dX9_record_3 ⟨Nat.zero_le _, Nat.zero_le _⟩) (fun r42 σ₁ H locs hf hP hL => ?_)
  obtain ⟨e₁, hf⟩ := hf
  rw [e₁] at hP
  refine p_istore (i := 4) hx hb dX9_record_6 hl (by decide) ⟨⟨ne_ rfl, Or.inl (ne_ rfl)⟩, ⟨⟨ne_ rfl, Or.inl (ne_ rfl)⟩, ⟨⟨ne_ rfl, Or.inl (ne_ rfl)⟩, ⟨⟨ne_ rfl, Or.inr rfl⟩, trivial⟩⟩⟩⟩ (fun ls hl => ?_)
  refine p_aload_n hx hb dX9_record_8 rfl (lv_at hl 1 rfl) ?_
  refine p_gR X cf8_ (k := 21) (by decide) rfl hP ht41 q1316 (fun _ h => h) dX9_record_9 ?_
  refine lv_iload_n hx hb dX9_record_12 rfl (lv_at hl 2 rfl) ?_
  refine lv_bipush (v := 33) hx hb dX9_record_13 (by decide) ?_
  refine lv_iload hx hb dX9_record_15 (lv_at hl 0 rfl) ?_
  refine lv_iadd hx hb dX9_record_17 ?_
  refine p_calli hL (p_runS X hP (metX9_even l G _ _ _ X.2.2 hf) (va_cwS 1 hts (lw_S q1555 q1556 q106 q1557) rfl rfl rfl (by decide +kernel) ⟨Nat.le_trans (Nat.le_of_ble_eq_true rfl) hRf, Nat.le_trans (Nat.le_of_ble_eq_true rfl) hRl⟩) rfl hl.1 rfl (by rw [(ca_i (ca_r ca_n))]; decide) dX9_record_18 ⟨Nat.zero_le _, Nat.zero_le _⟩) (fun r43 σ₁ H locs hf hP hL => ?_)
  obtain ⟨e₁, hf⟩ := hf
  rw [e₁] at hP
  refine lv_i2b hx hb dX9_record_21 rfl ?_
  obtain ⟨ht44, hf⟩ := hf
  obtain ⟨hlo45, hf⟩ := hf
  obtain ⟨hi46, hf⟩ := hf
  refine p_bast X hP hL ht44 hlo45 hi46 dX9_record_22 (fun H locs hP hL => ?_)
  refine p_nmP hP (fun σ47 hσ47 hP => ?_)
  have hf := hf σ47 hσ47
  have ht41 : tg_ σ47 x0 = 9 := by rw [hσ47]; exact ht41
  refine p_aload_n hx hb dX9_record_23 rfl (lv_at hl 1 rfl) ?_
  refine lv_iload_n hx hb dX9_record_24 rfl (lv_at hl 2 rfl) ?_
  refine lv_iconst (v := 2) hx hb dX9_record_25 (by decide) ?_
  refine lv_iadd hx hb dX9_record_26 ?_
  refine lv_iconst (v := 4) hx hb dX9_record_27 (by decide) ?_
  refine p_aload_n hx hb dX9_record_28 rfl (lv_at hl 1 rfl) ?_
  refine p_gR X cf8_ (k := 12) (by decide) rfl hP ht41 q1307 (fun _ h => h) dX9_record_29 ?_
  refine lv_iload_n hx hb dX9_record_32 rfl (lv_at hl 4 rfl) ?_
  obtain ⟨ht48, hf⟩ := hf
  obtain ⟨hi49, hf⟩ := hf
  refine p_zald X hP ht48 hi49 dX9_record_33 ?_
  refine lv_if_eq (tgt := 46) hx hb dX9_record_34 (by decide) (fun c50 => ?_) (fun c50 => ?_)
  · have hf := hf.1 c50
    refine p_aload_n hx hb dX9_record_46 rfl (lv_at hl 1 rfl) ?_
    refine p_gR X cf8_ (k := 18) (by decide) rfl hP ht41 q1313 (fun _ h => h) dX9_record_47 ?_
    refine lv_iload_n hx hb dX9_record_50 rfl (lv_at hl 4 rfl) ?_
    obtain ⟨ht51, hf⟩ := hf
    obtain ⟨hi52, hf⟩ := hf
    refine p_iald X hP ht51 hi52 dX9_record_51 ?_
    exact sX9_record_L52 Y hf _ _ _ _ _ hP hL ⟨rfl, rfl⟩ (lv_sub hl [1, 2, 3, 4, 0] rfl)
  · have hf := hf.2 c50
    refine p_aload_n hx hb dX9_record_37 rfl (lv_at hl 1 rfl) ?_
    refine p_gR X cf8_ (k := 25) (by decide) rfl hP ht41 q1319 (fun _ h => h) dX9_record_38 ?_
    refine lv_iload_n hx hb dX9_record_41 rfl (lv_at hl 4 rfl) ?_
    obtain ⟨ht53, hf⟩ := hf
    obtain ⟨hi54, hf⟩ := hf
    refine p_iald X hP ht53 hi54 dX9_record_42 ?_
    refine lv_goto (tgt := 52) hx hb dX9_record_43 (by decide) ?_
    exact sX9_record_L52 Y hf _ _ _ _ _ hP hL ⟨rfl, rfl⟩ (lv_sub hl [1, 2, 3, 4, 0] rfl)
set_option maxHeartbeats 4000000 in
theorem metX9_record (l : Launch) (G : GG_) (x0 : Nat) (x1 : Int32) (x2 : Int32) (x3 : Int32) (σ : Hp) (post : Hp → Prop) (hG : GOK_ G) (hf : wX9_record x0 x1 x2 x3 σ post) : Met l yX9_record (ws_ yX9_record cX9_record 6 none) { frames := 4, cells := 0, slots := 0, locals := 88 } (PC_ G [rv_ x0, .int x1, .int x2, .int x3] σ) (QV_ G post) 0 0 (FR_ G) := by
  refine Met.ofW (cc := cX9_record) (maxL := 6) (ret := none) (by decide) rfl ?_
  intro p e s m args below meth c s₁ B hml hv
  obtain ⟨rfl, hP, hW⟩ := hv
  have hts := atoms_spec (ws := ws_ yX9_record cX9_record 6 none) B.pre
  have hts : ∀ w ∈ lw_all, w.before _ s = true := fun w h => hts w (List.mem_cons_of_mem _ h)
  rw [lg_entry_eq]
  have hl := en_entry [rv_ x0, .int x1, .int x2, .int x3] [1, 1, 1, 1] (n := 6) (ca_r (ca_i (ca_i (ca_i ca_n)))) (by decide)
  exact sX9_record ⟨⟨⟨B.exec, B.bytes, hml, findClass_of_methodNamed B.named, hts⟩, hW, hG⟩, B.notSynchronized, B.returns, Nat.le_refl _, Nat.le_refl _, ⟨rfl, rfl⟩, (name_of_methodNamed B.named B.method).1⟩ hf _ _ _ _ _ hP (LO_nil G) ⟨rfl, rfl⟩ hl
abbrev cX9_along : ByteArray := prog_11_method_38_code
def yX9_along : MethodName := ⟨RX9, "along", "(IIZ)I"⟩
theorem dX9_along_0 : decode cX9_along 0 = .ok (.iconst 0, 1) := by decide +kernel
theorem dX9_along_1 : decode cX9_along 1 = .ok (.istore 4, 2) := by decide +kernel
theorem dX9_along_3 : decode cX9_along 3 = .ok (.iconst 0, 1) := by decide +kernel
theorem dX9_along_4 : decode cX9_along 4 = .ok (.istore 5, 2) := by decide +kernel
theorem dX9_along_6 : decode cX9_along 6 = .ok (.iconst (-1), 1) := by decide +kernel
theorem dX9_along_7 : decode cX9_along 7 = .ok (.istore 6, 2) := by decide +kernel
theorem dX9_along_9 : decode cX9_along 9 = .ok (.iload 5, 2) := by decide +kernel
theorem dX9_along_11 : decode cX9_along 11 = .ok (.iconst 2, 1) := by decide +kernel
theorem dX9_along_12 : decode cX9_along 12 = .ok (.if_icmp .ne 20, 3) := by decide +kernel
theorem dX9_along_15 : decode cX9_along 15 = .ok (.aload_n 0, 1) := by decide +kernel
theorem dX9_along_16 : decode cX9_along 16 = .ok (.iload_n 1, 1) := by decide +kernel
theorem dX9_along_17 : decode cX9_along 17 = .ok (.iload 6, 2) := by decide +kernel
theorem dX9_along_19 : decode cX9_along 19 = .ok (.invokevirtual 202, 3) := by decide +kernel
theorem dX9_along_22 : decode cX9_along 22 = .ok (.istore 6, 2) := by decide +kernel
theorem dX9_along_24 : decode cX9_along 24 = .ok (.iload 6, 2) := by decide +kernel
theorem dX9_along_26 : decode cX9_along 26 = .ok (.ifCond .ge 6, 3) := by decide +kernel
theorem dX9_along_29 : decode cX9_along 29 = .ok (.iload 4, 2) := by decide +kernel
theorem dX9_along_31 : decode cX9_along 31 = .ok (.ireturn, 1) := by decide +kernel
theorem dX9_along_32 : decode cX9_along 32 = .ok (.iload 5, 2) := by decide +kernel
theorem dX9_along_34 : decode cX9_along 34 = .ok (.ifCond .eq 13, 3) := by decide +kernel
theorem dX9_along_37 : decode cX9_along 37 = .ok (.iload 5, 2) := by decide +kernel
theorem dX9_along_39 : decode cX9_along 39 = .ok (.iconst 1, 1) := by decide +kernel
theorem dX9_along_40 : decode cX9_along 40 = .ok (.if_icmp .ne 11, 3) := by decide +kernel
theorem dX9_along_43 : decode cX9_along 43 = .ok (.iload_n 1, 1) := by decide +kernel
theorem dX9_along_44 : decode cX9_along 44 = .ok (.ifCond .ne 7, 3) := by decide +kernel
theorem dX9_along_47 : decode cX9_along 47 = .ok (.iload_n 1, 1) := by decide +kernel
theorem dX9_along_48 : decode cX9_along 48 = .ok (.goto 20, 3) := by decide +kernel
theorem dX9_along_51 : decode cX9_along 51 = .ok (.iload 5, 2) := by decide +kernel
theorem dX9_along_53 : decode cX9_along 53 = .ok (.iconst 1, 1) := by decide +kernel
theorem dX9_along_54 : decode cX9_along 54 = .ok (.if_icmp .ne 12, 3) := by decide +kernel
theorem dX9_along_57 : decode cX9_along 57 = .ok (.aload_n 0, 1) := by decide +kernel
theorem dX9_along_58 : decode cX9_along 58 = .ok (.getfield 30, 3) := by decide +kernel
theorem dX9_along_61 : decode cX9_along 61 = .ok (.iload_n 1, 1) := by decide +kernel
theorem dX9_along_62 : decode cX9_along 62 = .ok (.iaload, 1) := by decide +kernel
theorem dX9_along_63 : decode cX9_along 63 = .ok (.goto 5, 3) := by decide +kernel
theorem dX9_along_66 : decode cX9_along 66 = .ok (.iload 6, 2) := by decide +kernel
theorem dX9_along_68 : decode cX9_along 68 = .ok (.istore 7, 2) := by decide +kernel
theorem dX9_along_70 : decode cX9_along 70 = .ok (.bipush 33, 2) := by decide +kernel
theorem dX9_along_72 : decode cX9_along 72 = .ok (.aload_n 0, 1) := by decide +kernel
theorem dX9_along_73 : decode cX9_along 73 = .ok (.iload 5, 2) := by decide +kernel
theorem dX9_along_75 : decode cX9_along 75 = .ok (.iload 7, 2) := by decide +kernel
theorem dX9_along_77 : decode cX9_along 77 = .ok (.invokevirtual 192, 3) := by decide +kernel
theorem dX9_along_80 : decode cX9_along 80 = .ok (.iadd, 1) := by decide +kernel
theorem dX9_along_81 : decode cX9_along 81 = .ok (.invokestatic 196, 3) := by decide +kernel
theorem dX9_along_84 : decode cX9_along 84 = .ok (.istore 8, 2) := by decide +kernel
theorem dX9_along_86 : decode cX9_along 86 = .ok (.iload 4, 2) := by decide +kernel
theorem dX9_along_88 : decode cX9_along 88 = .ok (.sipush 2048, 3) := by decide +kernel
theorem dX9_along_91 : decode cX9_along 91 = .ok (.irem, 1) := by decide +kernel
theorem dX9_along_92 : decode cX9_along 92 = .ok (.iload 8, 2) := by decide +kernel
theorem dX9_along_94 : decode cX9_along 94 = .ok (.iadd, 1) := by decide +kernel
theorem dX9_along_95 : decode cX9_along 95 = .ok (.sipush 2048, 3) := by decide +kernel
theorem dX9_along_98 : decode cX9_along 98 = .ok (.if_icmp .le 18, 3) := by decide +kernel
theorem dX9_along_101 : decode cX9_along 101 = .ok (.iload 4, 2) := by decide +kernel
theorem dX9_along_103 : decode cX9_along 103 = .ok (.iload 4, 2) := by decide +kernel
theorem dX9_along_105 : decode cX9_along 105 = .ok (.sipush 2048, 3) := by decide +kernel
theorem dX9_along_108 : decode cX9_along 108 = .ok (.irem, 1) := by decide +kernel
theorem dX9_along_109 : decode cX9_along 109 = .ok (.isub, 1) := by decide +kernel
theorem dX9_along_110 : decode cX9_along 110 = .ok (.sipush 2048, 3) := by decide +kernel
theorem dX9_along_113 : decode cX9_along 113 = .ok (.iadd, 1) := by decide +kernel
theorem dX9_along_114 : decode cX9_along 114 = .ok (.istore 4, 2) := by decide +kernel
theorem dX9_along_116 : decode cX9_along 116 = .ok (.iload_n 3, 1) := by decide +kernel
theorem dX9_along_117 : decode cX9_along 117 = .ok (.ifCond .eq 15, 3) := by decide +kernel
theorem dX9_along_120 : decode cX9_along 120 = .ok (.aload_n 0, 1) := by decide +kernel
theorem dX9_along_121 : decode cX9_along 121 = .ok (.iload_n 2, 1) := by decide +kernel
theorem dX9_along_122 : decode cX9_along 122 = .ok (.iload 4, 2) := by decide +kernel
theorem dX9_along_124 : decode cX9_along 124 = .ok (.iadd, 1) := by decide +kernel
theorem dX9_along_125 : decode cX9_along 125 = .ok (.iload 5, 2) := by decide +kernel
theorem dX9_along_127 : decode cX9_along 127 = .ok (.iload 7, 2) := by decide +kernel
theorem dX9_along_129 : decode cX9_along 129 = .ok (.invokevirtual 205, 3) := by decide +kernel
theorem dX9_along_132 : decode cX9_along 132 = .ok (.iload 4, 2) := by decide +kernel
theorem dX9_along_134 : decode cX9_along 134 = .ok (.iload 8, 2) := by decide +kernel
theorem dX9_along_136 : decode cX9_along 136 = .ok (.iadd, 1) := by decide +kernel
theorem dX9_along_137 : decode cX9_along 137 = .ok (.istore 4, 2) := by decide +kernel
theorem dX9_along_139 : decode cX9_along 139 = .ok (.iload 5, 2) := by decide +kernel
theorem dX9_along_141 : decode cX9_along 141 = .ok (.iconst 2, 1) := by decide +kernel
theorem dX9_along_142 : decode cX9_along 142 = .ok (.if_icmp .ge 10, 3) := by decide +kernel
theorem dX9_along_145 : decode cX9_along 145 = .ok (.iload 5, 2) := by decide +kernel
theorem dX9_along_147 : decode cX9_along 147 = .ok (.iconst 1, 1) := by decide +kernel
theorem dX9_along_148 : decode cX9_along 148 = .ok (.iadd, 1) := by decide +kernel
theorem dX9_along_149 : decode cX9_along 149 = .ok (.goto 4, 3) := by decide +kernel
theorem dX9_along_152 : decode cX9_along 152 = .ok (.iconst 2, 1) := by decide +kernel
theorem dX9_along_153 : decode cX9_along 153 = .ok (.istore 5, 2) := by decide +kernel
theorem dX9_along_155 : decode cX9_along 155 = .ok (.goto (-146), 3) := by decide +kernel
/-- WriteOnceDiscModel.along(IIZ)I -/
def wX9_along_L153 (post : Int32 → Hp → Prop) (rc9 : Int32 → Int32 → Int32 → Hp → Prop) (x0 : Nat) (x1 : Int32) (x2 : Int32) (x3 : Int32) (x4 : Int32) (x6 : Int32) (s0 : Int32) (σ : Hp) : Prop :=
rc9 x4 s0 x6 σ
def wX9_along_L132 (post : Int32 → Hp → Prop) (rc9 : Int32 → Int32 → Int32 → Hp → Prop) (x0 : Nat) (x1 : Int32) (x2 : Int32) (x3 : Int32) (x4 : Int32) (x5 : Int32) (x6 : Int32) (x8 : Int32) (σ : Hp) : Prop :=
(∀ y1 : Int32, y1 = (x4 + x8) → (((2 : Int32) ≤ x5 →
  wX9_along_L153 post rc9 x0 x1 x2 x3 y1 x6 (2 : Int32) σ) ∧
 (¬ (2 : Int32) ≤ x5 →
  wX9_along_L153 post rc9 x0 x1 x2 x3 y1 x6 (x5 + (1 : Int32)) σ)))
def wX9_along_L116 (post : Int32 → Hp → Prop) (rc9 : Int32 → Int32 → Int32 → Hp → Prop) (x0 : Nat) (x1 : Int32) (x2 : Int32) (x3 : Int32) (x4 : Int32) (x5 : Int32) (x6 : Int32) (x7 : Int32) (x8 : Int32) (σ : Hp) : Prop :=
((x3 = 0 →
  wX9_along_L132 post rc9 x0 x1 x2 x3 x4 x5 x6 x8 σ) ∧
 (¬ x3 = 0 →
  (tg_ σ x0 = 9 ∧ (wX9_record x0 (x2 + x4) x5 x7 σ (fun σ5 => wX9_along_L132 post rc9 x0 x1 x2 x3 x4 x5 x6 x8 σ5)))))
def wX9_along_L68 (post : Int32 → Hp → Prop) (rc9 : Int32 → Int32 → Int32 → Hp → Prop) (x0 : Nat) (x1 : Int32) (x2 : Int32) (x3 : Int32) (x4 : Int32) (x5 : Int32) (x6 : Int32) (s0 : Int32) (σ : Hp) : Prop :=
(tg_ σ x0 = 9 ∧ (wX9_recordId x0 x5 s0 σ (fun r7 => (wX9_even ((33 : Int32) + r7) σ (fun r8 => ((((x4 - x4 / (2048 : Int32) * (2048 : Int32)) + r8) ≤ (2048 : Int32) →
  wX9_along_L116 post rc9 x0 x1 x2 x3 x4 x5 x6 s0 r8 σ) ∧
 (¬ ((x4 - x4 / (2048 : Int32) * (2048 : Int32)) + r8) ≤ (2048 : Int32) →
  (∀ y10 : Int32, y10 = ((x4 - (x4 - x4 / (2048 : Int32) * (2048 : Int32))) + (2048 : Int32)) → wX9_along_L116 post rc9 x0 x1 x2 x3 y10 x5 x6 s0 r8 σ))))))))
def wX9_along_L51 (post : Int32 → Hp → Prop) (rc9 : Int32 → Int32 → Int32 → Hp → Prop) (x0 : Nat) (x1 : Int32) (x2 : Int32) (x3 : Int32) (x4 : Int32) (x5 : Int32) (x6 : Int32) (σ : Hp) : Prop :=
((¬ x5 = (1 : Int32) →
  wX9_along_L68 post rc9 x0 x1 x2 x3 x4 x5 x6 x6 σ) ∧
 (x5 = (1 : Int32) →
  (tg_ σ x0 = 9 ∧ (tg_ σ (fR_ σ 8 13 x0) = 102 ∧ (vp_in x1 (ln_ σ (fR_ σ 8 13 x0)) ∧ wX9_along_L68 post rc9 x0 x1 x2 x3 x4 x5 x6 (aI_ σ (fR_ σ 8 13 x0) (x1).toNatClampNeg) σ)))))
def wX9_along_L47 (post : Int32 → Hp → Prop) (rc9 : Int32 → Int32 → Int32 → Hp → Prop) (x0 : Nat) (x1 : Int32) (x2 : Int32) (x3 : Int32) (x4 : Int32) (x5 : Int32) (x6 : Int32) (σ : Hp) : Prop :=
wX9_along_L68 post rc9 x0 x1 x2 x3 x4 x5 x6 x1 σ
def wX9_along_L32 (post : Int32 → Hp → Prop) (rc9 : Int32 → Int32 → Int32 → Hp → Prop) (x0 : Nat) (x1 : Int32) (x2 : Int32) (x3 : Int32) (x4 : Int32) (x5 : Int32) (x6 : Int32) (σ : Hp) : Prop :=
((x5 = 0 →
  wX9_along_L47 post rc9 x0 x1 x2 x3 x4 x5 x6 σ) ∧
 (¬ x5 = 0 →
  ((¬ x5 = (1 : Int32) →
   wX9_along_L51 post rc9 x0 x1 x2 x3 x4 x5 x6 σ) ∧
  (x5 = (1 : Int32) →
   ((¬ x1 = 0 →
    wX9_along_L51 post rc9 x0 x1 x2 x3 x4 x5 x6 σ) ∧
   (x1 = 0 →
    wX9_along_L47 post rc9 x0 x1 x2 x3 x4 x5 x6 σ))))))
def wX9_along_B9 (post : Int32 → Hp → Prop) (rc9 : Int32 → Int32 → Int32 → Hp → Prop) (x0 : Nat) (x1 : Int32) (x2 : Int32) (x3 : Int32) (x4 : Int32) (x5 : Int32) (x6 : Int32) (σ : Hp) : Prop :=
((¬ x5 = (2 : Int32) →
  wX9_along_L32 post rc9 x0 x1 x2 x3 x4 x5 x6 σ) ∧
 (x5 = (2 : Int32) →
  (tg_ σ x0 = 9 ∧ (wX9_next x0 x1 x6 σ (fun r20 => ((0 ≤ r20 →
   wX9_along_L32 post rc9 x0 x1 x2 x3 x4 x5 r20 σ) ∧
  (¬ 0 ≤ r20 →
   post x4 σ)))))))
def wX9_along_L9 (post : Int32 → Hp → Prop) (x0 : Nat) (x1 : Int32) (x2 : Int32) (x3 : Int32) (x4 : Int32) (x5 : Int32) (x6 : Int32) (σ : Hp) : Prop :=
 ∃ (I : Int32 → Int32 → Int32 → Hp → Prop) (μ : Int32 → Int32 → Int32 → Hp → Nat), I x4 x5 x6 σ ∧ ∀ (x4 : Int32) (x5 : Int32) (x6 : Int32) (σ : Hp), I x4 x5 x6 σ → wX9_along_B9 post (fun x4' x5' x6' σ' => I x4' x5' x6' σ' ∧ μ x4' x5' x6' σ' < μ x4 x5 x6 σ) x0 x1 x2 x3 x4 x5 x6 σ
def wX9_along (x0 : Nat) (x1 : Int32) (x2 : Int32) (x3 : Int32) (σ : Hp) (post : Int32 → Hp → Prop) : Prop :=
wX9_along_L9 post x0 x1 x2 x3 (0 : Int32) (0 : Int32) (-1 : Int32) σ
set_option maxHeartbeats 4000000 in
theorem sX9_along_L153 {G : GG_} {p : Program} {l : Launch} {e : Env} {R : Room} {s : State} {m : MethodId} {args : Array Value} {below : List Frame} {meth : Method} {c : Code} (Y : MX_ G p R s m args meth c cX9_along 9 RX9 (some Jvm.ClassFile.FieldType.int) 6 139 0 0 "along") {post : Int32 → Hp → Prop} {rc9 : Int32 → Int32 → Int32 → Hp → Prop} {x0 : Nat} {x1 : Int32} {x2 : Int32} {x3 : Int32} {x4 : Int32} {x6 : Int32} {s0 : Int32} {σ : Hp} (hrc9 : ∀ (x4 : Int32) (x5 : Int32) (x6 : Int32) (σ : Hp), rc9 x4 x5 x6 σ → WG_ G p l e R s m args below meth c (MQ below (QI_ G post) args s 0 0 (FR_ G)) BN_ 9 9 [(0, rv_ x0), (1, .int x1), (2, .int x2), (3, .int x3), (4, .int x4), (5, .int x5), (6, .int x6)] [] σ) (hf : wX9_along_L153 post rc9 x0 x1 x2 x3 x4 x6 s0 σ) : WG_ G p l e R s m args below meth c (MQ below (QI_ G post) args s 0 0 (FR_ G)) BN_ 9 153 [(0, rv_ x0), (1, .int x1), (2, .int x2), (3, .int x3), (4, .int x4), (6, .int x6)] [.int s0] σ := by
  have ⟨X, hlk, hr, hRf, hRl, hRc, hnm⟩ := Y
  have ⟨⟨hx, hb, _, hown, hts⟩, _, _⟩ := X
  intro H locs cells slots ls hP hL hB hl
  obtain ⟨rfl, rfl⟩ := hB
  unfold wX9_along_L153 at hf
  refine p_istore (i := 5) hx hb dX9_along_153 hl (by decide) ⟨⟨ne_ rfl, Or.inl (ne_ rfl)⟩, ⟨⟨ne_ rfl, Or.inl (ne_ rfl)⟩, ⟨⟨ne_ rfl, Or.inl (ne_ rfl)⟩, ⟨⟨ne_ rfl, Or.inl (ne_ rfl)⟩, ⟨⟨ne_ rfl, Or.inr rfl⟩, ⟨⟨ne_ rfl, Or.inl (ne_ rfl)⟩, trivial⟩⟩⟩⟩⟩⟩ (fun ls hl => ?_)
  refine lv_goto (tgt := 9) hx hb dX9_along_155 (by decide) ?_
  exact hrc9 _ _ _ _ hf _ _ _ _ _ hP hL ⟨rfl, rfl⟩ (lv_sub hl [1, 2, 3, 4, 5, 0, 6] rfl)
set_option maxHeartbeats 4000000 in
theorem sX9_along_L132 {G : GG_} {p : Program} {l : Launch} {e : Env} {R : Room} {s : State} {m : MethodId} {args : Array Value} {below : List Frame} {meth : Method} {c : Code} (Y : MX_ G p R s m args meth c cX9_along 9 RX9 (some Jvm.ClassFile.FieldType.int) 6 139 0 0 "along") {post : Int32 → Hp → Prop} {rc9 : Int32 → Int32 → Int32 → Hp → Prop} {x0 : Nat} {x1 : Int32} {x2 : Int32} {x3 : Int32} {x4 : Int32} {x5 : Int32} {x6 : Int32} {x8 : Int32} {σ : Hp} (hrc9 : ∀ (x4 : Int32) (x5 : Int32) (x6 : Int32) (σ : Hp), rc9 x4 x5 x6 σ → WG_ G p l e R s m args below meth c (MQ below (QI_ G post) args s 0 0 (FR_ G)) BN_ 9 9 [(0, rv_ x0), (1, .int x1), (2, .int x2), (3, .int x3), (4, .int x4), (5, .int x5), (6, .int x6)] [] σ) (hf : wX9_along_L132 post rc9 x0 x1 x2 x3 x4 x5 x6 x8 σ) : WG_ G p l e R s m args below meth c (MQ below (QI_ G post) args s 0 0 (FR_ G)) BN_ 9 132 [(0, rv_ x0), (1, .int x1), (2, .int x2), (3, .int x3), (4, .int x4), (5, .int x5), (6, .int x6), (8, .int x8)] [] σ := by
  have ⟨X, hlk, hr, hRf, hRl, hRc, hnm⟩ := Y
  have ⟨⟨hx, hb, _, hown, hts⟩, _, _⟩ := X
  intro H locs cells slots ls hP hL hB hl
  obtain ⟨rfl, rfl⟩ := hB
  unfold wX9_along_L132 at hf
  refine lv_iload hx hb dX9_along_132 (lv_at hl 4 rfl) ?_
  refine lv_iload hx hb dX9_along_134 (lv_at hl 7 rfl) ?_
  refine lv_iadd hx hb dX9_along_136 ?_
  have hl := lv_sub hl [0, 1, 2, 3, 5, 6] rfl
  refine lv_topi (fun y1 hy1 => ?_)
  have hf := hf y1 hy1
  refine p_istore (i := 4) hx hb dX9_along_137 hl (by decide) ⟨⟨ne_ rfl, Or.inl (ne_ rfl)⟩, ⟨⟨ne_ rfl, Or.inl (ne_ rfl)⟩, ⟨⟨ne_ rfl, Or.inl (ne_ rfl)⟩, ⟨⟨ne_ rfl, Or.inr rfl⟩, ⟨⟨ne_ rfl, Or.inl (ne_ rfl)⟩, ⟨⟨ne_ rfl, Or.inl (ne_ rfl)⟩, trivial⟩⟩⟩⟩⟩⟩ (fun ls hl => ?_)
  refine lv_iload hx hb dX9_along_139 (lv_at hl 5 rfl) ?_
  refine lv_iconst (v := 2) hx hb dX9_along_141 (by decide) ?_
  refine lv_icmp_ge (tgt := 152) hx hb dX9_along_142 (by decide) (fun c2 => ?_) (fun c2 => ?_)
  · have hf := hf.1 c2
    refine lv_iconst (v := 2) hx hb dX9_along_152 (by decide) ?_
    exact sX9_along_L153 Y hrc9 hf _ _ _ _ _ hP hL ⟨rfl, rfl⟩ (lv_sub hl [1, 2, 3, 4, 0, 6] rfl)
  · have hf := hf.2 c2
    refine lv_iload hx hb dX9_along_145 (lv_at hl 5 rfl) ?_
    refine lv_iconst (v := 1) hx hb dX9_along_147 (by decide) ?_
    refine lv_iadd hx hb dX9_along_148 ?_
    refine lv_goto (tgt := 153) hx hb dX9_along_149 (by decide) ?_
    exact sX9_along_L153 Y hrc9 hf _ _ _ _ _ hP hL ⟨rfl, rfl⟩ (lv_sub hl [1, 2, 3, 4, 0, 6] rfl)
set_option maxHeartbeats 4000000 in
theorem sX9_along_L116 {G : GG_} {p : Program} {l : Launch} {e : Env} {R : Room} {s : State} {m : MethodId} {args : Array Value} {below : List Frame} {meth : Method} {c : Code} (Y : MX_ G p R s m args meth c cX9_along 9 RX9 (some Jvm.ClassFile.FieldType.int) 6 139 0 0 "along") {post : Int32 → Hp → Prop} {rc9 : Int32 → Int32 → Int32 → Hp → Prop} {x0 : Nat} {x1 : Int32} {x2 : Int32} {x3 : Int32} {x4 : Int32} {x5 : Int32} {x6 : Int32} {x7 : Int32} {x8 : Int32} {σ : Hp} (hrc9 : ∀ (x4 : Int32) (x5 : Int32) (x6 : Int32) (σ : Hp), rc9 x4 x5 x6 σ → WG_ G p l e R s m args below meth c (MQ below (QI_ G post) args s 0 0 (FR_ G)) BN_ 9 9 [(0, rv_ x0), (1, .int x1), (2, .int x2), (3, .int x3), (4, .int x4), (5, .int x5), (6, .int x6)] [] σ) (hf : wX9_along_L116 post rc9 x0 x1 x2 x3 x4 x5 x6 x7 x8 σ) : WG_ G p l e R s m args below meth c (MQ below (QI_ G post) args s 0 0 (FR_ G)) BN_ 9 116 [(0, rv_ x0), (1, .int x1), (2, .int x2), (3, .int x3), (4, .int x4), (5, .int x5), (6, .int x6), (7, .int x7), (8, .int x8)] [] σ := by
  have ⟨X, hlk, hr, hRf, hRl, hRc, hnm⟩ := Y
  have ⟨⟨hx, hb, _, hown, hts⟩, _, _⟩ := X
  intro H locs cells slots ls hP hL hB hl
  obtain ⟨rfl, rfl⟩ := hB
  unfold wX9_along_L116 at hf
  refine lv_iload_n hx hb dX9_along_116 rfl (lv_at hl 3 rfl) ?_
  refine lv_if_eq (tgt := 132) hx hb dX9_along_117 (by decide) (fun c3 => ?_) (fun c3 => ?_)
  · have hf := hf.1 c3
    exact sX9_along_L132 Y hrc9 hf _ _ _ _ _ hP hL ⟨rfl, rfl⟩ (lv_sub hl [0, 1, 2, 3, 4, 5, 6, 8] rfl)
  · have hf := hf.2 c3
    refine p_aload_n hx hb dX9_along_120 rfl (lv_at hl 0 rfl) ?_
    refine lv_iload_n hx hb dX9_along_121 rfl (lv_at hl 2 rfl) ?_
    refine lv_iload hx hb dX9_along_122 (lv_at hl 4 rfl) ?_
    refine lv_iadd hx hb dX9_along_124 ?_
    refine lv_iload hx hb dX9_along_125 (lv_at hl 5 rfl) ?_
    refine lv_iload hx hb dX9_along_127 (lv_at hl 7 rfl) ?_
    obtain ⟨ht4, hf⟩ := hf
    refine p_callv hL (p_runV X cf8_ hP ht4 (metX9_record l G _ _ _ _ _ _ X.2.2 hf) (cwV 3 hts (lw_V q1558 q1560 qs60 q106 q1561) rfl rfl rfl (by decide +kernel) ⟨Nat.le_trans (Nat.le_of_ble_eq_true rfl) hRf, Nat.le_trans (Nat.le_of_ble_eq_true rfl) hRl⟩) rfl hl.1 rfl (by decide) dX9_along_129 ⟨Nat.zero_le _, Nat.zero_le _⟩) (fun σ5 H locs hf hP hL => ?_)
    exact sX9_along_L132 Y hrc9 hf _ _ _ _ _ hP hL ⟨rfl, rfl⟩ (lv_sub hl [0, 1, 2, 3, 4, 5, 6, 8] rfl)
set_option maxHeartbeats 4000000 in
theorem sX9_along_L68 {G : GG_} {p : Program} {l : Launch} {e : Env} {R : Room} {s : State} {m : MethodId} {args : Array Value} {below : List Frame} {meth : Method} {c : Code} (Y : MX_ G p R s m args meth c cX9_along 9 RX9 (some Jvm.ClassFile.FieldType.int) 6 139 0 0 "along") {post : Int32 → Hp → Prop} {rc9 : Int32 → Int32 → Int32 → Hp → Prop} {x0 : Nat} {x1 : Int32} {x2 : Int32} {x3 : Int32} {x4 : Int32} {x5 : Int32} {x6 : Int32} {s0 : Int32} {σ : Hp} (hrc9 : ∀ (x4 : Int32) (x5 : Int32) (x6 : Int32) (σ : Hp), rc9 x4 x5 x6 σ → WG_ G p l e R s m args below meth c (MQ below (QI_ G post) args s 0 0 (FR_ G)) BN_ 9 9 [(0, rv_ x0), (1, .int x1), (2, .int x2), (3, .int x3), (4, .int x4), (5, .int x5), (6, .int x6)] [] σ) (hf : wX9_along_L68 post rc9 x0 x1 x2 x3 x4 x5 x6 s0 σ) : WG_ G p l e R s m args below meth c (MQ below (QI_ G post) args s 0 0 (FR_ G)) BN_ 9 68 [(0, rv_ x0), (1, .int x1), (2, .int x2), (3, .int x3), (4, .int x4), (5, .int x5), (6, .int x6)] [.int s0] σ := by
  have ⟨X, hlk, hr, hRf, hRl, hRc, hnm⟩ := Y
  have ⟨⟨hx, hb, _, hown, hts⟩, _, _⟩ := X
  intro H locs cells slots ls hP hL hB hl
  obtain ⟨rfl, rfl⟩ := hB
  unfold wX9_along_L68 at hf
  refine p_istore (i := 7) hx hb dX9_along_68 hl (by decide) ⟨⟨ne_ rfl, Or.inl (ne_ rfl)⟩, ⟨⟨ne_ rfl, Or.inl (ne_ rfl)⟩, ⟨⟨ne_ rfl, Or.inl (ne_ rfl)⟩, ⟨⟨ne_ rfl, Or.inl (ne_ rfl)⟩, ⟨⟨ne_ rfl, Or.inl (ne_ rfl)⟩, ⟨⟨ne_ rfl, Or.inl (ne_ rfl)⟩, ⟨⟨ne_ rfl, Or.inr rfl⟩, trivial⟩⟩⟩⟩⟩⟩⟩ (fun ls hl => ?_)
  refine lv_bipush (v := 33) hx hb dX9_along_70 (by decide) ?_
  refine p_aload_n hx hb dX9_along_72 rfl (lv_at hl 1 rfl) ?_
  refine lv_iload hx hb dX9_along_73 (lv_at hl 6 rfl) ?_
  refine lv_iload hx hb dX9_along_75 (lv_at hl 0 rfl) ?_
  obtain ⟨ht6, hf⟩ := hf
  refine p_calli hL (p_runV X cf8_ hP ht6 (metX9_recordId l G _ _ _ _ _ X.2.2 hf) (cwV 2 hts (lw_V q1548 q1550 qs59 q106 q1551) rfl rfl rfl (by decide +kernel) ⟨Nat.le_trans (Nat.le_of_ble_eq_true rfl) hRf, Nat.le_trans (Nat.le_of_ble_eq_true rfl) hRl⟩) rfl hl.1 rfl (by rw [(ca_i ca_n)]; decide) dX9_along_77 ⟨Nat.zero_le _, Nat.zero_le _⟩) (fun r7 σ₁ H locs hf hP hL => ?_)
  obtain ⟨e₁, hf⟩ := hf
  rw [e₁] at hP
  refine lv_iadd hx hb dX9_along_80 ?_
  refine p_calli hL (p_runS X hP (metX9_even l G _ _ _ X.2.2 hf) (va_cwS 1 hts (lw_S q1555 q1556 q106 q1557) rfl rfl rfl (by decide +kernel) ⟨Nat.le_trans (Nat.le_of_ble_eq_true rfl) hRf, Nat.le_trans (Nat.le_of_ble_eq_true rfl) hRl⟩) rfl hl.1 rfl (by decide) dX9_along_81 ⟨Nat.zero_le _, Nat.zero_le _⟩) (fun r8 σ₁ H locs hf hP hL => ?_)
  obtain ⟨e₁, hf⟩ := hf
  rw [e₁] at hP
  refine p_istore (i := 8) hx hb dX9_along_84 hl (by decide) ⟨⟨ne_ rfl, Or.inr rfl⟩, ⟨⟨ne_ rfl, Or.inl (ne_ rfl)⟩, ⟨⟨ne_ rfl, Or.inl (ne_ rfl)⟩, ⟨⟨ne_ rfl, Or.inl (ne_ rfl)⟩, ⟨⟨ne_ rfl, Or.inl (ne_ rfl)⟩, ⟨⟨ne_ rfl, Or.inl (ne_ rfl)⟩, ⟨⟨ne_ rfl, Or.inl (ne_ rfl)⟩, ⟨⟨ne_ rfl, Or.inl (ne_ rfl)⟩, trivial⟩⟩⟩⟩⟩⟩⟩⟩ (fun ls hl => ?_)
  refine lv_iload hx hb dX9_along_86 (lv_at hl 6 rfl) ?_
  refine lv_sipush (v := 2048) hx hb dX9_along_88 (by decide) ?_
  refine lv_irem hx hb dX9_along_91 (by decide) ?_
  refine lv_iload hx hb dX9_along_92 (lv_at hl 0 rfl) ?_
  refine lv_iadd hx hb dX9_along_94 ?_
  refine lv_sipush (v := 2048) hx hb dX9_along_95 (by decide) ?_
  refine lv_icmp_le (tgt := 116) hx hb dX9_along_98 (by decide) (fun c9 => ?_) (fun c9 => ?_)
  · have hf := hf.1 c9
    exact sX9_along_L116 Y hrc9 hf _ _ _ _ _ hP hL ⟨rfl, rfl⟩ (lv_sub hl [2, 3, 4, 5, 6, 7, 8, 1, 0] rfl)
  · have hf := hf.2 c9
    refine lv_iload hx hb dX9_along_101 (lv_at hl 6 rfl) ?_
    refine lv_iload hx hb dX9_along_103 (lv_at hl 6 rfl) ?_
    refine lv_sipush (v := 2048) hx hb dX9_along_105 (by decide) ?_
    refine lv_irem hx hb dX9_along_108 (by decide) ?_
    refine lv_isub hx hb dX9_along_109 ?_
    refine lv_sipush (v := 2048) hx hb dX9_along_110 (by decide) ?_
    refine lv_iadd hx hb dX9_along_113 ?_
    have hl := lv_sub hl [0, 1, 2, 3, 4, 5, 7, 8] rfl
    refine lv_topi (fun y10 hy10 => ?_)
    have hf := hf y10 hy10
    refine p_istore (i := 4) hx hb dX9_along_114 hl (by decide) ⟨⟨ne_ rfl, Or.inl (ne_ rfl)⟩, ⟨⟨ne_ rfl, Or.inl (ne_ rfl)⟩, ⟨⟨ne_ rfl, Or.inl (ne_ rfl)⟩, ⟨⟨ne_ rfl, Or.inl (ne_ rfl)⟩, ⟨⟨ne_ rfl, Or.inl (ne_ rfl)⟩, ⟨⟨ne_ rfl, Or.inr rfl⟩, ⟨⟨ne_ rfl, Or.inl (ne_ rfl)⟩, ⟨⟨ne_ rfl, Or.inl (ne_ rfl)⟩, trivial⟩⟩⟩⟩⟩⟩⟩⟩ (fun ls hl => ?_)
    exact sX9_along_L116 Y hrc9 hf _ _ _ _ _ hP hL ⟨rfl, rfl⟩ (lv_sub hl [3, 4, 5, 6, 0, 7, 8, 2, 1] rfl)
set_option maxHeartbeats 4000000 in
theorem sX9_along_L51 {G : GG_} {p : Program} {l : Launch} {e : Env} {R : Room} {s : State} {m : MethodId} {args : Array Value} {below : List Frame} {meth : Method} {c : Code} (Y : MX_ G p R s m args meth c cX9_along 9 RX9 (some Jvm.ClassFile.FieldType.int) 6 139 0 0 "along") {post : Int32 → Hp → Prop} {rc9 : Int32 → Int32 → Int32 → Hp → Prop} {x0 : Nat} {x1 : Int32} {x2 : Int32} {x3 : Int32} {x4 : Int32} {x5 : Int32} {x6 : Int32} {σ : Hp} (hrc9 : ∀ (x4 : Int32) (x5 : Int32) (x6 : Int32) (σ : Hp), rc9 x4 x5 x6 σ → WG_ G p l e R s m args below meth c (MQ below (QI_ G post) args s 0 0 (FR_ G)) BN_ 9 9 [(0, rv_ x0), (1, .int x1), (2, .int x2), (3, .int x3), (4, .int x4), (5, .int x5), (6, .int x6)] [] σ) (hf : wX9_along_L51 post rc9 x0 x1 x2 x3 x4 x5 x6 σ) : WG_ G p l e R s m args below meth c (MQ below (QI_ G post) args s 0 0 (FR_ G)) BN_ 9 51 [(0, rv_ x0), (1, .int x1), (2, .int x2), (3, .int x3), (4, .int x4), (5, .int x5), (6, .int x6)] [] σ := by
  have ⟨X, hlk, hr, hRf, hRl, hRc, hnm⟩ := Y
  have ⟨⟨hx, hb, _, hown, hts⟩, _, _⟩ := X
  intro H locs cells slots ls hP hL hB hl
  obtain ⟨rfl, rfl⟩ := hB
  unfold wX9_along_L51 at hf
  refine lv_iload hx hb dX9_along_51 (lv_at hl 5 rfl) ?_
  refine lv_iconst (v := 1) hx hb dX9_along_53 (by decide) ?_
  refine lv_icmp_ne (tgt := 66) hx hb dX9_along_54 (by decide) (fun c11 => ?_) (fun c11 => ?_)
  · have hf := hf.1 c11
    refine lv_iload hx hb dX9_along_66 (lv_at hl 6 rfl) ?_
    exact sX9_along_L68 Y hrc9 hf _ _ _ _ _ hP hL ⟨rfl, rfl⟩ (lv_sub hl [0, 1, 2, 3, 4, 5, 6] rfl)
  · have hf := hf.2 c11
    refine p_aload_n hx hb dX9_along_57 rfl (lv_at hl 0 rfl) ?_
    obtain ⟨ht12, hf⟩ := hf
    refine p_gR X cf8_ (k := 13) (by decide) rfl hP ht12 q1308 (fun _ h => h) dX9_along_58 ?_
    refine lv_iload_n hx hb dX9_along_61 rfl (lv_at hl 1 rfl) ?_
    obtain ⟨ht13, hf⟩ := hf
    obtain ⟨hi14, hf⟩ := hf
    refine p_iald X hP ht13 hi14 dX9_along_62 ?_
    refine lv_goto (tgt := 68) hx hb dX9_along_63 (by decide) ?_
    exact sX9_along_L68 Y hrc9 hf _ _ _ _ _ hP hL ⟨rfl, rfl⟩ (lv_sub hl [0, 1, 2, 3, 4, 5, 6] rfl)
set_option maxHeartbeats 4000000 in
theorem sX9_along_L47 {G : GG_} {p : Program} {l : Launch} {e : Env} {R : Room} {s : State} {m : MethodId} {args : Array Value} {below : List Frame} {meth : Method} {c : Code} (Y : MX_ G p R s m args meth c cX9_along 9 RX9 (some Jvm.ClassFile.FieldType.int) 6 139 0 0 "along") {post : Int32 → Hp → Prop} {rc9 : Int32 → Int32 → Int32 → Hp → Prop} {x0 : Nat} {x1 : Int32} {x2 : Int32} {x3 : Int32} {x4 : Int32} {x5 : Int32} {x6 : Int32} {σ : Hp} (hrc9 : ∀ (x4 : Int32) (x5 : Int32) (x6 : Int32) (σ : Hp), rc9 x4 x5 x6 σ → WG_ G p l e R s m args below meth c (MQ below (QI_ G post) args s 0 0 (FR_ G)) BN_ 9 9 [(0, rv_ x0), (1, .int x1), (2, .int x2), (3, .int x3), (4, .int x4), (5, .int x5), (6, .int x6)] [] σ) (hf : wX9_along_L47 post rc9 x0 x1 x2 x3 x4 x5 x6 σ) : WG_ G p l e R s m args below meth c (MQ below (QI_ G post) args s 0 0 (FR_ G)) BN_ 9 47 [(0, rv_ x0), (1, .int x1), (2, .int x2), (3, .int x3), (4, .int x4), (5, .int x5), (6, .int x6)] [] σ := by
  have ⟨X, hlk, hr, hRf, hRl, hRc, hnm⟩ := Y
  have ⟨⟨hx, hb, _, hown, hts⟩, _, _⟩ := X
  intro H locs cells slots ls hP hL hB hl
  obtain ⟨rfl, rfl⟩ := hB
  unfold wX9_along_L47 at hf
  refine lv_iload_n hx hb dX9_along_47 rfl (lv_at hl 1 rfl) ?_
  refine lv_goto (tgt := 68) hx hb dX9_along_48 (by decide) ?_
  exact sX9_along_L68 Y hrc9 hf _ _ _ _ _ hP hL ⟨rfl, rfl⟩ (lv_sub hl [0, 1, 2, 3, 4, 5, 6] rfl)
set_option maxHeartbeats 4000000 in
theorem sX9_along_L32 {G : GG_} {p : Program} {l : Launch} {e : Env} {R : Room} {s : State} {m : MethodId} {args : Array Value} {below : List Frame} {meth : Method} {c : Code} (Y : MX_ G p R s m args meth c cX9_along 9 RX9 (some Jvm.ClassFile.FieldType.int) 6 139 0 0 "along") {post : Int32 → Hp → Prop} {rc9 : Int32 → Int32 → Int32 → Hp → Prop} {x0 : Nat} {x1 : Int32} {x2 : Int32} {x3 : Int32} {x4 : Int32} {x5 : Int32} {x6 : Int32} {σ : Hp} (hrc9 : ∀ (x4 : Int32) (x5 : Int32) (x6 : Int32) (σ : Hp), rc9 x4 x5 x6 σ → WG_ G p l e R s m args below meth c (MQ below (QI_ G post) args s 0 0 (FR_ G)) BN_ 9 9 [(0, rv_ x0), (1, .int x1), (2, .int x2), (3, .int x3), (4, .int x4), (5, .int x5), (6, .int x6)] [] σ) (hf : wX9_along_L32 post rc9 x0 x1 x2 x3 x4 x5 x6 σ) : WG_ G p l e R s m args below meth c (MQ below (QI_ G post) args s 0 0 (FR_ G)) BN_ 9 32 [(0, rv_ x0), (1, .int x1), (2, .int x2), (3, .int x3), (4, .int x4), (5, .int x5), (6, .int x6)] [] σ := by
  have ⟨X, hlk, hr, hRf, hRl, hRc, hnm⟩ := Y
  have ⟨⟨hx, hb, _, hown, hts⟩, _, _⟩ := X
  intro H locs cells slots ls hP hL hB hl
  obtain ⟨rfl, rfl⟩ := hB
  unfold wX9_along_L32 at hf
  refine lv_iload hx hb dX9_along_32 (lv_at hl 5 rfl) ?_
  refine lv_if_eq (tgt := 47) hx hb dX9_along_34 (by decide) (fun c15 => ?_) (fun c15 => ?_)
  · have hf := hf.1 c15
    exact sX9_along_L47 Y hrc9 hf _ _ _ _ _ hP hL ⟨rfl, rfl⟩ (lv_sub hl [0, 1, 2, 3, 4, 5, 6] rfl)
  · have hf := hf.2 c15
    refine lv_iload hx hb dX9_along_37 (lv_at hl 5 rfl) ?_
    refine lv_iconst (v := 1) hx hb dX9_along_39 (by decide) ?_
    refine lv_icmp_ne (tgt := 51) hx hb dX9_along_40 (by decide) (fun c16 => ?_) (fun c16 => ?_)
    · have hf := hf.1 c16
      exact sX9_along_L51 Y hrc9 hf _ _ _ _ _ hP hL ⟨rfl, rfl⟩ (lv_sub hl [0, 1, 2, 3, 4, 5, 6] rfl)
    · have hf := hf.2 c16
      refine lv_iload_n hx hb dX9_along_43 rfl (lv_at hl 1 rfl) ?_
      refine lv_if_ne (tgt := 51) hx hb dX9_along_44 (by decide) (fun c17 => ?_) (fun c17 => ?_)
      · have hf := hf.1 c17
        exact sX9_along_L51 Y hrc9 hf _ _ _ _ _ hP hL ⟨rfl, rfl⟩ (lv_sub hl [0, 1, 2, 3, 4, 5, 6] rfl)
      · have hf := hf.2 c17
        exact sX9_along_L47 Y hrc9 hf _ _ _ _ _ hP hL ⟨rfl, rfl⟩ (lv_sub hl [0, 1, 2, 3, 4, 5, 6] rfl)
set_option maxHeartbeats 4000000 in
theorem sX9_along_B9 {G : GG_} {p : Program} {l : Launch} {e : Env} {R : Room} {s : State} {m : MethodId} {args : Array Value} {below : List Frame} {meth : Method} {c : Code} (Y : MX_ G p R s m args meth c cX9_along 9 RX9 (some Jvm.ClassFile.FieldType.int) 6 139 0 0 "along") {post : Int32 → Hp → Prop} {rc9 : Int32 → Int32 → Int32 → Hp → Prop} {x0 : Nat} {x1 : Int32} {x2 : Int32} {x3 : Int32} {x4 : Int32} {x5 : Int32} {x6 : Int32} {σ : Hp} (hrc9 : ∀ (x4 : Int32) (x5 : Int32) (x6 : Int32) (σ : Hp), rc9 x4 x5 x6 σ → WG_ G p l e R s m args below meth c (MQ below (QI_ G post) args s 0 0 (FR_ G)) BN_ 9 9 [(0, rv_ x0), (1, .int x1), (2, .int x2), (3, .int x3), (4, .int x4), (5, .int x5), (6, .int x6)] [] σ) (hf : wX9_along_B9 post rc9 x0 x1 x2 x3 x4 x5 x6 σ) : WG_ G p l e R s m args below meth c (MQ below (QI_ G post) args s 0 0 (FR_ G)) BN_ 9 9 [(0, rv_ x0), (1, .int x1), (2, .int x2), (3, .int x3), (4, .int x4), (5, .int x5), (6, .int x6)] [] σ := by
  have ⟨X, hlk, hr, hRf, hRl, hRc, hnm⟩ := Y
  have ⟨⟨hx, hb, _, hown, hts⟩, _, _⟩ := X
  intro H locs cells slots ls hP hL hB hl
  obtain ⟨rfl, rfl⟩ := hB
  unfold wX9_along_B9 at hf
  refine lv_iload hx hb dX9_along_9 (lv_at hl 5 rfl) ?_
  refine lv_iconst (v := 2) hx hb dX9_along_11 (by decide) ?_
  refine lv_icmp_ne (tgt := 32) hx hb dX9_along_12 (by decide) (fun c18 => ?_) (fun c18 => ?_)
  · have hf := hf.1 c18
    exact sX9_along_L32 Y hrc9 hf _ _ _ _ _ hP hL ⟨rfl, rfl⟩ (lv_sub hl [0, 1, 2, 3, 4, 5, 6] rfl)
  · have hf := hf.2 c18
    refine p_aload_n hx hb dX9_along_15 rfl (lv_at hl 0 rfl) ?_
    refine lv_iload_n hx hb dX9_along_16 rfl (lv_at hl 1 rfl) ?_
    refine lv_iload hx hb dX9_along_17 (lv_at hl 6 rfl) ?_
    obtain ⟨ht19, hf⟩ := hf
    refine p_calli hL (p_runV X cf8_ hP ht19 (metX9_next l G _ _ _ _ _ X.2.2 hf) (cwV 2 hts (lw_V q1528 q1530 qs57 q106 q1531) rfl rfl rfl (by decide +kernel) ⟨Nat.le_trans (Nat.le_of_ble_eq_true rfl) hRf, Nat.le_trans (Nat.le_of_ble_eq_true rfl) hRl⟩) rfl hl.1 rfl (by decide) dX9_along_19 ⟨Nat.zero_le _, Nat.zero_le _⟩) (fun r20 σ₁ H locs hf hP hL => ?_)
    obtain ⟨e₁, hf⟩ := hf
    rw [e₁] at hP
    have hl := lv_sub hl [0, 1, 2, 3, 4, 5] rfl
    refine p_istore (i := 6) hx hb dX9_along_22 hl (by decide) ⟨⟨ne_ rfl, Or.inl (ne_ rfl)⟩, ⟨⟨ne_ rfl, Or.inl (ne_ rfl)⟩, ⟨⟨ne_ rfl, Or.inl (ne_ rfl)⟩, ⟨⟨ne_ rfl, Or.inl (ne_ rfl)⟩, ⟨⟨ne_ rfl, Or.inl (ne_ rfl)⟩, ⟨⟨ne_ rfl, Or.inr rfl⟩, trivial⟩⟩⟩⟩⟩⟩ (fun ls hl => ?_)
    refine lv_iload hx hb dX9_along_24 (lv_at hl 0 rfl) ?_
    refine lv_if_ge (tgt := 32) hx hb dX9_along_26 (by decide) (fun c21 => ?_) (fun c21 => ?_)
    · have hf := hf.1 c21
      exact sX9_along_L32 Y hrc9 hf _ _ _ _ _ hP hL ⟨rfl, rfl⟩ (lv_sub hl [1, 2, 3, 4, 5, 6, 0] rfl)
    · have hf := hf.2 c21
      refine lv_iload hx hb dX9_along_29 (lv_at hl 5 rfl) ?_
      exact p_iret X hlk hP hL (Nat.le_refl _) (Nat.le_refl _) hr dX9_along_31 hf
set_option maxHeartbeats 4000000 in
theorem sX9_along_L9 {G : GG_} {p : Program} {l : Launch} {e : Env} {R : Room} {s : State} {m : MethodId} {args : Array Value} {below : List Frame} {meth : Method} {c : Code} (Y : MX_ G p R s m args meth c cX9_along 9 RX9 (some Jvm.ClassFile.FieldType.int) 6 139 0 0 "along") {post : Int32 → Hp → Prop} {x0 : Nat} {x1 : Int32} {x2 : Int32} {x3 : Int32} {x4 : Int32} {x5 : Int32} {x6 : Int32} {σ : Hp} (hf : wX9_along_L9 post x0 x1 x2 x3 x4 x5 x6 σ) : WG_ G p l e R s m args below meth c (MQ below (QI_ G post) args s 0 0 (FR_ G)) BN_ 9 9 [(0, rv_ x0), (1, .int x1), (2, .int x2), (3, .int x3), (4, .int x4), (5, .int x5), (6, .int x6)] [] σ := by
  unfold wX9_along_L9 at hf
  obtain ⟨I, μ, h0, hI⟩ := hf
  have key : ∀ (n : Nat) (x4 : Int32) (x5 : Int32) (x6 : Int32) (σ : Hp), I x4 x5 x6 σ → μ x4 x5 x6 σ < n → WG_ G p l e R s m args below meth c (MQ below (QI_ G post) args s 0 0 (FR_ G)) BN_ 9 9 [(0, rv_ x0), (1, .int x1), (2, .int x2), (3, .int x3), (4, .int x4), (5, .int x5), (6, .int x6)] [] σ := by
    intro n
    induction n with
    | zero => intro x4 x5 x6 σ _ h; exact absurd h (Nat.not_lt_zero _)
    | succ n ih => intro x4 x5 x6 σ hi hn; exact sX9_along_B9 Y (fun x4' x5' x6' σ' h => ih x4' x5' x6' σ' h.1 (Nat.lt_of_lt_of_le h.2 (Nat.le_of_lt_succ hn))) (hI x4 x5 x6 σ hi)
  exact key _ _ _ _ _ h0 (Nat.lt_succ_self _)
set_option maxHeartbeats 4000000 in
theorem sX9_along {G : GG_} {p : Program} {l : Launch} {e : Env} {R : Room} {s : State} {m : MethodId} {args : Array Value} {below : List Frame} {meth : Method} {c : Code} (Y : MX_ G p R s m args meth c cX9_along 9 RX9 (some Jvm.ClassFile.FieldType.int) 6 139 0 0 "along") {post : Int32 → Hp → Prop} {x0 : Nat} {x1 : Int32} {x2 : Int32} {x3 : Int32} {σ : Hp} (hf : wX9_along x0 x1 x2 x3 σ post) : WG_ G p l e R s m args below meth c (MQ below (QI_ G post) args s 0 0 (FR_ G)) BN_ 9 0 [(0, rv_ x0), (1, .int x1), (2, .int x2), (3, .int x3)] [] σ := by
  have ⟨X, hlk, hr, hRf, hRl, hRc, hnm⟩ := Y
  have ⟨⟨hx, hb, _, hown, hts⟩, _, _⟩ := X
  intro H locs cells slots ls hP hL hB hl
  obtain ⟨rfl, rfl⟩ := hB
  unfold wX9_along at hf
  refine lv_iconst (v := 0) hx hb dX9_along_0 (by decide) ?_
  refine p_istore (i := 4) hx hb dX9_along_1 hl (by decide) ⟨⟨ne_ rfl, Or.inl (ne_ rfl)⟩, ⟨⟨ne_ rfl, Or.inl (ne_ rfl)⟩, ⟨⟨ne_ rfl, Or.inl (ne_ rfl)⟩, ⟨⟨ne_ rfl, Or.inr rfl⟩, trivial⟩⟩⟩⟩ (fun ls hl => ?_)
  refine lv_iconst (v := 0) hx hb dX9_along_3 (by decide) ?_
  refine p_istore (i := 5) hx hb dX9_along_4 hl (by decide) ⟨⟨ne_ rfl, Or.inr rfl⟩, ⟨⟨ne_ rfl, Or.inl (ne_ rfl)⟩, ⟨⟨ne_ rfl, Or.inl (ne_ rfl)⟩, ⟨⟨ne_ rfl, Or.inl (ne_ rfl)⟩, ⟨⟨ne_ rfl, Or.inl (ne_ rfl)⟩, trivial⟩⟩⟩⟩⟩ (fun ls hl => ?_)
  refine lv_iconst (v := (-1)) hx hb dX9_along_6 (by decide) ?_
  refine p_istore (i := 6) hx hb dX9_along_7 hl (by decide) ⟨⟨ne_ rfl, Or.inr rfl⟩, ⟨⟨ne_ rfl, Or.inl (ne_ rfl)⟩, ⟨⟨ne_ rfl, Or.inl (ne_ rfl)⟩, ⟨⟨ne_ rfl, Or.inl (ne_ rfl)⟩, ⟨⟨ne_ rfl, Or.inl (ne_ rfl)⟩, ⟨⟨ne_ rfl, Or.inl (ne_ rfl)⟩, trivial⟩⟩⟩⟩⟩⟩ (fun ls hl => ?_)
  exact sX9_along_L9 Y hf _ _ _ _ _ hP hL ⟨rfl, rfl⟩ (lv_sub hl [3, 4, 5, 6, 2, 1, 0] rfl)
set_option maxHeartbeats 4000000 in
theorem metX9_along (l : Launch) (G : GG_) (x0 : Nat) (x1 : Int32) (x2 : Int32) (x3 : Int32) (σ : Hp) (post : Int32 → Hp → Prop) (hG : GOK_ G) (hf : wX9_along x0 x1 x2 x3 σ post) : Met l yX9_along (ws_ yX9_along cX9_along 9 (some Jvm.ClassFile.FieldType.int)) { frames := 6, cells := 0, slots := 0, locals := 139 } (PC_ G [rv_ x0, .int x1, .int x2, .int x3] σ) (QI_ G post) 0 0 (FR_ G) := by
  refine Met.ofW (cc := cX9_along) (maxL := 9) (ret := (some Jvm.ClassFile.FieldType.int)) (by decide) rfl ?_
  intro p e s m args below meth c s₁ B hml hv
  obtain ⟨rfl, hP, hW⟩ := hv
  have hts := atoms_spec (ws := ws_ yX9_along cX9_along 9 (some Jvm.ClassFile.FieldType.int)) B.pre
  have hts : ∀ w ∈ lw_all, w.before _ s = true := fun w h => hts w (List.mem_cons_of_mem _ h)
  rw [lg_entry_eq]
  have hl := en_entry [rv_ x0, .int x1, .int x2, .int x3] [1, 1, 1, 1] (n := 9) (ca_r (ca_i (ca_i (ca_i ca_n)))) (by decide)
  exact sX9_along ⟨⟨⟨B.exec, B.bytes, hml, findClass_of_methodNamed B.named, hts⟩, hW, hG⟩, B.notSynchronized, B.returns, Nat.le_refl _, Nat.le_refl _, ⟨rfl, rfl⟩, (name_of_methodNamed B.named B.method).1⟩ hf _ _ _ _ _ hP (LO_nil G) ⟨rfl, rfl⟩ hl
abbrev cX9_measure : ByteArray := prog_11_method_42_code
def yX9_measure : MethodName := ⟨RX9, "measure", "(I)I"⟩
theorem dX9_measure_0 : decode cX9_measure 0 = .ok (.aload_n 0, 1) := by decide +kernel
theorem dX9_measure_1 : decode cX9_measure 1 = .ok (.invokevirtual 211, 3) := by decide +kernel
theorem dX9_measure_4 : decode cX9_measure 4 = .ok (.iload_n 1, 1) := by decide +kernel
theorem dX9_measure_5 : decode cX9_measure 5 = .ok (.bipush 20, 2) := by decide +kernel
theorem dX9_measure_7 : decode cX9_measure 7 = .ok (.iadd, 1) := by decide +kernel
theorem dX9_measure_8 : decode cX9_measure 8 = .ok (.istore_n 2, 1) := by decide +kernel
theorem dX9_measure_9 : decode cX9_measure 9 = .ok (.iconst 0, 1) := by decide +kernel
theorem dX9_measure_10 : decode cX9_measure 10 = .ok (.istore_n 3, 1) := by decide +kernel
theorem dX9_measure_11 : decode cX9_measure 11 = .ok (.iload_n 3, 1) := by decide +kernel
theorem dX9_measure_12 : decode cX9_measure 12 = .ok (.aload_n 0, 1) := by decide +kernel
theorem dX9_measure_13 : decode cX9_measure 13 = .ok (.getfield 208, 3) := by decide +kernel
theorem dX9_measure_16 : decode cX9_measure 16 = .ok (.if_icmp .ge 58, 3) := by decide +kernel
theorem dX9_measure_19 : decode cX9_measure 19 = .ok (.aload_n 0, 1) := by decide +kernel
theorem dX9_measure_20 : decode cX9_measure 20 = .ok (.getfield 57, 3) := by decide +kernel
theorem dX9_measure_23 : decode cX9_measure 23 = .ok (.iload_n 3, 1) := by decide +kernel
theorem dX9_measure_24 : decode cX9_measure 24 = .ok (.iaload, 1) := by decide +kernel
theorem dX9_measure_25 : decode cX9_measure 25 = .ok (.istore 4, 2) := by decide +kernel
theorem dX9_measure_27 : decode cX9_measure 27 = .ok (.aload_n 0, 1) := by decide +kernel
theorem dX9_measure_28 : decode cX9_measure 28 = .ok (.getfield 60, 3) := by decide +kernel
theorem dX9_measure_31 : decode cX9_measure 31 = .ok (.iload 4, 2) := by decide +kernel
theorem dX9_measure_33 : decode cX9_measure 33 = .ok (.iload_n 2, 1) := by decide +kernel
theorem dX9_measure_34 : decode cX9_measure 34 = .ok (.iastore, 1) := by decide +kernel
theorem dX9_measure_35 : decode cX9_measure 35 = .ok (.aload_n 0, 1) := by decide +kernel
theorem dX9_measure_36 : decode cX9_measure 36 = .ok (.getfield 63, 3) := by decide +kernel
theorem dX9_measure_39 : decode cX9_measure 39 = .ok (.iload 4, 2) := by decide +kernel
theorem dX9_measure_41 : decode cX9_measure 41 = .ok (.aload_n 0, 1) := by decide +kernel
theorem dX9_measure_42 : decode cX9_measure 42 = .ok (.iload 4, 2) := by decide +kernel
theorem dX9_measure_44 : decode cX9_measure 44 = .ok (.iconst 0, 1) := by decide +kernel
theorem dX9_measure_45 : decode cX9_measure 45 = .ok (.iconst 0, 1) := by decide +kernel
theorem dX9_measure_46 : decode cX9_measure 46 = .ok (.invokevirtual 214, 3) := by decide +kernel
theorem dX9_measure_49 : decode cX9_measure 49 = .ok (.sipush 2047, 3) := by decide +kernel
theorem dX9_measure_52 : decode cX9_measure 52 = .ok (.iadd, 1) := by decide +kernel
theorem dX9_measure_53 : decode cX9_measure 53 = .ok (.sipush 2048, 3) := by decide +kernel
theorem dX9_measure_56 : decode cX9_measure 56 = .ok (.idiv, 1) := by decide +kernel
theorem dX9_measure_57 : decode cX9_measure 57 = .ok (.iastore, 1) := by decide +kernel
theorem dX9_measure_58 : decode cX9_measure 58 = .ok (.iload_n 2, 1) := by decide +kernel
theorem dX9_measure_59 : decode cX9_measure 59 = .ok (.aload_n 0, 1) := by decide +kernel
theorem dX9_measure_60 : decode cX9_measure 60 = .ok (.getfield 63, 3) := by decide +kernel
theorem dX9_measure_63 : decode cX9_measure 63 = .ok (.iload 4, 2) := by decide +kernel
theorem dX9_measure_65 : decode cX9_measure 65 = .ok (.iaload, 1) := by decide +kernel
theorem dX9_measure_66 : decode cX9_measure 66 = .ok (.iadd, 1) := by decide +kernel
theorem dX9_measure_67 : decode cX9_measure 67 = .ok (.istore_n 2, 1) := by decide +kernel
theorem dX9_measure_68 : decode cX9_measure 68 = .ok (.iinc 3 1, 3) := by decide +kernel
theorem dX9_measure_71 : decode cX9_measure 71 = .ok (.goto (-60), 3) := by decide +kernel
theorem dX9_measure_74 : decode cX9_measure 74 = .ok (.iload_n 2, 1) := by decide +kernel
theorem dX9_measure_75 : decode cX9_measure 75 = .ok (.iconst 1, 1) := by decide +kernel
theorem dX9_measure_76 : decode cX9_measure 76 = .ok (.iadd, 1) := by decide +kernel
theorem dX9_measure_77 : decode cX9_measure 77 = .ok (.iload_n 1, 1) := by decide +kernel
theorem dX9_measure_78 : decode cX9_measure 78 = .ok (.isub, 1) := by decide +kernel
theorem dX9_measure_79 : decode cX9_measure 79 = .ok (.ireturn, 1) := by decide +kernel
/-- WriteOnceDiscModel.measure(I)I -/
def wX9_measure_B11 (post : Int32 → Hp → Prop) (rc11 : Int32 → Int32 → Hp → Prop) (x0 : Nat) (x1 : Int32) (x2 : Int32) (x3 : Int32) (σ : Hp) : Prop :=
(tg_ σ x0 = 9 ∧ (((fI_ σ 8 22 x0) ≤ x3 →
  post ((x2 + (1 : Int32)) - x1) σ) ∧
 (¬ (fI_ σ 8 22 x0) ≤ x3 →
  (tg_ σ (fR_ σ 8 24 x0) = 102 ∧ (vp_in x3 (ln_ σ (fR_ σ 8 24 x0)) ∧ (∀ y5 : Int32, y5 = (aI_ σ (fR_ σ 8 24 x0) (x3).toNatClampNeg) → (tg_ σ (fR_ σ 8 25 x0) = 102 ∧ (lo_ σ < (fR_ σ 8 25 x0) ∧ (vp_in y5 (ln_ σ (fR_ σ 8 25 x0)) ∧ (∀ σ9, σ9 = wI_ σ (fR_ σ 8 25 x0) (y5).toNatClampNeg x2 → (wX9_along x0 y5 (0 : Int32) (0 : Int32) σ9 (fun r10 σ11 => (tg_ σ11 (fR_ σ9 8 26 x0) = 102 ∧ (lo_ σ11 < (fR_ σ9 8 26 x0) ∧ (vp_in y5 (ln_ σ11 (fR_ σ9 8 26 x0)) ∧ (∀ σ15, σ15 = wI_ σ11 (fR_ σ9 8 26 x0) (y5).toNatClampNeg ((r10 + (2047 : Int32)) / (2048 : Int32)) → (tg_ σ15 x0 = 9 ∧ (tg_ σ15 (fR_ σ15 8 26 x0) = 102 ∧ (vp_in y5 (ln_ σ15 (fR_ σ15 8 26 x0)) ∧ (∀ y19 : Int32, y19 = (x2 + (aI_ σ15 (fR_ σ15 8 26 x0) (y5).toNatClampNeg)) → (∀ y20 : Int32, y20 = x3 + 1 → rc11 y19 y20 σ15)))))))))))))))))))))
def wX9_measure_L11 (post : Int32 → Hp → Prop) (x0 : Nat) (x1 : Int32) (x2 : Int32) (x3 : Int32) (σ : Hp) : Prop :=
 ∃ (I : Int32 → Int32 → Hp → Prop) (μ : Int32 → Int32 → Hp → Nat), I x2 x3 σ ∧ ∀ (x2 : Int32) (x3 : Int32) (σ : Hp), I x2 x3 σ → wX9_measure_B11 post (fun x2' x3' σ' => I x2' x3' σ' ∧ μ x2' x3' σ' < μ x2 x3 σ) x0 x1 x2 x3 σ
def wX9_measure (x0 : Nat) (x1 : Int32) (σ : Hp) (post : Int32 → Hp → Prop) : Prop :=
(tg_ σ x0 = 9 ∧ (wX9_tables x0  σ (fun σ22 => (∀ y23 : Int32, y23 = (x1 + (20 : Int32)) → wX9_measure_L11 post x0 x1 y23 (0 : Int32) σ22))))
set_option maxHeartbeats 4000000 in
theorem sX9_measure_B11 {G : GG_} {p : Program} {l : Launch} {e : Env} {R : Room} {s : State} {m : MethodId} {args : Array Value} {below : List Frame} {meth : Method} {c : Code} (Y : MX_ G p R s m args meth c cX9_measure 5 RX9 (some Jvm.ClassFile.FieldType.int) 7 167 0 0 "measure") {post : Int32 → Hp → Prop} {rc11 : Int32 → Int32 → Hp → Prop} {x0 : Nat} {x1 : Int32} {x2 : Int32} {x3 : Int32} {σ : Hp} (hrc11 : ∀ (x2 : Int32) (x3 : Int32) (σ : Hp), rc11 x2 x3 σ → WG_ G p l e R s m args below meth c (MQ below (QI_ G post) args s 0 0 (FR_ G)) BN_ 5 11 [(0, rv_ x0), (1, .int x1), (2, .int x2), (3, .int x3)] [] σ) (hf : wX9_measure_B11 post rc11 x0 x1 x2 x3 σ) : WG_ G p l e R s m args below meth c (MQ below (QI_ G post) args s 0 0 (FR_ G)) BN_ 5 11 [(0, rv_ x0), (1, .int x1), (2, .int x2), (3, .int x3)] [] σ := by
  have ⟨X, hlk, hr, hRf, hRl, hRc, hnm⟩ := Y
  have ⟨⟨hx, hb, _, hown, hts⟩, _, _⟩ := X
  intro H locs cells slots ls hP hL hB hl
  obtain ⟨rfl, rfl⟩ := hB
  unfold wX9_measure_B11 at hf
  refine lv_iload_n hx hb dX9_measure_11 rfl (lv_at hl 3 rfl) ?_
  refine p_aload_n hx hb dX9_measure_12 rfl (lv_at hl 0 rfl) ?_
  obtain ⟨ht1, hf⟩ := hf
  refine p_gI X cf8_ (k := 22) (by decide) rfl hP ht1 q1317 (fun _ h => h) dX9_measure_13 ?_
  refine lv_icmp_ge (tgt := 74) hx hb dX9_measure_16 (by decide) (fun c2 => ?_) (fun c2 => ?_)
  · have hf := hf.1 c2
    refine lv_iload_n hx hb dX9_measure_74 rfl (lv_at hl 2 rfl) ?_
    refine lv_iconst (v := 1) hx hb dX9_measure_75 (by decide) ?_
    refine lv_iadd hx hb dX9_measure_76 ?_
    refine lv_iload_n hx hb dX9_measure_77 rfl (lv_at hl 1 rfl) ?_
    refine lv_isub hx hb dX9_measure_78 ?_
    exact p_iret X hlk hP hL (Nat.le_refl _) (Nat.le_refl _) hr dX9_measure_79 hf
  · have hf := hf.2 c2
    refine p_aload_n hx hb dX9_measure_19 rfl (lv_at hl 0 rfl) ?_
    refine p_gR X cf8_ (k := 24) (by decide) rfl hP ht1 q1318 (fun _ h => h) dX9_measure_20 ?_
    refine lv_iload_n hx hb dX9_measure_23 rfl (lv_at hl 3 rfl) ?_
    obtain ⟨ht3, hf⟩ := hf
    obtain ⟨hi4, hf⟩ := hf
    refine p_iald X hP ht3 hi4 dX9_measure_24 ?_
    refine lv_topi (fun y5 hy5 => ?_)
    have hf := hf y5 hy5
    refine p_istore (i := 4) hx hb dX9_measure_25 hl (by decide) ⟨⟨ne_ rfl, Or.inl (ne_ rfl)⟩, ⟨⟨ne_ rfl, Or.inl (ne_ rfl)⟩, ⟨⟨ne_ rfl, Or.inl (ne_ rfl)⟩, ⟨⟨ne_ rfl, Or.inr rfl⟩, trivial⟩⟩⟩⟩ (fun ls hl => ?_)
    refine p_aload_n hx hb dX9_measure_27 rfl (lv_at hl 1 rfl) ?_
    refine p_gR X cf8_ (k := 25) (by decide) rfl hP ht1 q1319 (fun _ h => h) dX9_measure_28 ?_
    refine lv_iload hx hb dX9_measure_31 (lv_at hl 0 rfl) ?_
    refine lv_iload_n hx hb dX9_measure_33 rfl (lv_at hl 3 rfl) ?_
    obtain ⟨ht6, hf⟩ := hf
    obtain ⟨hlo7, hf⟩ := hf
    obtain ⟨hi8, hf⟩ := hf
    refine p_iast X hP hL ht6 hlo7 hi8 dX9_measure_34 (fun H locs hP hL => ?_)
    refine p_nmP hP (fun σ9 hσ9 hP => ?_)
    have hf := hf σ9 hσ9
    have ht1 : tg_ σ9 x0 = 9 := by rw [hσ9]; exact ht1
    refine p_aload_n hx hb dX9_measure_35 rfl (lv_at hl 1 rfl) ?_
    refine p_gR X cf8_ (k := 26) (by decide) rfl hP ht1 q1320 (fun _ h => h) dX9_measure_36 ?_
    refine lv_iload hx hb dX9_measure_39 (lv_at hl 0 rfl) ?_
    refine p_aload_n hx hb dX9_measure_41 rfl (lv_at hl 1 rfl) ?_
    refine lv_iload hx hb dX9_measure_42 (lv_at hl 0 rfl) ?_
    refine lv_iconst (v := 0) hx hb dX9_measure_44 (by decide) ?_
    refine lv_iconst (v := 0) hx hb dX9_measure_45 (by decide) ?_
    refine p_calli hL (p_runV X cf8_ hP ht1 (metX9_along l G _ _ _ _ _ _ X.2.2 hf) (cwV 3 hts (lw_V q1544 q1546 qs58 q106 q1547) rfl rfl rfl (by decide +kernel) ⟨Nat.le_trans (Nat.le_of_ble_eq_true rfl) hRf, Nat.le_trans (Nat.le_of_ble_eq_true rfl) hRl⟩) rfl hl.1 rfl (by rw [(ca_i (ca_r ca_n))]; decide) dX9_measure_46 ⟨Nat.zero_le _, Nat.zero_le _⟩) (fun r10 σ11 H locs hf hP hL => ?_)
    refine lv_sipush (v := 2047) hx hb dX9_measure_49 (by decide) ?_
    refine lv_iadd hx hb dX9_measure_52 ?_
    refine lv_sipush (v := 2048) hx hb dX9_measure_53 (by decide) ?_
    refine lv_idiv hx hb dX9_measure_56 (by decide) ?_
    obtain ⟨ht12, hf⟩ := hf
    obtain ⟨hlo13, hf⟩ := hf
    obtain ⟨hi14, hf⟩ := hf
    refine p_iast X hP hL ht12 hlo13 hi14 dX9_measure_57 (fun H locs hP hL => ?_)
    refine p_nmP hP (fun σ15 hσ15 hP => ?_)
    have hf := hf σ15 hσ15
    refine lv_iload_n hx hb dX9_measure_58 rfl (lv_at hl 3 rfl) ?_
    refine p_aload_n hx hb dX9_measure_59 rfl (lv_at hl 1 rfl) ?_
    obtain ⟨ht16, hf⟩ := hf
    refine p_gR X cf8_ (k := 26) (by decide) rfl hP ht16 q1320 (fun _ h => h) dX9_measure_60 ?_
    refine lv_iload hx hb dX9_measure_63 (lv_at hl 0 rfl) ?_
    obtain ⟨ht17, hf⟩ := hf
    obtain ⟨hi18, hf⟩ := hf
    refine p_iald X hP ht17 hi18 dX9_measure_65 ?_
    refine lv_iadd hx hb dX9_measure_66 ?_
    have hl := lv_sub hl [1, 2, 4] rfl
    refine lv_topi (fun y19 hy19 => ?_)
    have hf := hf y19 hy19
    refine p_istore_n (i := 2) hx hb dX9_measure_67 rfl hl (by decide) ⟨⟨ne_ rfl, Or.inl (ne_ rfl)⟩, ⟨⟨ne_ rfl, Or.inr rfl⟩, ⟨⟨ne_ rfl, Or.inl (ne_ rfl)⟩, trivial⟩⟩⟩ (fun ls hl => ?_)
    have hl := lv_sub hl [3, 0, 1, 2] rfl
    refine p_iincc (i := 3) (k := 1) hx hb (by decide) dX9_measure_68 hl (by decide) ⟨⟨ne_ rfl, Or.inr rfl⟩, ⟨⟨ne_ rfl, Or.inl (ne_ rfl)⟩, ⟨⟨ne_ rfl, Or.inl (ne_ rfl)⟩, trivial⟩⟩⟩ (fun y20 hy20 ls hl => ?_)
    have hf := hf y20 hy20
    refine lv_goto (tgt := 11) hx hb dX9_measure_71 (by decide) ?_
    exact hrc11 _ _ _ hf _ _ _ _ _ hP hL ⟨rfl, rfl⟩ (lv_sub hl [2, 3, 1, 0] rfl)
set_option maxHeartbeats 4000000 in
theorem sX9_measure_L11 {G : GG_} {p : Program} {l : Launch} {e : Env} {R : Room} {s : State} {m : MethodId} {args : Array Value} {below : List Frame} {meth : Method} {c : Code} (Y : MX_ G p R s m args meth c cX9_measure 5 RX9 (some Jvm.ClassFile.FieldType.int) 7 167 0 0 "measure") {post : Int32 → Hp → Prop} {x0 : Nat} {x1 : Int32} {x2 : Int32} {x3 : Int32} {σ : Hp} (hf : wX9_measure_L11 post x0 x1 x2 x3 σ) : WG_ G p l e R s m args below meth c (MQ below (QI_ G post) args s 0 0 (FR_ G)) BN_ 5 11 [(0, rv_ x0), (1, .int x1), (2, .int x2), (3, .int x3)] [] σ := by
  unfold wX9_measure_L11 at hf
  obtain ⟨I, μ, h0, hI⟩ := hf
  have key : ∀ (n : Nat) (x2 : Int32) (x3 : Int32) (σ : Hp), I x2 x3 σ → μ x2 x3 σ < n → WG_ G p l e R s m args below meth c (MQ below (QI_ G post) args s 0 0 (FR_ G)) BN_ 5 11 [(0, rv_ x0), (1, .int x1), (2, .int x2), (3, .int x3)] [] σ := by
    intro n
    induction n with
    | zero => intro x2 x3 σ _ h; exact absurd h (Nat.not_lt_zero _)
    | succ n ih => intro x2 x3 σ hi hn; exact sX9_measure_B11 Y (fun x2' x3' σ' h => ih x2' x3' σ' h.1 (Nat.lt_of_lt_of_le h.2 (Nat.le_of_lt_succ hn))) (hI x2 x3 σ hi)
  exact key _ _ _ _ h0 (Nat.lt_succ_self _)
set_option maxHeartbeats 4000000 in
theorem sX9_measure {G : GG_} {p : Program} {l : Launch} {e : Env} {R : Room} {s : State} {m : MethodId} {args : Array Value} {below : List Frame} {meth : Method} {c : Code} (Y : MX_ G p R s m args meth c cX9_measure 5 RX9 (some Jvm.ClassFile.FieldType.int) 7 167 0 0 "measure") {post : Int32 → Hp → Prop} {x0 : Nat} {x1 : Int32} {σ : Hp} (hf : wX9_measure x0 x1 σ post) : WG_ G p l e R s m args below meth c (MQ below (QI_ G post) args s 0 0 (FR_ G)) BN_ 5 0 [(0, rv_ x0), (1, .int x1)] [] σ := by
  have ⟨X, hlk, hr, hRf, hRl, hRc, hnm⟩ := Y
  have ⟨⟨hx, hb, _, hown, hts⟩, _, _⟩ := X
  intro H locs cells slots ls hP hL hB hl
  obtain ⟨rfl, rfl⟩ := hB
  unfold wX9_measure at hf
  refine p_aload_n hx hb dX9_measure_0 rfl (lv_at hl 0 rfl) ?_
  obtain ⟨ht21, hf⟩ := hf
  refine p_callv hL (p_runV X cf8_ hP ht21 (metX9_tables l G _ _ _ X.2.2 hf) (cwV 0 hts (lw_V q1524 q1526 qs56 q106 q1527) rfl rfl rfl (by decide +kernel) ⟨Nat.le_trans (Nat.le_of_ble_eq_true rfl) hRf, Nat.le_trans (Nat.le_of_ble_eq_true rfl) hRl⟩) rfl hl.1 rfl (by decide) dX9_measure_1 ⟨Nat.zero_le _, Nat.zero_le _⟩) (fun σ22 H locs hf hP hL => ?_)
  refine lv_iload_n hx hb dX9_measure_4 rfl (lv_at hl 1 rfl) ?_
  refine lv_bipush (v := 20) hx hb dX9_measure_5 (by decide) ?_
  refine lv_iadd hx hb dX9_measure_7 ?_
  refine lv_topi (fun y23 hy23 => ?_)
  have hf := hf y23 hy23
  refine p_istore_n (i := 2) hx hb dX9_measure_8 rfl hl (by decide) ⟨⟨ne_ rfl, Or.inl (ne_ rfl)⟩, ⟨⟨ne_ rfl, Or.inr rfl⟩, trivial⟩⟩ (fun ls hl => ?_)
  refine lv_iconst (v := 0) hx hb dX9_measure_9 (by decide) ?_
  refine p_istore_n (i := 3) hx hb dX9_measure_10 rfl hl (by decide) ⟨⟨ne_ rfl, Or.inr rfl⟩, ⟨⟨ne_ rfl, Or.inl (ne_ rfl)⟩, ⟨⟨ne_ rfl, Or.inl (ne_ rfl)⟩, trivial⟩⟩⟩ (fun ls hl => ?_)
  exact sX9_measure_L11 Y hf _ _ _ _ _ hP hL ⟨rfl, rfl⟩ (lv_sub hl [2, 3, 1, 0] rfl)
set_option maxHeartbeats 4000000 in
theorem metX9_measure (l : Launch) (G : GG_) (x0 : Nat) (x1 : Int32) (σ : Hp) (post : Int32 → Hp → Prop) (hG : GOK_ G) (hf : wX9_measure x0 x1 σ post) : Met l yX9_measure (ws_ yX9_measure cX9_measure 5 (some Jvm.ClassFile.FieldType.int)) { frames := 7, cells := 0, slots := 0, locals := 167 } (PC_ G [rv_ x0, .int x1] σ) (QI_ G post) 0 0 (FR_ G) := by
  refine Met.ofW (cc := cX9_measure) (maxL := 5) (ret := (some Jvm.ClassFile.FieldType.int)) (by decide) rfl ?_
  intro p e s m args below meth c s₁ B hml hv
  obtain ⟨rfl, hP, hW⟩ := hv
  have hts := atoms_spec (ws := ws_ yX9_measure cX9_measure 5 (some Jvm.ClassFile.FieldType.int)) B.pre
  have hts : ∀ w ∈ lw_all, w.before _ s = true := fun w h => hts w (List.mem_cons_of_mem _ h)
  rw [lg_entry_eq]
  have hl := en_entry [rv_ x0, .int x1] [1, 1] (n := 5) (ca_r (ca_i ca_n)) (by decide)
  exact sX9_measure ⟨⟨⟨B.exec, B.bytes, hml, findClass_of_methodNamed B.named, hts⟩, hW, hG⟩, B.notSynchronized, B.returns, Nat.le_refl _, Nat.le_refl _, ⟨rfl, rfl⟩, (name_of_methodNamed B.named B.method).1⟩ hf _ _ _ _ _ hP (LO_nil G) ⟨rfl, rfl⟩ hl
abbrev cX9_letters : ByteArray := prog_11_method_41_code
def yX9_letters : MethodName := ⟨RX9, "letters", "(IIIIII)V"⟩
theorem dX9_letters_0 : decode cX9_letters 0 = .ok (.aload_n 0, 1) := by decide +kernel
theorem dX9_letters_1 : decode cX9_letters 1 = .ok (.getfield 54, 3) := by decide +kernel
theorem dX9_letters_4 : decode cX9_letters 4 = .ok (.iload_n 1, 1) := by decide +kernel
theorem dX9_letters_5 : decode cX9_letters 5 = .ok (.iload_n 2, 1) := by decide +kernel
theorem dX9_letters_6 : decode cX9_letters 6 = .ok (.i2b, 1) := by decide +kernel
theorem dX9_letters_7 : decode cX9_letters 7 = .ok (.bastore, 1) := by decide +kernel
theorem dX9_letters_8 : decode cX9_letters 8 = .ok (.aload_n 0, 1) := by decide +kernel
theorem dX9_letters_9 : decode cX9_letters 9 = .ok (.getfield 54, 3) := by decide +kernel
theorem dX9_letters_12 : decode cX9_letters 12 = .ok (.iload_n 1, 1) := by decide +kernel
theorem dX9_letters_13 : decode cX9_letters 13 = .ok (.iconst 1, 1) := by decide +kernel
theorem dX9_letters_14 : decode cX9_letters 14 = .ok (.iadd, 1) := by decide +kernel
theorem dX9_letters_15 : decode cX9_letters 15 = .ok (.iload_n 3, 1) := by decide +kernel
theorem dX9_letters_16 : decode cX9_letters 16 = .ok (.i2b, 1) := by decide +kernel
theorem dX9_letters_17 : decode cX9_letters 17 = .ok (.bastore, 1) := by decide +kernel
theorem dX9_letters_18 : decode cX9_letters 18 = .ok (.aload_n 0, 1) := by decide +kernel
theorem dX9_letters_19 : decode cX9_letters 19 = .ok (.getfield 54, 3) := by decide +kernel
theorem dX9_letters_22 : decode cX9_letters 22 = .ok (.iload_n 1, 1) := by decide +kernel
theorem dX9_letters_23 : decode cX9_letters 23 = .ok (.iconst 2, 1) := by decide +kernel
theorem dX9_letters_24 : decode cX9_letters 24 = .ok (.iadd, 1) := by decide +kernel
theorem dX9_letters_25 : decode cX9_letters 25 = .ok (.iload 4, 2) := by decide +kernel
theorem dX9_letters_27 : decode cX9_letters 27 = .ok (.i2b, 1) := by decide +kernel
theorem dX9_letters_28 : decode cX9_letters 28 = .ok (.bastore, 1) := by decide +kernel
theorem dX9_letters_29 : decode cX9_letters 29 = .ok (.aload_n 0, 1) := by decide +kernel
theorem dX9_letters_30 : decode cX9_letters 30 = .ok (.getfield 54, 3) := by decide +kernel
theorem dX9_letters_33 : decode cX9_letters 33 = .ok (.iload_n 1, 1) := by decide +kernel
theorem dX9_letters_34 : decode cX9_letters 34 = .ok (.iconst 3, 1) := by decide +kernel
theorem dX9_letters_35 : decode cX9_letters 35 = .ok (.iadd, 1) := by decide +kernel
theorem dX9_letters_36 : decode cX9_letters 36 = .ok (.iload 5, 2) := by decide +kernel
theorem dX9_letters_38 : decode cX9_letters 38 = .ok (.i2b, 1) := by decide +kernel
theorem dX9_letters_39 : decode cX9_letters 39 = .ok (.bastore, 1) := by decide +kernel
theorem dX9_letters_40 : decode cX9_letters 40 = .ok (.aload_n 0, 1) := by decide +kernel
theorem dX9_letters_41 : decode cX9_letters 41 = .ok (.getfield 54, 3) := by decide +kernel
theorem dX9_letters_44 : decode cX9_letters 44 = .ok (.iload_n 1, 1) := by decide +kernel
theorem dX9_letters_45 : decode cX9_letters 45 = .ok (.iconst 4, 1) := by decide +kernel
theorem dX9_letters_46 : decode cX9_letters 46 = .ok (.iadd, 1) := by decide +kernel
theorem dX9_letters_47 : decode cX9_letters 47 = .ok (.iload 6, 2) := by decide +kernel
theorem dX9_letters_49 : decode cX9_letters 49 = .ok (.i2b, 1) := by decide +kernel
theorem dX9_letters_50 : decode cX9_letters 50 = .ok (.bastore, 1) := by decide +kernel
theorem dX9_letters_51 : decode cX9_letters 51 = .ok (.return_, 1) := by decide +kernel
/-- WriteOnceDiscModel.letters(IIIIII)V -/
def wX9_letters (x0 : Nat) (x1 : Int32) (x2 : Int32) (x3 : Int32) (x4 : Int32) (x5 : Int32) (x6 : Int32) (σ : Hp) (post : Hp → Prop) : Prop :=
(tg_ σ x0 = 9 ∧ (tg_ σ (fR_ σ 8 21 x0) = 100 ∧ (lo_ σ < (fR_ σ 8 21 x0) ∧ (vp_in x1 (ln_ σ (fR_ σ 8 21 x0)) ∧ (∀ σ5, σ5 = wI_ σ (fR_ σ 8 21 x0) (x1).toNatClampNeg (vp_nar .byte (x2).toInt8.toInt32) → (tg_ σ5 (fR_ σ5 8 21 x0) = 100 ∧ (lo_ σ5 < (fR_ σ5 8 21 x0) ∧ (vp_in (x1 + (1 : Int32)) (ln_ σ5 (fR_ σ5 8 21 x0)) ∧ (∀ σ9, σ9 = wI_ σ5 (fR_ σ5 8 21 x0) ((x1 + (1 : Int32))).toNatClampNeg (vp_nar .byte (x3).toInt8.toInt32) → (tg_ σ9 (fR_ σ9 8 21 x0) = 100 ∧ (lo_ σ9 < (fR_ σ9 8 21 x0) ∧ (vp_in (x1 + (2 : Int32)) (ln_ σ9 (fR_ σ9 8 21 x0)) ∧ (∀ σ13, σ13 = wI_ σ9 (fR_ σ9 8 21 x0) ((x1 + (2 : Int32))).toNatClampNeg (vp_nar .byte (x4).toInt8.toInt32) → (tg_ σ13 (fR_ σ13 8 21 x0) = 100 ∧ (lo_ σ13 < (fR_ σ13 8 21 x0) ∧ (vp_in (x1 + (3 : Int32)) (ln_ σ13 (fR_ σ13 8 21 x0)) ∧ (∀ σ17, σ17 = wI_ σ13 (fR_ σ13 8 21 x0) ((x1 + (3 : Int32))).toNatClampNeg (vp_nar .byte (x5).toInt8.toInt32) → (tg_ σ17 (fR_ σ17 8 21 x0) = 100 ∧ (lo_ σ17 < (fR_ σ17 8 21 x0) ∧ (vp_in (x1 + (4 : Int32)) (ln_ σ17 (fR_ σ17 8 21 x0)) ∧ (∀ σ21, σ21 = wI_ σ17 (fR_ σ17 8 21 x0) ((x1 + (4 : Int32))).toNatClampNeg (vp_nar .byte (x6).toInt8.toInt32) → post σ21)))))))))))))))))))))
set_option maxHeartbeats 4000000 in
theorem sX9_letters {G : GG_} {p : Program} {l : Launch} {e : Env} {R : Room} {s : State} {m : MethodId} {args : Array Value} {below : List Frame} {meth : Method} {c : Code} (Y : MX_ G p R s m args meth c cX9_letters 7 RX9 none 1 20 0 0 "letters") {post : Hp → Prop} {x0 : Nat} {x1 : Int32} {x2 : Int32} {x3 : Int32} {x4 : Int32} {x5 : Int32} {x6 : Int32} {σ : Hp} (hf : wX9_letters x0 x1 x2 x3 x4 x5 x6 σ post) : WG_ G p l e R s m args below meth c (MQ below (QV_ G post) args s 0 0 (FR_ G)) BN_ 7 0 [(0, rv_ x0), (1, .int x1), (2, .int x2), (3, .int x3), (4, .int x4), (5, .int x5), (6, .int x6)] [] σ := by
  have ⟨X, hlk, hr, hRf, hRl, hRc, hnm⟩ := Y
  have ⟨⟨hx, hb, _, hown, hts⟩, _, _⟩ := X
  intro H locs cells slots ls hP hL hB hl
  obtain ⟨rfl, rfl⟩ := hB
  unfold wX9_letters at hf
  refine p_aload_n hx hb dX9_letters_0 rfl (lv_at hl 0 rfl) ?_
  obtain ⟨ht1, hf⟩ := hf
  refine p_gR X cf8_ (k := 21) (by decide) rfl hP ht1 q1316 (fun _ h => h) dX9_letters_1 ?_
  refine lv_iload_n hx hb dX9_letters_4 rfl (lv_at hl 1 rfl) ?_
  refine lv_iload_n hx hb dX9_letters_5 rfl (lv_at hl 2 rfl) ?_
  refine lv_i2b hx hb dX9_letters_6 rfl ?_
  obtain ⟨ht2, hf⟩ := hf
  obtain ⟨hlo3, hf⟩ := hf
  obtain ⟨hi4, hf⟩ := hf
  refine p_bast X hP hL ht2 hlo3 hi4 dX9_letters_7 (fun H locs hP hL => ?_)
  refine p_nmP hP (fun σ5 hσ5 hP => ?_)
  have hf := hf σ5 hσ5
  have ht1 : tg_ σ5 x0 = 9 := by rw [hσ5]; exact ht1
  refine p_aload_n hx hb dX9_letters_8 rfl (lv_at hl 0 rfl) ?_
  refine p_gR X cf8_ (k := 21) (by decide) rfl hP ht1 q1316 (fun _ h => h) dX9_letters_9 ?_
  refine lv_iload_n hx hb dX9_letters_12 rfl (lv_at hl 1 rfl) ?_
  refine lv_iconst (v := 1) hx hb dX9_letters_13 (by decide) ?_
  refine lv_iadd hx hb dX9_letters_14 ?_
  refine lv_iload_n hx hb dX9_letters_15 rfl (lv_at hl 3 rfl) ?_
  refine lv_i2b hx hb dX9_letters_16 rfl ?_
  obtain ⟨ht6, hf⟩ := hf
  obtain ⟨hlo7, hf⟩ := hf
  obtain ⟨hi8, hf⟩ := hf
  refine p_bast X hP hL ht6 hlo7 hi8 dX9_letters_17 (fun H locs hP hL => ?_)
  refine p_nmP hP (fun σ9 hσ9 hP => ?_)
  have hf := hf σ9 hσ9
  have ht1 : tg_ σ9 x0 = 9 := by rw [hσ9]; exact ht1
  refine p_aload_n hx hb dX9_letters_18 rfl (lv_at hl 0 rfl) ?_
  refine p_gR X cf8_ (k := 21) (by decide) rfl hP ht1 q1316 (fun _ h => h) dX9_letters_19 ?_
  refine lv_iload_n hx hb dX9_letters_22 rfl (lv_at hl 1 rfl) ?_
  refine lv_iconst (v := 2) hx hb dX9_letters_23 (by decide) ?_
  refine lv_iadd hx hb dX9_letters_24 ?_
  refine lv_iload hx hb dX9_letters_25 (lv_at hl 4 rfl) ?_
  refine lv_i2b hx hb dX9_letters_27 rfl ?_
  obtain ⟨ht10, hf⟩ := hf
  obtain ⟨hlo11, hf⟩ := hf
  obtain ⟨hi12, hf⟩ := hf
  refine p_bast X hP hL ht10 hlo11 hi12 dX9_letters_28 (fun H locs hP hL => ?_)
  refine p_nmP hP (fun σ13 hσ13 hP => ?_)
  have hf := hf σ13 hσ13
  have ht1 : tg_ σ13 x0 = 9 := by rw [hσ13]; exact ht1
  refine p_aload_n hx hb dX9_letters_29 rfl (lv_at hl 0 rfl) ?_
  refine p_gR X cf8_ (k := 21) (by decide) rfl hP ht1 q1316 (fun _ h => h) dX9_letters_30 ?_
  refine lv_iload_n hx hb dX9_letters_33 rfl (lv_at hl 1 rfl) ?_
  refine lv_iconst (v := 3) hx hb dX9_letters_34 (by decide) ?_
  refine lv_iadd hx hb dX9_letters_35 ?_
  refine lv_iload hx hb dX9_letters_36 (lv_at hl 5 rfl) ?_
  refine lv_i2b hx hb dX9_letters_38 rfl ?_
  obtain ⟨ht14, hf⟩ := hf
  obtain ⟨hlo15, hf⟩ := hf
  obtain ⟨hi16, hf⟩ := hf
  refine p_bast X hP hL ht14 hlo15 hi16 dX9_letters_39 (fun H locs hP hL => ?_)
  refine p_nmP hP (fun σ17 hσ17 hP => ?_)
  have hf := hf σ17 hσ17
  have ht1 : tg_ σ17 x0 = 9 := by rw [hσ17]; exact ht1
  refine p_aload_n hx hb dX9_letters_40 rfl (lv_at hl 0 rfl) ?_
  refine p_gR X cf8_ (k := 21) (by decide) rfl hP ht1 q1316 (fun _ h => h) dX9_letters_41 ?_
  refine lv_iload_n hx hb dX9_letters_44 rfl (lv_at hl 1 rfl) ?_
  refine lv_iconst (v := 4) hx hb dX9_letters_45 (by decide) ?_
  refine lv_iadd hx hb dX9_letters_46 ?_
  refine lv_iload hx hb dX9_letters_47 (lv_at hl 6 rfl) ?_
  refine lv_i2b hx hb dX9_letters_49 rfl ?_
  obtain ⟨ht18, hf⟩ := hf
  obtain ⟨hlo19, hf⟩ := hf
  obtain ⟨hi20, hf⟩ := hf
  refine p_bast X hP hL ht18 hlo19 hi20 dX9_letters_50 (fun H locs hP hL => ?_)
  refine p_nmP hP (fun σ21 hσ21 hP => ?_)
  have hf := hf σ21 hσ21
  have ht1 : tg_ σ21 x0 = 9 := by rw [hσ21]; exact ht1
  exact p_vret X hlk hP hL (Nat.le_refl _) (Nat.le_refl _) hr dX9_letters_51 hf
set_option maxHeartbeats 4000000 in
theorem metX9_letters (l : Launch) (G : GG_) (x0 : Nat) (x1 : Int32) (x2 : Int32) (x3 : Int32) (x4 : Int32) (x5 : Int32) (x6 : Int32) (σ : Hp) (post : Hp → Prop) (hG : GOK_ G) (hf : wX9_letters x0 x1 x2 x3 x4 x5 x6 σ post) : Met l yX9_letters (ws_ yX9_letters cX9_letters 7 none) { frames := 1, cells := 0, slots := 0, locals := 20 } (PC_ G [rv_ x0, .int x1, .int x2, .int x3, .int x4, .int x5, .int x6] σ) (QV_ G post) 0 0 (FR_ G) := by
  refine Met.ofW (cc := cX9_letters) (maxL := 7) (ret := none) (by decide) rfl ?_
  intro p e s m args below meth c s₁ B hml hv
  obtain ⟨rfl, hP, hW⟩ := hv
  have hts := atoms_spec (ws := ws_ yX9_letters cX9_letters 7 none) B.pre
  have hts : ∀ w ∈ lw_all, w.before _ s = true := fun w h => hts w (List.mem_cons_of_mem _ h)
  rw [lg_entry_eq]
  have hl := en_entry [rv_ x0, .int x1, .int x2, .int x3, .int x4, .int x5, .int x6] [1, 1, 1, 1, 1, 1, 1] (n := 7) (ca_r (ca_i (ca_i (ca_i (ca_i (ca_i (ca_i ca_n))))))) (by decide)
  exact sX9_letters ⟨⟨⟨B.exec, B.bytes, hml, findClass_of_methodNamed B.named, hts⟩, hW, hG⟩, B.notSynchronized, B.returns, Nat.le_refl _, Nat.le_refl _, ⟨rfl, rfl⟩, (name_of_methodNamed B.named B.method).1⟩ hf _ _ _ _ _ hP (LO_nil G) ⟨rfl, rfl⟩ hl
abbrev cX9_numberOf : ByteArray := prog_11_method_40_code
def yX9_numberOf : MethodName := ⟨RX9, "numberOf", "(I)I"⟩
theorem dX9_numberOf_0 : decode cX9_numberOf 0 = .ok (.iconst 0, 1) := by decide +kernel
theorem dX9_numberOf_1 : decode cX9_numberOf 1 = .ok (.istore_n 2, 1) := by decide +kernel
theorem dX9_numberOf_2 : decode cX9_numberOf 2 = .ok (.aload_n 0, 1) := by decide +kernel
theorem dX9_numberOf_3 : decode cX9_numberOf 3 = .ok (.getfield 57, 3) := by decide +kernel
theorem dX9_numberOf_6 : decode cX9_numberOf 6 = .ok (.iload_n 2, 1) := by decide +kernel
theorem dX9_numberOf_7 : decode cX9_numberOf 7 = .ok (.iaload, 1) := by decide +kernel
theorem dX9_numberOf_8 : decode cX9_numberOf 8 = .ok (.iload_n 1, 1) := by decide +kernel
theorem dX9_numberOf_9 : decode cX9_numberOf 9 = .ok (.if_icmp .eq 9, 3) := by decide +kernel
theorem dX9_numberOf_12 : decode cX9_numberOf 12 = .ok (.iinc 2 1, 3) := by decide +kernel
theorem dX9_numberOf_15 : decode cX9_numberOf 15 = .ok (.goto (-13), 3) := by decide +kernel
theorem dX9_numberOf_18 : decode cX9_numberOf 18 = .ok (.iload_n 2, 1) := by decide +kernel
theorem dX9_numberOf_19 : decode cX9_numberOf 19 = .ok (.iconst 1, 1) := by decide +kernel
theorem dX9_numberOf_20 : decode cX9_numberOf 20 = .ok (.iadd, 1) := by decide +kernel
theorem dX9_numberOf_21 : decode cX9_numberOf 21 = .ok (.ireturn, 1) := by decide +kernel
/-- WriteOnceDiscModel.numberOf(I)I -/
def wX9_numberOf_B2 (post : Int32 → Prop) (rc2 : Int32 → Prop) (x0 : Nat) (x1 : Int32) (x2 : Int32) (σ : Hp) : Prop :=
(tg_ σ x0 = 9 ∧ (tg_ σ (fR_ σ 8 24 x0) = 102 ∧ (vp_in x2 (ln_ σ (fR_ σ 8 24 x0)) ∧ (((aI_ σ (fR_ σ 8 24 x0) (x2).toNatClampNeg) = x1 →
  post (x2 + (1 : Int32))) ∧
 (¬ (aI_ σ (fR_ σ 8 24 x0) (x2).toNatClampNeg) = x1 →
  (∀ y5 : Int32, y5 = x2 + 1 → rc2 y5))))))
def wX9_numberOf_L2 (post : Int32 → Prop) (x0 : Nat) (x1 : Int32) (x2 : Int32) (σ : Hp) : Prop :=
 ∃ (I : Int32 → Prop) (μ : Int32 → Nat), I x2 ∧ ∀ (x2 : Int32), I x2 → wX9_numberOf_B2 post (fun x2' => I x2' ∧ μ x2' < μ x2) x0 x1 x2 σ
def wX9_numberOf (x0 : Nat) (x1 : Int32) (σ : Hp) (post : Int32 → Prop) : Prop :=
wX9_numberOf_L2 post x0 x1 (0 : Int32) σ
set_option maxHeartbeats 4000000 in
theorem sX9_numberOf_B2 {G : GG_} {p : Program} {l : Launch} {e : Env} {R : Room} {s : State} {m : MethodId} {args : Array Value} {below : List Frame} {meth : Method} {c : Code} (Y : MX_ G p R s m args meth c cX9_numberOf 3 RX9 (some Jvm.ClassFile.FieldType.int) 1 20 0 0 "numberOf") {post : Int32 → Prop} {rc2 : Int32 → Prop} {x0 : Nat} {x1 : Int32} {x2 : Int32} {σ : Hp} (hrc2 : ∀ (x2 : Int32), rc2 x2 → WG_ G p l e R s m args below meth c (MQ below (QI_ G (fun r τ => τ = σ ∧ post r)) args s 0 0 (FR_ G)) BN_ 3 2 [(0, rv_ x0), (1, .int x1), (2, .int x2)] [] σ) (hf : wX9_numberOf_B2 post rc2 x0 x1 x2 σ) : WG_ G p l e R s m args below meth c (MQ below (QI_ G (fun r τ => τ = σ ∧ post r)) args s 0 0 (FR_ G)) BN_ 3 2 [(0, rv_ x0), (1, .int x1), (2, .int x2)] [] σ := by
  have ⟨X, hlk, hr, hRf, hRl, hRc, hnm⟩ := Y
  have ⟨⟨hx, hb, _, hown, hts⟩, _, _⟩ := X
  intro H locs cells slots ls hP hL hB hl
  obtain ⟨rfl, rfl⟩ := hB
  unfold wX9_numberOf_B2 at hf
  refine p_aload_n hx hb dX9_numberOf_2 rfl (lv_at hl 0 rfl) ?_
  obtain ⟨ht1, hf⟩ := hf
  refine p_gR X cf8_ (k := 24) (by decide) rfl hP ht1 q1318 (fun _ h => h) dX9_numberOf_3 ?_
  refine lv_iload_n hx hb dX9_numberOf_6 rfl (lv_at hl 2 rfl) ?_
  obtain ⟨ht2, hf⟩ := hf
  obtain ⟨hi3, hf⟩ := hf
  refine p_iald X hP ht2 hi3 dX9_numberOf_7 ?_
  refine lv_iload_n hx hb dX9_numberOf_8 rfl (lv_at hl 1 rfl) ?_
  refine lv_icmp_eq (tgt := 18) hx hb dX9_numberOf_9 (by decide) (fun c4 => ?_) (fun c4 => ?_)
  · have hf := hf.1 c4
    refine lv_iload_n hx hb dX9_numberOf_18 rfl (lv_at hl 2 rfl) ?_
    refine lv_iconst (v := 1) hx hb dX9_numberOf_19 (by decide) ?_
    refine lv_iadd hx hb dX9_numberOf_20 ?_
    exact p_iret X hlk hP hL (Nat.le_refl _) (Nat.le_refl _) hr dX9_numberOf_21 ⟨rfl, hf⟩
  · have hf := hf.2 c4
    have hl := lv_sub hl [2, 0, 1] rfl
    refine p_iincc (i := 2) (k := 1) hx hb (by decide) dX9_numberOf_12 hl (by decide) ⟨⟨ne_ rfl, Or.inl (ne_ rfl)⟩, ⟨⟨ne_ rfl, Or.inr rfl⟩, trivial⟩⟩ (fun y5 hy5 ls hl => ?_)
    have hf := hf y5 hy5
    refine lv_goto (tgt := 2) hx hb dX9_numberOf_15 (by decide) ?_
    exact hrc2 _ hf _ _ _ _ _ hP hL ⟨rfl, rfl⟩ (lv_sub hl [1, 2, 0] rfl)
set_option maxHeartbeats 4000000 in
theorem sX9_numberOf_L2 {G : GG_} {p : Program} {l : Launch} {e : Env} {R : Room} {s : State} {m : MethodId} {args : Array Value} {below : List Frame} {meth : Method} {c : Code} (Y : MX_ G p R s m args meth c cX9_numberOf 3 RX9 (some Jvm.ClassFile.FieldType.int) 1 20 0 0 "numberOf") {post : Int32 → Prop} {x0 : Nat} {x1 : Int32} {x2 : Int32} {σ : Hp} (hf : wX9_numberOf_L2 post x0 x1 x2 σ) : WG_ G p l e R s m args below meth c (MQ below (QI_ G (fun r τ => τ = σ ∧ post r)) args s 0 0 (FR_ G)) BN_ 3 2 [(0, rv_ x0), (1, .int x1), (2, .int x2)] [] σ := by
  unfold wX9_numberOf_L2 at hf
  obtain ⟨I, μ, h0, hI⟩ := hf
  have key : ∀ (n : Nat) (x2 : Int32), I x2 → μ x2 < n → WG_ G p l e R s m args below meth c (MQ below (QI_ G (fun r τ => τ = σ ∧ post r)) args s 0 0 (FR_ G)) BN_ 3 2 [(0, rv_ x0), (1, .int x1), (2, .int x2)] [] σ := by
    intro n
    induction n with
    | zero => intro x2 _ h; exact absurd h (Nat.not_lt_zero _)
    | succ n ih => intro x2 hi hn; exact sX9_numberOf_B2 Y (fun x2' h => ih x2' h.1 (Nat.lt_of_lt_of_le h.2 (Nat.le_of_lt_succ hn))) (hI x2 hi)
  exact key _ _ h0 (Nat.lt_succ_self _)
set_option maxHeartbeats 4000000 in
theorem sX9_numberOf {G : GG_} {p : Program} {l : Launch} {e : Env} {R : Room} {s : State} {m : MethodId} {args : Array Value} {below : List Frame} {meth : Method} {c : Code} (Y : MX_ G p R s m args meth c cX9_numberOf 3 RX9 (some Jvm.ClassFile.FieldType.int) 1 20 0 0 "numberOf") {post : Int32 → Prop} {x0 : Nat} {x1 : Int32} {σ : Hp} (hf : wX9_numberOf x0 x1 σ post) : WG_ G p l e R s m args below meth c (MQ below (QI_ G (fun r τ => τ = σ ∧ post r)) args s 0 0 (FR_ G)) BN_ 3 0 [(0, rv_ x0), (1, .int x1)] [] σ := by
  have ⟨X, hlk, hr, hRf, hRl, hRc, hnm⟩ := Y
  have ⟨⟨hx, hb, _, hown, hts⟩, _, _⟩ := X
  intro H locs cells slots ls hP hL hB hl
  obtain ⟨rfl, rfl⟩ := hB
  unfold wX9_numberOf at hf
  refine lv_iconst (v := 0) hx hb dX9_numberOf_0 (by decide) ?_
  refine p_istore_n (i := 2) hx hb dX9_numberOf_1 rfl hl (by decide) ⟨⟨ne_ rfl, Or.inl (ne_ rfl)⟩, ⟨⟨ne_ rfl, Or.inr rfl⟩, trivial⟩⟩ (fun ls hl => ?_)
  exact sX9_numberOf_L2 Y hf _ _ _ _ _ hP hL ⟨rfl, rfl⟩ (lv_sub hl [1, 2, 0] rfl)
set_option maxHeartbeats 4000000 in
theorem metX9_numberOf (l : Launch) (G : GG_) (x0 : Nat) (x1 : Int32) (σ : Hp) (post : Int32 → Prop) (hG : GOK_ G) (hf : wX9_numberOf x0 x1 σ post) : Met l yX9_numberOf (ws_ yX9_numberOf cX9_numberOf 3 (some Jvm.ClassFile.FieldType.int)) { frames := 1, cells := 0, slots := 0, locals := 20 } (PC_ G [rv_ x0, .int x1] σ) (QI_ G (fun r τ => τ = σ ∧ post r)) 0 0 (FR_ G) := by
  refine Met.ofW (cc := cX9_numberOf) (maxL := 3) (ret := (some Jvm.ClassFile.FieldType.int)) (by decide) rfl ?_
  intro p e s m args below meth c s₁ B hml hv
  obtain ⟨rfl, hP, hW⟩ := hv
  have hts := atoms_spec (ws := ws_ yX9_numberOf cX9_numberOf 3 (some Jvm.ClassFile.FieldType.int)) B.pre
  have hts : ∀ w ∈ lw_all, w.before _ s = true := fun w h => hts w (List.mem_cons_of_mem _ h)
  rw [lg_entry_eq]
  have hl := en_entry [rv_ x0, .int x1] [1, 1] (n := 3) (ca_r (ca_i ca_n)) (by decide)
  exact sX9_numberOf ⟨⟨⟨B.exec, B.bytes, hml, findClass_of_methodNamed B.named, hts⟩, hW, hG⟩, B.notSynchronized, B.returns, Nat.le_refl _, Nat.le_refl _, ⟨rfl, rfl⟩, (name_of_methodNamed B.named B.method).1⟩ hf _ _ _ _ _ hP (LO_nil G) ⟨rfl, rfl⟩ hl
