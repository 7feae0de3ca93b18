set_option maxRecDepth 100000
abbrev cX1_take : ByteArray := prog_1_method_19_code
def yX1_take : MethodName := ⟨RX1, "take", "(LWriteOnceDisc$Reader;)V"⟩
theorem dX1_take_0 : decode cX1_take 0 = .ok (.aload_n 0, 1) := by decide +kernel
theorem dX1_take_1 : decode cX1_take 1 = .ok (.new 52, 3) := by decide +kernel
theorem dX1_take_4 : decode cX1_take 4 = .ok (.dup, 1) := by decide +kernel
theorem dX1_take_5 : decode cX1_take 5 = .ok (.invokespecial 54, 3) := by decide +kernel
theorem dX1_take_8 : decode cX1_take 8 = .ok (.putfield 55, 3) := by decide +kernel
theorem dX1_take_11 : decode cX1_take 11 = .ok (.iconst 1, 1) := by decide +kernel
theorem dX1_take_12 : decode cX1_take 12 = .ok (.istore_n 2, 1) := by decide +kernel
theorem dX1_take_13 : decode cX1_take 13 = .ok (.aload_n 1, 1) := by decide +kernel
theorem dX1_take_14 : decode cX1_take 14 = .ok (.ifnull 103, 3) := by decide +kernel
theorem dX1_take_17 : decode cX1_take 17 = .ok (.iload_n 2, 1) := by decide +kernel
theorem dX1_take_18 : decode cX1_take 18 = .ok (.aload_n 1, 1) := by decide +kernel
theorem dX1_take_19 : decode cX1_take 19 = .ok (.getfield 226, 3) := by decide +kernel
theorem dX1_take_22 : decode cX1_take 22 = .ok (.invokevirtual 133, 3) := by decide +kernel
theorem dX1_take_25 : decode cX1_take 25 = .ok (.if_icmp .ge 92, 3) := by decide +kernel
theorem dX1_take_28 : decode cX1_take 28 = .ok (.aload_n 1, 1) := by decide +kernel
theorem dX1_take_29 : decode cX1_take 29 = .ok (.getfield 226, 3) := by decide +kernel
theorem dX1_take_32 : decode cX1_take 32 = .ok (.iload_n 2, 1) := by decide +kernel
theorem dX1_take_33 : decode cX1_take 33 = .ok (.invokevirtual 177, 3) := by decide +kernel
theorem dX1_take_36 : decode cX1_take 36 = .ok (.checkcast 227, 3) := by decide +kernel
theorem dX1_take_39 : decode cX1_take 39 = .ok (.astore_n 3, 1) := by decide +kernel
theorem dX1_take_40 : decode cX1_take 40 = .ok (.new 110, 3) := by decide +kernel
theorem dX1_take_43 : decode cX1_take 43 = .ok (.dup, 1) := by decide +kernel
theorem dX1_take_44 : decode cX1_take 44 = .ok (.iload_n 2, 1) := by decide +kernel
theorem dX1_take_45 : decode cX1_take 45 = .ok (.aload_n 3, 1) := by decide +kernel
theorem dX1_take_46 : decode cX1_take 46 = .ok (.getfield 229, 3) := by decide +kernel
theorem dX1_take_49 : decode cX1_take 49 = .ok (.aload_n 3, 1) := by decide +kernel
theorem dX1_take_50 : decode cX1_take 50 = .ok (.getfield 230, 3) := by decide +kernel
theorem dX1_take_53 : decode cX1_take 53 = .ok (.aload_n 3, 1) := by decide +kernel
theorem dX1_take_54 : decode cX1_take 54 = .ok (.getfield 231, 3) := by decide +kernel
theorem dX1_take_57 : decode cX1_take 57 = .ok (.invokestatic 138, 3) := by decide +kernel
theorem dX1_take_60 : decode cX1_take 60 = .ok (.invokespecial 149, 3) := by decide +kernel
theorem dX1_take_63 : decode cX1_take 63 = .ok (.astore 4, 2) := by decide +kernel
theorem dX1_take_65 : decode cX1_take 65 = .ok (.aload_n 3, 1) := by decide +kernel
theorem dX1_take_66 : decode cX1_take 66 = .ok (.getfield 230, 3) := by decide +kernel
theorem dX1_take_69 : decode cX1_take 69 = .ok (.ifCond .ne 33, 3) := by decide +kernel
theorem dX1_take_72 : decode cX1_take 72 = .ok (.aload 4, 2) := by decide +kernel
theorem dX1_take_74 : decode cX1_take 74 = .ok (.aload_n 3, 1) := by decide +kernel
theorem dX1_take_75 : decode cX1_take 75 = .ok (.getfield 235, 3) := by decide +kernel
theorem dX1_take_78 : decode cX1_take 78 = .ok (.putfield 160, 3) := by decide +kernel
theorem dX1_take_81 : decode cX1_take 81 = .ok (.aload 4, 2) := by decide +kernel
theorem dX1_take_83 : decode cX1_take 83 = .ok (.iconst (-1), 1) := by decide +kernel
theorem dX1_take_84 : decode cX1_take 84 = .ok (.putfield 162, 3) := by decide +kernel
theorem dX1_take_87 : decode cX1_take 87 = .ok (.aload 4, 2) := by decide +kernel
theorem dX1_take_89 : decode cX1_take 89 = .ok (.aload_n 3, 1) := by decide +kernel
theorem dX1_take_90 : decode cX1_take 90 = .ok (.getfield 236, 3) := by decide +kernel
theorem dX1_take_93 : decode cX1_take 93 = .ok (.putfield 168, 3) := by decide +kernel
theorem dX1_take_96 : decode cX1_take 96 = .ok (.aload 4, 2) := by decide +kernel
theorem dX1_take_98 : decode cX1_take 98 = .ok (.iconst 1, 1) := by decide +kernel
theorem dX1_take_99 : decode cX1_take 99 = .ok (.putfield 171, 3) := by decide +kernel
theorem dX1_take_102 : decode cX1_take 102 = .ok (.aload_n 0, 1) := by decide +kernel
theorem dX1_take_103 : decode cX1_take 103 = .ok (.getfield 55, 3) := by decide +kernel
theorem dX1_take_106 : decode cX1_take 106 = .ok (.aload 4, 2) := by decide +kernel
theorem dX1_take_108 : decode cX1_take 108 = .ok (.invokevirtual 152, 3) := by decide +kernel
theorem dX1_take_111 : decode cX1_take 111 = .ok (.iinc 2 1, 3) := by decide +kernel
theorem dX1_take_114 : decode cX1_take 114 = .ok (.goto (-101), 3) := by decide +kernel
theorem dX1_take_117 : decode cX1_take 117 = .ok (.return_, 1) := by decide +kernel
/-- WriteOnceDisc.take(LWriteOnceDisc$Reader;)V -/
def wX1_take_L102 (post : Hp → Prop) (rc13 : Int32 → Hp → Prop) (x0 : Nat) (x1 : Nat) (x2 : Int32) (x4 : Nat) (σ : Hp) : Prop :=
(tg_ σ x0 = 1 ∧ (tg_ σ (fR_ σ 0 4 x0) = 5 ∧ (∃ mc3 ms4 : Nat, (mc3 ≤ bc_ σ ∧ (ms4 ≤ bs_ σ ∧ (wX5_add (fR_ σ 0 4 x0) x4 (bu_ σ mc3 ms4) (fun σ7 => (∀ σ8, σ8 = bu_ σ7 (bc_ σ - mc3) (bs_ σ - ms4) → (∀ y9 : Int32, y9 = x2 + 1 → rc13 y9 σ8)))))))))
def wX1_take_B13 (post : Hp → Prop) (rc13 : Int32 → Hp → Prop) (x0 : Nat) (x1 : Nat) (x2 : Int32) (σ : Hp) : Prop :=
((x1 = 0 →
  post σ) ∧
 (¬ x1 = 0 →
  (tg_ σ x1 = 8 ∧ (tg_ σ (fR_ σ 7 0 x1) = 11 ∧ (wJ2_size (fR_ σ 7 0 x1)  σ (fun r13 => ((r13 ≤ x2 →
   post σ) ∧
  (¬ r13 ≤ x2 →
   (wJ2_get (fR_ σ 7 0 x1) x2 σ (fun r15 => ((r15 = 0 ∨ tg_ σ r15 = 10) ∧ (1 ≤ bc_ σ ∧ (12 ≤ bs_ σ ∧ (∀ σ19, σ19 = mO_ σ 5 12 → (tg_ σ19 r15 = 10 ∧ (∃ mc21 ms22 : Nat, (mc21 ≤ bc_ σ19 ∧ (ms22 ≤ bs_ σ19 ∧ (wX1_nameOf (fL_ σ19 9 5 r15) (bu_ σ19 mc21 ms22) (fun r25 σ26 => (∀ σ27, σ27 = bu_ σ26 (bc_ σ19 - mc21) (bs_ σ19 - ms22) → (tg_ σ27 (nx_ σ) = 6 ∧ (∃ mc29 ms30 : Nat, (mc29 ≤ bc_ σ27 ∧ (ms30 ≤ bs_ σ27 ∧ (wX6_init (nx_ σ) x2 (fI_ σ19 9 0 r15) (fI_ σ19 9 4 r15) r25 (bu_ σ27 mc29 ms30) (fun σ33 => (∀ σ34, σ34 = bu_ σ33 (bc_ σ27 - mc29) (bs_ σ27 - ms30) → (∀ y35 : Nat, y35 = (nx_ σ) → (tg_ σ34 r15 = 10 ∧ ((¬ (fI_ σ34 9 4 r15) = 0 →
    wX1_take_L102 post rc13 x0 x1 x2 y35 σ34) ∧
   ((fI_ σ34 9 4 r15) = 0 →
    (tg_ σ34 y35 = 6 ∧ (∀ σ39, σ39 = sI_ σ34 5 3 y35 (fI_ σ34 9 3 r15) → (∀ σ40, σ40 = sI_ σ39 5 4 y35 (-1 : Int32) → (∀ σ41, σ41 = sI_ σ40 5 5 y35 (fI_ σ40 9 2 r15) → (∀ σ42, σ42 = sI_ σ41 5 8 y35 (1 : Int32) → wX1_take_L102 post rc13 x0 x1 x2 y35 σ42)))))))))))))))))))))))))))))))))))))
def wX1_take_L13 (post : Hp → Prop) (x0 : Nat) (x1 : Nat) (x2 : Int32) (σ : Hp) : Prop :=
 ∃ (I : Int32 → Hp → Prop) (μ : Int32 → Hp → Nat), I x2 σ ∧ ∀ (x2 : Int32) (σ : Hp), I x2 σ → wX1_take_B13 post (fun x2' σ' => I x2' σ' ∧ μ x2' σ' < μ x2 σ) x0 x1 x2 σ
def wX1_take (x0 : Nat) (x1 : Nat) (σ : Hp) (post : Hp → Prop) : Prop :=
(1 ≤ bc_ σ ∧ (2 ≤ bs_ σ ∧ (∀ σ45, σ45 = mO_ σ 4 2 → (tg_ σ45 (nx_ σ) = 5 ∧ (∃ mc47 ms48 : Nat, (mc47 ≤ bc_ σ45 ∧ (ms48 ≤ bs_ σ45 ∧ (wX5_init (nx_ σ)  (bu_ σ45 mc47 ms48) (fun σ51 => (∀ σ52, σ52 = bu_ σ51 (bc_ σ45 - mc47) (bs_ σ45 - ms48) → (tg_ σ52 x0 = 1 ∧ (∀ σ54, σ54 = sR_ σ52 0 4 x0 (nx_ σ) → wX1_take_L13 post x0 x1 (1 : Int32) σ54))))))))))))
set_option maxHeartbeats 4000000 in
theorem sX1_take_L102 {G : GG_} {p : Program} {l : Launch} {e : Env} {R : Room} {s : State} {m : MethodId} {args : Array Value} {below : List Frame} {meth : Method} {c : Code} {mc ms : Nat} (Y : MX_ G p R s m args meth c cX1_take 5 RX1 none 10 224 mc ms "take") {post : Hp → Prop} {rc13 : Int32 → Hp → Prop} {x0 : Nat} {x1 : Nat} {x2 : Int32} {x4 : Nat} {σ : Hp} (hrc13 : ∀ (x2 : Int32) (σ : Hp), rc13 x2 σ → WG_ G p l e R s m args below meth c (MQ below (QV_ G post) args s mc ms (FR_ G)) (BU_ R) 5 13 [(0, rv_ x0), (1, rv_ x1), (2, .int x2)] [] σ) (hf : wX1_take_L102 post rc13 x0 x1 x2 x4 σ) : WG_ G p l e R s m args below meth c (MQ below (QV_ G post) args s mc ms (FR_ G)) (BU_ R) 5 102 [(0, rv_ x0), (1, rv_ x1), (2, .int x2), (4, rv_ x4)] [] σ := by
  have ⟨X, hlk, hr, hRf, hRl, hRc, hnm⟩ := Y
  have ⟨⟨hx, hb, _, hown, hts⟩, _, _⟩ := X
  intro H locs cells slots ls hP hL hB hl
  unfold wX1_take_L102 at hf
  refine p_aload_n hx hb dX1_take_102 rfl (lv_at hl 0 rfl) ?_
  obtain ⟨ht1, hf⟩ := hf
  refine p_gR X cf0_ (k := 4) (by decide) rfl hP ht1 q630 (fun _ h => h) dX1_take_103 ?_
  refine p_aload hx hb dX1_take_106 (lv_at hl 3 rfl) ?_
  obtain ⟨ht2, hf⟩ := hf
  obtain ⟨mc3, ms4, hf⟩ := hf
  obtain ⟨hb5, hf⟩ := hf
  obtain ⟨hb6, hf⟩ := hf
  refine p_callv hL (p_runV X cf4_ (Pic_bu hP mc3 ms4) ht2 (metX5_add l G _ _ _ _ _ _ X.2.2 hf) (cwV 1 hts (lw_V q756 q492 q493 q92 q494) rfl rfl rfl (by decide +kernel) ⟨Nat.le_trans (Nat.le_of_ble_eq_true rfl) hRf, Nat.le_trans (Nat.le_of_ble_eq_true rfl) hRl⟩) rfl hl.1 rfl (by decide) dX1_take_108 (BU_call hB hb5 hb6)) (fun σ7 H locs hf hP hL => ?_)
  have hB := BU_back (τ := σ7) hB hb5 hb6
  have hP := Pic_bu hP (bc_ σ - mc3) (bs_ σ - ms4)
  refine p_nmPB hP hB (fun σ8 hσ8 hP hB => ?_)
  have hf := hf σ8 hσ8
  have hl := lv_sub hl [2, 0, 1] rfl
  refine p_iincc (i := 2) (k := 1) hx hb (by decide) dX1_take_111 hl (by decide) ⟨⟨ne_ rfl, Or.inl (ne_ rfl)⟩, ⟨⟨ne_ rfl, Or.inr (rv_cat _)⟩, trivial⟩⟩ (fun y9 hy9 ls hl => ?_)
  have hf := hf y9 hy9
  refine lv_goto (tgt := 13) hx hb dX1_take_114 (by decide) ?_
  exact hrc13 _ _ hf _ _ _ _ _ hP hL hB (lv_sub hl [1, 2, 0] rfl)
set_option maxHeartbeats 4000000 in
theorem sX1_take_B13 {G : GG_} {p : Program} {l : Launch} {e : Env} {R : Room} {s : State} {m : MethodId} {args : Array Value} {below : List Frame} {meth : Method} {c : Code} {mc ms : Nat} (Y : MX_ G p R s m args meth c cX1_take 5 RX1 none 10 224 mc ms "take") {post : Hp → Prop} {rc13 : Int32 → Hp → Prop} {x0 : Nat} {x1 : Nat} {x2 : Int32} {σ : Hp} (hrc13 : ∀ (x2 : Int32) (σ : Hp), rc13 x2 σ → WG_ G p l e R s m args below meth c (MQ below (QV_ G post) args s mc ms (FR_ G)) (BU_ R) 5 13 [(0, rv_ x0), (1, rv_ x1), (2, .int x2)] [] σ) (hf : wX1_take_B13 post rc13 x0 x1 x2 σ) : WG_ G p l e R s m args below meth c (MQ below (QV_ G post) args s mc ms (FR_ G)) (BU_ R) 5 13 [(0, rv_ x0), (1, rv_ x1), (2, .int x2)] [] σ := by
  have ⟨X, hlk, hr, hRf, hRl, hRc, hnm⟩ := Y
  have ⟨⟨hx, hb, _, hown, hts⟩, _, _⟩ := X
  intro H locs cells slots ls hP hL hB hl
  unfold wX1_take_B13 at hf
  refine p_aload_n hx hb dX1_take_13 rfl (lv_at hl 1 rfl) ?_
  refine p_ifnull (tgt := 117) hx hb dX1_take_14 (by decide) (fun c10 => ?_) (fun c10 => ?_)
  · have hf := hf.1 c10
    exact p_vret X hlk hP hL (BU_le hB hRc).1 (BU_le hB hRc).2 hr dX1_take_117 hf
  · have hf := hf.2 c10
    refine lv_iload_n hx hb dX1_take_17 rfl (lv_at hl 2 rfl) ?_
    refine p_aload_n hx hb dX1_take_18 rfl (lv_at hl 1 rfl) ?_
    obtain ⟨ht11, hf⟩ := hf
    refine p_gR X cf7_ (k := 0) (by decide) rfl hP ht11 q591 (fun _ h => h) dX1_take_19 ?_
    obtain ⟨ht12, hf⟩ := hf
    refine p_calli hL (p_runV X cf10_ hP ht12 (metJ2_size l G _ _ _ X.2.2 hf) (cwV 0 hts (lw_V q753 q720 q721 q90 q722) rfl rfl rfl (by decide +kernel) ⟨Nat.le_trans (Nat.le_of_ble_eq_true rfl) hRf, Nat.le_trans (Nat.le_of_ble_eq_true rfl) hRl⟩) rfl hl.1 rfl (by rw [(ca_i ca_n)]; decide) dX1_take_22 (BU_call hB (Nat.zero_le _) (Nat.zero_le _))) (fun r13 σ₁ H locs hf hP hL => ?_)
    obtain ⟨e₁, hf⟩ := hf
    rw [e₁] at hP
    refine lv_icmp_ge (tgt := 117) hx hb dX1_take_25 (by decide) (fun c14 => ?_) (fun c14 => ?_)
    · have hf := hf.1 c14
      exact p_vret X hlk hP hL (BU_le hB hRc).1 (BU_le hB hRc).2 hr dX1_take_117 hf
    · have hf := hf.2 c14
      refine p_aload_n hx hb dX1_take_28 rfl (lv_at hl 1 rfl) ?_
      refine p_gR X cf7_ (k := 0) (by decide) rfl hP ht11 q591 (fun _ h => h) dX1_take_29 ?_
      refine lv_iload_n hx hb dX1_take_32 rfl (lv_at hl 2 rfl) ?_
      refine p_callr hL (p_runV X cf10_ hP ht12 (metJ2_get l G _ _ _ _ X.2.2 hf) (cwV 1 hts (lw_V q776 q724 q725 q90 q726) rfl rfl rfl (by decide +kernel) ⟨Nat.le_trans (Nat.le_of_ble_eq_true rfl) hRf, Nat.le_trans (Nat.le_of_ble_eq_true rfl) hRl⟩) rfl hl.1 rfl (by decide) dX1_take_33 (BU_call hB (Nat.zero_le _) (Nat.zero_le _))) (fun r15 σ₁ H locs hf hP hL => ?_)
      obtain ⟨e₁, hf⟩ := hf
      rw [e₁] at hP
      obtain ⟨hc16, hf⟩ := hf
      refine p_cast X cf9_ hP hc16 q1137 dX1_take_36 ?_
      refine p_astore_n (i := 3) hx hb dX1_take_39 rfl hl (by decide) ⟨⟨ne_ rfl, Or.inl (ne_ rfl)⟩, ⟨⟨ne_ rfl, Or.inl (ne_ rfl)⟩, ⟨⟨ne_ rfl, Or.inr rfl⟩, trivial⟩⟩⟩ (fun ls hl => ?_)
      obtain ⟨hb17, hf⟩ := hf
      obtain ⟨hb18, hf⟩ := hf
      refine p_new X cf5_ (by decide +kernel) hP hB q754 q213 q93 hb17 hb18 dX1_take_40 (fun H hP hB => ?_)
      refine p_nmPB hP hB (fun σ19 hσ19 hP hB => ?_)
      have hf := hf σ19 hσ19
      refine lv_dup hx hb dX1_take_43 (rv_cat _) ?_
      refine lv_iload_n hx hb dX1_take_44 rfl (lv_at hl 3 rfl) ?_
      refine p_aload_n hx hb dX1_take_45 rfl (lv_at hl 0 rfl) ?_
      obtain ⟨ht20, hf⟩ := hf
      refine p_gI X cf9_ (k := 0) (by decide) rfl hP ht20 q1060 (fun _ h => h) dX1_take_46 ?_
      refine p_aload_n hx hb dX1_take_49 rfl (lv_at hl 0 rfl) ?_
      refine p_gI X cf9_ (k := 4) (by decide) rfl hP ht20 q1068 (fun _ h => h) dX1_take_50 ?_
      refine p_aload_n hx hb dX1_take_53 rfl (lv_at hl 0 rfl) ?_
      refine p_gL X cf9_ (k := 5) (by decide) rfl hP ht20 q1070 (fun _ h => h) dX1_take_54 ?_
      obtain ⟨mc21, ms22, hf⟩ := hf
      obtain ⟨hb23, hf⟩ := hf
      obtain ⟨hb24, hf⟩ := hf
      refine p_callr hL (p_runS X (Pic_bu hP mc21 ms22) (metX1_nameOf l G _ _ _ _ _ X.2.2 hf) (va_cwS 1 hts (lw_S q675 q676 q85 q677) rfl rfl rfl (by decide +kernel) ⟨Nat.le_trans (Nat.le_of_ble_eq_true rfl) hRf, Nat.le_trans (Nat.le_of_ble_eq_true rfl) hRl⟩) rfl hl.1 rfl (by rw [(ca_i (ca_i (ca_i (ca_r (ca_r ca_n)))))]; decide) dX1_take_57 (BU_call hB hb23 hb24)) (fun r25 σ26 H locs hf hP hL => ?_)
      have hB := BU_back (τ := σ26) hB hb23 hb24
      have hP := Pic_bu hP (bc_ σ19 - mc21) (bs_ σ19 - ms22)
      refine p_nmPB hP hB (fun σ27 hσ27 hP hB => ?_)
      have hf := hf σ27 hσ27
      obtain ⟨ht28, hf⟩ := hf
      obtain ⟨mc29, ms30, hf⟩ := hf
      obtain ⟨hb31, hf⟩ := hf
      obtain ⟨hb32, hf⟩ := hf
      refine p_callv hL (p_runI X (Pic_bu hP mc29 ms30) ht28 (metX6_init l G _ _ _ _ _ _ _ _ _ X.2.2 hf) (cwI 4 hts (lw_meth q217) rfl rfl rfl (hts _ q93) (hts _ q755) (hts _ q216) rfl (by decide +kernel) ⟨Nat.le_trans (Nat.le_of_ble_eq_true rfl) hRf, Nat.le_trans (Nat.le_of_ble_eq_true rfl) hRl⟩) rfl hl.1 rfl (by rw [(ca_r ca_n)]; decide) dX1_take_60 (BU_call hB hb31 hb32)) (fun σ33 H locs hf hP hL => ?_)
      have hB := BU_back (τ := σ33) hB hb31 hb32
      have hP := Pic_bu hP (bc_ σ27 - mc29) (bs_ σ27 - ms30)
      refine p_nmPB hP hB (fun σ34 hσ34 hP hB => ?_)
      have hf := hf σ34 hσ34
      refine p_topr (fun y35 hy35 => ?_)
      have hf := hf y35 hy35
      refine p_astore (i := 4) hx hb dX1_take_63 hl (by decide) ⟨⟨ne_ rfl, Or.inr (rv_cat _)⟩, ⟨⟨ne_ rfl, Or.inl (ne_ rfl)⟩, ⟨⟨ne_ rfl, Or.inl (ne_ rfl)⟩, ⟨⟨ne_ rfl, Or.inl (ne_ rfl)⟩, trivial⟩⟩⟩⟩ (fun ls hl => ?_)
      refine p_aload_n hx hb dX1_take_65 rfl (lv_at hl 1 rfl) ?_
      obtain ⟨ht36, hf⟩ := hf
      refine p_gI X cf9_ (k := 4) (by decide) rfl hP ht36 q1068 (fun _ h => h) dX1_take_66 ?_
      refine lv_if_ne (tgt := 102) hx hb dX1_take_69 (by decide) (fun c37 => ?_) (fun c37 => ?_)
      · have hf := hf.1 c37
        exact sX1_take_L102 Y hrc13 hf _ _ _ _ _ hP hL hB (lv_sub hl [2, 3, 4, 0] rfl)
      · have hf := hf.2 c37
        refine p_aload hx hb dX1_take_72 (lv_at hl 0 rfl) ?_
        refine p_aload_n hx hb dX1_take_74 rfl (lv_at hl 1 rfl) ?_
        refine p_gI X cf9_ (k := 3) (by decide) rfl hP ht36 q1066 (fun _ h => h) dX1_take_75 ?_
        obtain ⟨ht38, hf⟩ := hf
        refine p_pI X cf5_ (k := 3) (by decide) rfl hP hL ht38 (p_ow hP ht38 rfl) q449 (fun _ h => h) (Or.inl rfl) rfl rfl dX1_take_78 (fun H locs hP hL => ?_)
        refine p_nmPB hP hB (fun σ39 hσ39 hP hB => ?_)
        have hf := hf σ39 hσ39
        have ht36 : tg_ σ39 r15 = 10 := by rw [hσ39]; exact ht36
        have ht38 : tg_ σ39 y35 = 6 := by rw [hσ39]; exact ht38
        refine p_aload hx hb dX1_take_81 (lv_at hl 0 rfl) ?_
        refine lv_iconst (v := (-1)) hx hb dX1_take_83 (by decide) ?_
        refine p_pI X cf5_ (k := 4) (by decide) rfl hP hL ht38 (p_ow hP ht38 rfl) q451 (fun _ h => h) (Or.inl rfl) rfl rfl dX1_take_84 (fun H locs hP hL => ?_)
        refine p_nmPB hP hB (fun σ40 hσ40 hP hB => ?_)
        have hf := hf σ40 hσ40
        have ht36 : tg_ σ40 r15 = 10 := by rw [hσ40]; exact ht36
        have ht38 : tg_ σ40 y35 = 6 := by rw [hσ40]; exact ht38
        refine p_aload hx hb dX1_take_87 (lv_at hl 0 rfl) ?_
        refine p_aload_n hx hb dX1_take_89 rfl (lv_at hl 1 rfl) ?_
        refine p_gI X cf9_ (k := 2) (by decide) rfl hP ht36 q1063 (fun _ h => h) dX1_take_90 ?_
        refine p_pI X cf5_ (k := 5) (by decide) rfl hP hL ht38 (p_ow hP ht38 rfl) q453 (fun _ h => h) (Or.inl rfl) rfl rfl dX1_take_93 (fun H locs hP hL => ?_)
        refine p_nmPB hP hB (fun σ41 hσ41 hP hB => ?_)
        have hf := hf σ41 hσ41
        have ht36 : tg_ σ41 r15 = 10 := by rw [hσ41]; exact ht36
        have ht38 : tg_ σ41 y35 = 6 := by rw [hσ41]; exact ht38
        refine p_aload hx hb dX1_take_96 (lv_at hl 0 rfl) ?_
        refine lv_iconst (v := 1) hx hb dX1_take_98 (by decide) ?_
        refine p_pI X cf5_ (k := 8) (by decide) rfl hP hL ht38 (p_ow hP ht38 rfl) q462 (fun _ h => h) (Or.inl rfl) rfl (by decide) dX1_take_99 (fun H locs hP hL => ?_)
        refine p_nmPB hP hB (fun σ42 hσ42 hP hB => ?_)
        have hf := hf σ42 hσ42
        have ht36 : tg_ σ42 r15 = 10 := by rw [hσ42]; exact ht36
        have ht38 : tg_ σ42 y35 = 6 := by rw [hσ42]; exact ht38
        exact sX1_take_L102 Y hrc13 hf _ _ _ _ _ hP hL hB (lv_sub hl [2, 3, 4, 0] rfl)
set_option maxHeartbeats 4000000 in
theorem sX1_take_L13 {G : GG_} {p : Program} {l : Launch} {e : Env} {R : Room} {s : State} {m : MethodId} {args : Array Value} {below : List Frame} {meth : Method} {c : Code} {mc ms : Nat} (Y : MX_ G p R s m args meth c cX1_take 5 RX1 none 10 224 mc ms "take") {post : Hp → Prop} {x0 : Nat} {x1 : Nat} {x2 : Int32} {σ : Hp} (hf : wX1_take_L13 post x0 x1 x2 σ) : WG_ G p l e R s m args below meth c (MQ below (QV_ G post) args s mc ms (FR_ G)) (BU_ R) 5 13 [(0, rv_ x0), (1, rv_ x1), (2, .int x2)] [] σ := by
  unfold wX1_take_L13 at hf
  obtain ⟨I, μ, h0, hI⟩ := hf
  have key : ∀ (n : Nat) (x2 : Int32) (σ : Hp), I x2 σ → μ x2 σ < n → WG_ G p l e R s m args below meth c (MQ below (QV_ G post) args s mc ms (FR_ G)) (BU_ R) 5 13 [(0, rv_ x0), (1, rv_ x1), (2, .int x2)] [] σ := by
    intro n
    induction n with
    | zero => intro x2 σ _ h; exact absurd h (Nat.not_lt_zero _)
    | succ n ih => intro x2 σ hi hn; exact sX1_take_B13 Y (fun x2' σ' h => ih x2' σ' h.1 (Nat.lt_of_lt_of_le h.2 (Nat.le_of_lt_succ hn))) (hI x2 σ hi)
  exact key _ _ _ h0 (Nat.lt_succ_self _)
set_option maxHeartbeats 4000000 in
theorem sX1_take {G : GG_} {p : Program} {l : Launch} {e : Env} {R : Room} {s : State} {m : MethodId} {args : Array Value} {below : List Frame} {meth : Method} {c : Code} {mc ms : Nat} (Y : MX_ G p R s m args meth c cX1_take 5 RX1 none 10 224 mc ms "take") {post : Hp → Prop} {x0 : Nat} {x1 : Nat} {σ : Hp} (hf : wX1_take x0 x1 σ post) : WG_ G p l e R s m args below meth c (MQ below (QV_ G post) args s mc ms (FR_ G)) (BU_ R) 5 0 [(0, rv_ x0), (1, rv_ x1)] [] σ := by
  have ⟨X, hlk, hr, hRf, hRl, hRc, hnm⟩ := Y
  have ⟨⟨hx, hb, _, hown, hts⟩, _, _⟩ := X
  intro H locs cells slots ls hP hL hB hl
  unfold wX1_take at hf
  refine p_aload_n hx hb dX1_take_0 rfl (lv_at hl 0 rfl) ?_
  obtain ⟨hb43, hf⟩ := hf
  obtain ⟨hb44, hf⟩ := hf
  refine p_new X cf4_ (by decide +kernel) hP hB q204 q205 q92 hb43 hb44 dX1_take_1 (fun H hP hB => ?_)
  refine p_nmPB hP hB (fun σ45 hσ45 hP hB => ?_)
  have hf := hf σ45 hσ45
  refine lv_dup hx hb dX1_take_4 (rv_cat _) ?_
  obtain ⟨ht46, hf⟩ := hf
  obtain ⟨mc47, ms48, hf⟩ := hf
  obtain ⟨hb49, hf⟩ := hf
  obtain ⟨hb50, hf⟩ := hf
  refine p_callv hL (p_runI X (Pic_bu hP mc47 ms48) ht46 (metX5_init l G _ _ _ _ _ X.2.2 hf) (cwI 0 hts (lw_meth q208) rfl rfl rfl (hts _ q92) (hts _ q206) (hts _ q207) rfl (by decide +kernel) ⟨Nat.le_trans (Nat.le_of_ble_eq_true rfl) hRf, Nat.le_trans (Nat.le_of_ble_eq_true rfl) hRl⟩) rfl hl.1 rfl (by rw [(ca_r (ca_r ca_n))]; decide) dX1_take_5 (BU_call hB hb49 hb50)) (fun σ51 H locs hf hP hL => ?_)
  have hB := BU_back (τ := σ51) hB hb49 hb50
  have hP := Pic_bu hP (bc_ σ45 - mc47) (bs_ σ45 - ms48)
  refine p_nmPB hP hB (fun σ52 hσ52 hP hB => ?_)
  have hf := hf σ52 hσ52
  obtain ⟨ht53, hf⟩ := hf
  refine p_pR X cf0_ (k := 4) (by decide) rfl hP hL ht53 (p_ow hP ht53 rfl) q630 (fun _ h => h) (Or.inl rfl) dX1_take_8 (fun H locs hP hL => ?_)
  refine p_nmPB hP hB (fun σ54 hσ54 hP hB => ?_)
  have hf := hf σ54 hσ54
  have ht53 : tg_ σ54 x0 = 1 := by rw [hσ54]; exact ht53
  refine lv_iconst (v := 1) hx hb dX1_take_11 (by decide) ?_
  refine p_istore_n (i := 2) hx hb dX1_take_12 rfl hl (by decide) ⟨⟨ne_ rfl, Or.inl (ne_ rfl)⟩, ⟨⟨ne_ rfl, Or.inr (rv_cat _)⟩, trivial⟩⟩ (fun ls hl => ?_)
  exact sX1_take_L13 Y hf _ _ _ _ _ hP hL hB (lv_sub hl [1, 2, 0] rfl)
set_option maxHeartbeats 4000000 in
theorem metX1_take (l : Launch) (G : GG_) (mc ms : Nat) (x0 : Nat) (x1 : Nat) (σ : Hp) (post : Hp → Prop) (hG : GOK_ G) (hf : wX1_take x0 x1 (bu_ σ mc ms) post) : Met l yX1_take (ws_ yX1_take cX1_take 5 none) { frames := 10, cells := mc, slots := ms, locals := 224 } (PC_ G [rv_ x0, rv_ x1] (bu_ σ mc ms)) (QV_ G post) mc ms (FR_ G) := by
  refine Met.ofW (cc := cX1_take) (maxL := 5) (ret := none) (by decide) rfl ?_
  intro p e s m args below meth c s₁ B hml hv
  obtain ⟨rfl, hP, hW⟩ := hv
  have hts := atoms_spec (ws := ws_ yX1_take cX1_take 5 none) B.pre
  have hts : ∀ w ∈ lw_all, w.before _ s = true := fun w h => hts w (List.mem_cons_of_mem _ h)
  rw [lg_entry_eq]
  have hl := en_entry [rv_ x0, rv_ x1] [1, 1] (n := 5) (ca_r (ca_r ca_n)) (by decide)
  exact sX1_take ⟨⟨⟨B.exec, B.bytes, hml, findClass_of_methodNamed B.named, hts⟩, hW, hG⟩, B.notSynchronized, B.returns, Nat.le_refl _, Nat.le_refl _, ⟨rfl, rfl⟩, (name_of_methodNamed B.named B.method).1⟩ hf _ _ _ _ _ hP (LO_nil G) (BU_in ⟨rfl, rfl⟩) hl
abbrev cX1_discover : ByteArray := prog_1_method_20_code
def yX1_discover : MethodName := ⟨RX1, "discover", "()I"⟩
theorem dX1_discover_0 : decode cX1_discover 0 = .ok (.aload_n 0, 1) := by decide +kernel
theorem dX1_discover_1 : decode cX1_discover 1 = .ok (.getfield 39, 3) := by decide +kernel
theorem dX1_discover_4 : decode cX1_discover 4 = .ok (.getfield 115, 3) := by decide +kernel
theorem dX1_discover_7 : decode cX1_discover 7 = .ok (.ifCond .eq 11, 3) := by decide +kernel
theorem dX1_discover_10 : decode cX1_discover 10 = .ok (.aload_n 0, 1) := by decide +kernel
theorem dX1_discover_11 : decode cX1_discover 11 = .ok (.getfield 39, 3) := by decide +kernel
theorem dX1_discover_14 : decode cX1_discover 14 = .ok (.iconst (-1), 1) := by decide +kernel
theorem dX1_discover_15 : decode cX1_discover 15 = .ok (.putfield 102, 3) := by decide +kernel
theorem dX1_discover_18 : decode cX1_discover 18 = .ok (.aload_n 0, 1) := by decide +kernel
theorem dX1_discover_19 : decode cX1_discover 19 = .ok (.getfield 39, 3) := by decide +kernel
theorem dX1_discover_22 : decode cX1_discover 22 = .ok (.iconst 0, 1) := by decide +kernel
theorem dX1_discover_23 : decode cX1_discover 23 = .ok (.putfield 115, 3) := by decide +kernel
theorem dX1_discover_26 : decode cX1_discover 26 = .ok (.aload_n 0, 1) := by decide +kernel
theorem dX1_discover_27 : decode cX1_discover 27 = .ok (.invokevirtual 237, 3) := by decide +kernel
theorem dX1_discover_30 : decode cX1_discover 30 = .ok (.astore_n 1, 1) := by decide +kernel
theorem dX1_discover_31 : decode cX1_discover 31 = .ok (.aconst_null, 1) := by decide +kernel
theorem dX1_discover_32 : decode cX1_discover 32 = .ok (.astore_n 2, 1) := by decide +kernel
theorem dX1_discover_33 : decode cX1_discover 33 = .ok (.iconst 0, 1) := by decide +kernel
theorem dX1_discover_34 : decode cX1_discover 34 = .ok (.istore_n 3, 1) := by decide +kernel
theorem dX1_discover_35 : decode cX1_discover 35 = .ok (.aload_n 0, 1) := by decide +kernel
theorem dX1_discover_36 : decode cX1_discover 36 = .ok (.iconst 0, 1) := by decide +kernel
theorem dX1_discover_37 : decode cX1_discover 37 = .ok (.putfield 197, 3) := by decide +kernel
theorem dX1_discover_40 : decode cX1_discover 40 = .ok (.iconst 0, 1) := by decide +kernel
theorem dX1_discover_41 : decode cX1_discover 41 = .ok (.istore 4, 2) := by decide +kernel
theorem dX1_discover_43 : decode cX1_discover 43 = .ok (.iload 4, 2) := by decide +kernel
theorem dX1_discover_45 : decode cX1_discover 45 = .ok (.aload_n 0, 1) := by decide +kernel
theorem dX1_discover_46 : decode cX1_discover 46 = .ok (.getfield 223, 3) := by decide +kernel
theorem dX1_discover_49 : decode cX1_discover 49 = .ok (.if_icmp .ge 90, 3) := by decide +kernel
theorem dX1_discover_52 : decode cX1_discover 52 = .ok (.aload_n 2, 1) := by decide +kernel
theorem dX1_discover_53 : decode cX1_discover 53 = .ok (.aload_n 0, 1) := by decide +kernel
theorem dX1_discover_54 : decode cX1_discover 54 = .ok (.getfield 80, 3) := by decide +kernel
theorem dX1_discover_57 : decode cX1_discover 57 = .ok (.if_acmp .ne 10, 3) := by decide +kernel
theorem dX1_discover_60 : decode cX1_discover 60 = .ok (.aload_n 0, 1) := by decide +kernel
theorem dX1_discover_61 : decode cX1_discover 61 = .ok (.getfield 83, 3) := by decide +kernel
theorem dX1_discover_64 : decode cX1_discover 64 = .ok (.goto 7, 3) := by decide +kernel
theorem dX1_discover_67 : decode cX1_discover 67 = .ok (.aload_n 0, 1) := by decide +kernel
theorem dX1_discover_68 : decode cX1_discover 68 = .ok (.getfield 80, 3) := by decide +kernel
theorem dX1_discover_71 : decode cX1_discover 71 = .ok (.astore 5, 2) := by decide +kernel
theorem dX1_discover_73 : decode cX1_discover 73 = .ok (.aload 5, 2) := by decide +kernel
theorem dX1_discover_75 : decode cX1_discover 75 = .ok (.aload_n 0, 1) := by decide +kernel
theorem dX1_discover_76 : decode cX1_discover 76 = .ok (.getfield 64, 3) := by decide +kernel
theorem dX1_discover_79 : decode cX1_discover 79 = .ok (.invokevirtual 241, 3) := by decide +kernel
theorem dX1_discover_82 : decode cX1_discover 82 = .ok (.aload 5, 2) := by decide +kernel
theorem dX1_discover_84 : decode cX1_discover 84 = .ok (.aload_n 0, 1) := by decide +kernel
theorem dX1_discover_85 : decode cX1_discover 85 = .ok (.aload_n 1, 1) := by decide +kernel
theorem dX1_discover_86 : decode cX1_discover 86 = .ok (.iload 4, 2) := by decide +kernel
theorem dX1_discover_88 : decode cX1_discover 88 = .ok (.iaload, 1) := by decide +kernel
theorem dX1_discover_89 : decode cX1_discover 89 = .ok (.invokevirtual 244, 3) := by decide +kernel
theorem dX1_discover_92 : decode cX1_discover 92 = .ok (.i2l, 1) := by decide +kernel
theorem dX1_discover_93 : decode cX1_discover 93 = .ok (.invokevirtual 247, 3) := by decide +kernel
theorem dX1_discover_96 : decode cX1_discover 96 = .ok (.ifCond .ne 6, 3) := by decide +kernel
theorem dX1_discover_99 : decode cX1_discover 99 = .ok (.goto 34, 3) := by decide +kernel
theorem dX1_discover_102 : decode cX1_discover 102 = .ok (.aload 5, 2) := by decide +kernel
theorem dX1_discover_104 : decode cX1_discover 104 = .ok (.astore_n 2, 1) := by decide +kernel
theorem dX1_discover_105 : decode cX1_discover 105 = .ok (.aload_n 0, 1) := by decide +kernel
theorem dX1_discover_106 : decode cX1_discover 106 = .ok (.aload_n 0, 1) := by decide +kernel
theorem dX1_discover_107 : decode cX1_discover 107 = .ok (.getfield 64, 3) := by decide +kernel
theorem dX1_discover_110 : decode cX1_discover 110 = .ok (.aload_n 1, 1) := by decide +kernel
theorem dX1_discover_111 : decode cX1_discover 111 = .ok (.iload 4, 2) := by decide +kernel
theorem dX1_discover_113 : decode cX1_discover 113 = .ok (.iaload, 1) := by decide +kernel
theorem dX1_discover_114 : decode cX1_discover 114 = .ok (.i2l, 1) := by decide +kernel
theorem dX1_discover_115 : decode cX1_discover 115 = .ok (.ldc2_w 204, 3) := by decide +kernel
theorem dX1_discover_118 : decode cX1_discover 118 = .ok (.lmul, 1) := by decide +kernel
theorem dX1_discover_119 : decode cX1_discover 119 = .ok (.ldc2_w 221, 3) := by decide +kernel
theorem dX1_discover_122 : decode cX1_discover 122 = .ok (.ladd, 1) := by decide +kernel
theorem dX1_discover_123 : decode cX1_discover 123 = .ok (.iconst 4, 1) := by decide +kernel
theorem dX1_discover_124 : decode cX1_discover 124 = .ok (.invokevirtual 217, 3) := by decide +kernel
theorem dX1_discover_127 : decode cX1_discover 127 = .ok (.putfield 197, 3) := by decide +kernel
theorem dX1_discover_130 : decode cX1_discover 130 = .ok (.iinc 3 1, 3) := by decide +kernel
theorem dX1_discover_133 : decode cX1_discover 133 = .ok (.iinc 4 1, 3) := by decide +kernel
theorem dX1_discover_136 : decode cX1_discover 136 = .ok (.goto (-93), 3) := by decide +kernel
theorem dX1_discover_139 : decode cX1_discover 139 = .ok (.aload_n 0, 1) := by decide +kernel
theorem dX1_discover_140 : decode cX1_discover 140 = .ok (.aload_n 2, 1) := by decide +kernel
theorem dX1_discover_141 : decode cX1_discover 141 = .ok (.invokevirtual 251, 3) := by decide +kernel
theorem dX1_discover_144 : decode cX1_discover 144 = .ok (.iload_n 3, 1) := by decide +kernel
theorem dX1_discover_145 : decode cX1_discover 145 = .ok (.ireturn, 1) := by decide +kernel
/-- WriteOnceDisc.discover()I -/
def wX1_discover_L133 (post : Int32 → Hp → Prop) (rc43 : Nat → Int32 → Int32 → Hp → Prop) (x0 : Nat) (x1 : Nat) (x2 : Nat) (x3 : Int32) (x4 : Int32) (σ : Hp) : Prop :=
(∀ y1 : Int32, y1 = x4 + 1 → rc43 x2 x3 y1 σ)
def wX1_discover_L71 (post : Int32 → Hp → Prop) (rc43 : Nat → Int32 → Int32 → Hp → Prop) (x0 : Nat) (x1 : Nat) (x2 : Nat) (x3 : Int32) (x4 : Int32) (s0 : Nat) (σ : Hp) : Prop :=
(tg_ σ x0 = 1 ∧ (tg_ σ s0 = 8 ∧ (wX8_begin s0 (fR_ σ 0 2 x0) σ (fun σ4 => (∀ σ5, σ5 = bu_ σ4 (bc_ σ) (bs_ σ) → (tg_ σ5 x1 = 102 ∧ (vp_in x4 (ln_ σ5 x1) ∧ (tg_ σ5 x0 = 1 ∧ (wX1_base x0 (aI_ σ5 x1 (x4).toNatClampNeg) σ5 (fun r9 => (tg_ σ5 s0 = 8 ∧ (∃ mc11 ms12 : Nat, (mc11 ≤ bc_ σ5 ∧ (ms12 ≤ bs_ σ5 ∧ (wX8_reads s0 (r9).toInt64 (bu_ σ5 mc11 ms12) (fun r15 σ16 => (∀ σ17, σ17 = bu_ σ16 (bc_ σ5 - mc11) (bs_ σ5 - ms12) → ((¬ r15 = 0 →
  (tg_ σ17 x0 = 1 ∧ (tg_ σ17 x1 = 102 ∧ (vp_in x4 (ln_ σ17 x1) ∧ (tg_ σ17 (fR_ σ17 0 2 x0) = 7 ∧ (wX7_low (fR_ σ17 0 2 x0) ((((aI_ σ17 x1 (x4).toNatClampNeg)).toInt64 * (2048 : Int64)) + (8 : Int64)) (4 : Int32) σ17 (fun r23 => (∀ σ24, σ24 = sI_ σ17 0 9 x0 r23 → (∀ y25 : Int32, y25 = x3 + 1 → wX1_discover_L133 post rc43 x0 x1 s0 y25 x4 σ24))))))))) ∧
 (r15 = 0 →
  wX1_discover_L133 post rc43 x0 x1 x2 x3 x4 σ17)))))))))))))))))))
def wX1_discover_B43 (post : Int32 → Hp → Prop) (rc43 : Nat → Int32 → Int32 → Hp → Prop) (x0 : Nat) (x1 : Nat) (x2 : Nat) (x3 : Int32) (x4 : Int32) (σ : Hp) : Prop :=
(tg_ σ x0 = 1 ∧ (((fI_ σ 0 10 x0) ≤ x4 →
  (∃ mc28 ms29 : Nat, (mc28 ≤ bc_ σ ∧ (ms29 ≤ bs_ σ ∧ (wX1_take x0 x2 (bu_ σ mc28 ms29) (fun σ32 => (∀ σ33, σ33 = bu_ σ32 (bc_ σ - mc28) (bs_ σ - ms29) → post x3 σ33))))))) ∧
 (¬ (fI_ σ 0 10 x0) ≤ x4 →
  ((¬ x2 = (fR_ σ 0 6 x0) →
   wX1_discover_L71 post rc43 x0 x1 x2 x3 x4 (fR_ σ 0 6 x0) σ) ∧
  (x2 = (fR_ σ 0 6 x0) →
   wX1_discover_L71 post rc43 x0 x1 x2 x3 x4 (fR_ σ 0 7 x0) σ)))))
def wX1_discover_L43 (post : Int32 → Hp → Prop) (x0 : Nat) (x1 : Nat) (x2 : Nat) (x3 : Int32) (x4 : Int32) (σ : Hp) : Prop :=
 ∃ (I : Nat → Int32 → Int32 → Hp → Prop) (μ : Nat → Int32 → Int32 → Hp → Nat), I x2 x3 x4 σ ∧ ∀ (x2 : Nat) (x3 : Int32) (x4 : Int32) (σ : Hp), I x2 x3 x4 σ → wX1_discover_B43 post (fun x2' x3' x4' σ' => I x2' x3' x4' σ' ∧ μ x2' x3' x4' σ' < μ x2 x3 x4 σ) x0 x1 x2 x3 x4 σ
def wX1_discover_L18 (post : Int32 → Hp → Prop) (x0 : Nat) (σ : Hp) : Prop :=
(tg_ σ x0 = 1 ∧ (tg_ σ (fR_ σ 0 0 x0) = 2 ∧ (∀ σ37, σ37 = sI_ σ 1 2 (fR_ σ 0 0 x0) (0 : Int32) → (wX1_marks x0  σ37 (fun r38 σ39 => (∀ σ40, σ40 = bu_ σ39 (bc_ σ37) (bs_ σ37) → (tg_ σ40 x0 = 1 ∧ (∀ σ42, σ42 = sI_ σ40 0 9 x0 (0 : Int32) → wX1_discover_L43 post x0 r38 0 (0 : Int32) (0 : Int32) σ42))))))))
def wX1_discover (x0 : Nat) (σ : Hp) (post : Int32 → Hp → Prop) : Prop :=
(tg_ σ x0 = 1 ∧ (tg_ σ (fR_ σ 0 0 x0) = 2 ∧ (((fI_ σ 1 2 (fR_ σ 0 0 x0)) = 0 →
  wX1_discover_L18 post x0 σ) ∧
 (¬ (fI_ σ 1 2 (fR_ σ 0 0 x0)) = 0 →
  (∀ σ46, σ46 = sI_ σ 1 0 (fR_ σ 0 0 x0) (-1 : Int32) → wX1_discover_L18 post x0 σ46)))))
set_option maxHeartbeats 4000000 in
theorem sX1_discover_L133 {G : GG_} {p : Program} {l : Launch} {e : Env} {R : Room} {s : State} {m : MethodId} {args : Array Value} {below : List Frame} {meth : Method} {c : Code} {mc ms : Nat} (Y : MX_ G p R s m args meth c cX1_discover 6 RX1 (some Jvm.ClassFile.FieldType.int) 11 257 mc ms "discover") {post : Int32 → Hp → Prop} {rc43 : Nat → Int32 → Int32 → Hp → Prop} {x0 : Nat} {x1 : Nat} {x2 : Nat} {x3 : Int32} {x4 : Int32} {σ : Hp} (hrc43 : ∀ (x2 : Nat) (x3 : Int32) (x4 : Int32) (σ : Hp), rc43 x2 x3 x4 σ → WG_ G p l e R s m args below meth c (MQ below (QI_ G post) args s mc ms (FR_ G)) (BU_ R) 6 43 [(0, rv_ x0), (1, rv_ x1), (2, rv_ x2), (3, .int x3), (4, .int x4)] [] σ) (hf : wX1_discover_L133 post rc43 x0 x1 x2 x3 x4 σ) : WG_ G p l e R s m args below meth c (MQ below (QI_ G post) args s mc ms (FR_ G)) (BU_ R) 6 133 [(0, rv_ x0), (1, rv_ x1), (2, rv_ x2), (3, .int x3), (4, .int x4)] [] σ := by
  have ⟨X, hlk, hr, hRf, hRl, hRc, hnm⟩ := Y
  have ⟨⟨hx, hb, _, hown, hts⟩, _, _⟩ := X
  intro H locs cells slots ls hP hL hB hl
  unfold wX1_discover_L133 at hf
  have hl := lv_sub hl [4, 0, 1, 2, 3] rfl
  refine p_iincc (i := 4) (k := 1) hx hb (by decide) dX1_discover_133 hl (by decide) ⟨⟨ne_ rfl, Or.inl (ne_ rfl)⟩, ⟨⟨ne_ rfl, Or.inl (ne_ rfl)⟩, ⟨⟨ne_ rfl, Or.inl (ne_ rfl)⟩, ⟨⟨ne_ rfl, Or.inr rfl⟩, trivial⟩⟩⟩⟩ (fun y1 hy1 ls hl => ?_)
  have hf := hf y1 hy1
  refine lv_goto (tgt := 43) hx hb dX1_discover_136 (by decide) ?_
  exact hrc43 _ _ _ _ hf _ _ _ _ _ hP hL hB (lv_sub hl [1, 2, 3, 4, 0] rfl)
set_option maxHeartbeats 4000000 in
theorem sX1_discover_L71 {G : GG_} {p : Program} {l : Launch} {e : Env} {R : Room} {s : State} {m : MethodId} {args : Array Value} {below : List Frame} {meth : Method} {c : Code} {mc ms : Nat} (Y : MX_ G p R s m args meth c cX1_discover 6 RX1 (some Jvm.ClassFile.FieldType.int) 11 257 mc ms "discover") {post : Int32 → Hp → Prop} {rc43 : Nat → Int32 → Int32 → Hp → Prop} {x0 : Nat} {x1 : Nat} {x2 : Nat} {x3 : Int32} {x4 : Int32} {s0 : Nat} {σ : Hp} (hrc43 : ∀ (x2 : Nat) (x3 : Int32) (x4 : Int32) (σ : Hp), rc43 x2 x3 x4 σ → WG_ G p l e R s m args below meth c (MQ below (QI_ G post) args s mc ms (FR_ G)) (BU_ R) 6 43 [(0, rv_ x0), (1, rv_ x1), (2, rv_ x2), (3, .int x3), (4, .int x4)] [] σ) (hf : wX1_discover_L71 post rc43 x0 x1 x2 x3 x4 s0 σ) : WG_ G p l e R s m args below meth c (MQ below (QI_ G post) args s mc ms (FR_ G)) (BU_ R) 6 71 [(0, rv_ x0), (1, rv_ x1), (2, rv_ x2), (3, .int x3), (4, .int x4)] [rv_ s0] σ := by
  have ⟨X, hlk, hr, hRf, hRl, hRc, hnm⟩ := Y
  have ⟨⟨hx, hb, _, hown, hts⟩, _, _⟩ := X
  intro H locs cells slots ls hP hL hB hl
  unfold wX1_discover_L71 at hf
  refine p_astore (i := 5) hx hb dX1_discover_71 hl (by decide) ⟨⟨ne_ rfl, Or.inl (ne_ rfl)⟩, ⟨⟨ne_ rfl, Or.inl (ne_ rfl)⟩, ⟨⟨ne_ rfl, Or.inl (ne_ rfl)⟩, ⟨⟨ne_ rfl, Or.inl (ne_ rfl)⟩, ⟨⟨ne_ rfl, Or.inr rfl⟩, trivial⟩⟩⟩⟩⟩ (fun ls hl => ?_)
  refine p_aload hx hb dX1_discover_73 (lv_at hl 0 rfl) ?_
  refine p_aload_n hx hb dX1_discover_75 rfl (lv_at hl 1 rfl) ?_
  obtain ⟨ht2, hf⟩ := hf
  refine p_gR X cf0_ (k := 2) (by decide) rfl hP ht2 q628 (fun _ h => h) dX1_discover_76 ?_
  obtain ⟨ht3, hf⟩ := hf
  refine p_callv hL (p_runV X cf7_ hP ht3 (metX8_begin l G _ _ _ _ X.2.2 hf) (cwV 1 hts (lw_V q977 q978 q979 q105 q980) rfl rfl rfl (by decide +kernel) ⟨Nat.le_trans (Nat.le_of_ble_eq_true rfl) hRf, Nat.le_trans (Nat.le_of_ble_eq_true rfl) hRl⟩) rfl hl.1 rfl (by decide) dX1_discover_79 (BU_call hB (Nat.zero_le _) (Nat.zero_le _))) (fun σ4 H locs hf hP hL => ?_)
  have hB := BU_keep (τ := σ4) hB
  have hP := Pic_bu hP (bc_ σ) (bs_ σ)
  refine p_nmPB hP hB (fun σ5 hσ5 hP hB => ?_)
  have hf := hf σ5 hσ5
  refine p_aload hx hb dX1_discover_82 (lv_at hl 0 rfl) ?_
  refine p_aload_n hx hb dX1_discover_84 rfl (lv_at hl 1 rfl) ?_
  refine p_aload_n hx hb dX1_discover_85 rfl (lv_at hl 2 rfl) ?_
  refine lv_iload hx hb dX1_discover_86 (lv_at hl 5 rfl) ?_
  obtain ⟨ht6, hf⟩ := hf
  obtain ⟨hi7, hf⟩ := hf
  refine p_iald X hP ht6 hi7 dX1_discover_88 ?_
  obtain ⟨ht8, hf⟩ := hf
  refine p_calli hL (p_runV X cf0_ hP ht8 (metX1_base l G _ _ _ _ X.2.2 hf) (cwV 1 hts (lw_V q982 q984 qs20 q85 q985) rfl rfl rfl (by decide +kernel) ⟨Nat.le_trans (Nat.le_of_ble_eq_true rfl) hRf, Nat.le_trans (Nat.le_of_ble_eq_true rfl) hRl⟩) rfl hl.1 rfl (by rw [(ca_r ca_n)]; decide) dX1_discover_89 (BU_call hB (Nat.zero_le _) (Nat.zero_le _))) (fun r9 σ₁ H locs hf hP hL => ?_)
  obtain ⟨e₁, hf⟩ := hf
  rw [e₁] at hP
  refine lv_i2l hx hb dX1_discover_92 rfl ?_
  obtain ⟨ht10, hf⟩ := hf
  obtain ⟨mc11, ms12, hf⟩ := hf
  obtain ⟨hb13, hf⟩ := hf
  obtain ⟨hb14, hf⟩ := hf
  refine p_calli hL (p_runV X cf7_ (Pic_bu hP mc11 ms12) ht10 (metX8_reads l G _ _ _ _ _ _ X.2.2 hf) (cwV 1 hts (lw_V q986 q987 q988 q105 q989) rfl rfl rfl (by decide +kernel) ⟨Nat.le_trans (Nat.le_of_ble_eq_true rfl) hRf, Nat.le_trans (Nat.le_of_ble_eq_true rfl) hRl⟩) rfl hl.1 rfl (by decide) dX1_discover_93 (BU_call hB hb13 hb14)) (fun r15 σ16 H locs hf hP hL => ?_)
  have hB := BU_back (τ := σ16) hB hb13 hb14
  have hP := Pic_bu hP (bc_ σ5 - mc11) (bs_ σ5 - ms12)
  refine p_nmPB hP hB (fun σ17 hσ17 hP hB => ?_)
  have hf := hf σ17 hσ17
  refine lv_if_ne (tgt := 102) hx hb dX1_discover_96 (by decide) (fun c18 => ?_) (fun c18 => ?_)
  · have hf := hf.1 c18
    refine p_aload hx hb dX1_discover_102 (lv_at hl 0 rfl) ?_
    have hl := lv_sub hl [1, 2, 4, 5] rfl
    refine p_astore_n (i := 2) hx hb dX1_discover_104 rfl hl (by decide) ⟨⟨ne_ rfl, Or.inl (ne_ rfl)⟩, ⟨⟨ne_ rfl, Or.inr (rv_cat _)⟩, ⟨⟨ne_ rfl, Or.inl (ne_ rfl)⟩, ⟨⟨ne_ rfl, Or.inl (ne_ rfl)⟩, trivial⟩⟩⟩⟩ (fun ls hl => ?_)
    refine p_aload_n hx hb dX1_discover_105 rfl (lv_at hl 1 rfl) ?_
    refine p_aload_n hx hb dX1_discover_106 rfl (lv_at hl 1 rfl) ?_
    obtain ⟨ht19, hf⟩ := hf
    refine p_gR X cf0_ (k := 2) (by decide) rfl hP ht19 q628 (fun _ h => h) dX1_discover_107 ?_
    refine p_aload_n hx hb dX1_discover_110 rfl (lv_at hl 2 rfl) ?_
    refine lv_iload hx hb dX1_discover_111 (lv_at hl 4 rfl) ?_
    obtain ⟨ht20, hf⟩ := hf
    obtain ⟨hi21, hf⟩ := hf
    refine p_iald X hP ht20 hi21 dX1_discover_113 ?_
    refine lv_i2l hx hb dX1_discover_114 rfl ?_
    refine lv_ldc2 hx hb hown (hts _ q959) dX1_discover_115 ?_
    refine lv_lmul hx hb dX1_discover_118 ?_
    refine lv_ldc2 hx hb hown (hts _ q976) dX1_discover_119 ?_
    refine lv_ladd hx hb dX1_discover_122 ?_
    refine lv_iconst (v := 4) hx hb dX1_discover_123 (by decide) ?_
    obtain ⟨ht22, hf⟩ := hf
    refine p_calli hL (p_runV X cf6_ hP ht22 (metX7_low l G _ _ _ _ _ X.2.2 hf) (cwV 2 hts (lw_V q972 q973 q974 q104 q975) rfl rfl rfl (by decide +kernel) ⟨Nat.le_trans (Nat.le_of_ble_eq_true rfl) hRf, Nat.le_trans (Nat.le_of_ble_eq_true rfl) hRl⟩) rfl hl.1 rfl (by rw [(ca_r ca_n)]; decide) dX1_discover_124 (BU_call hB (Nat.zero_le _) (Nat.zero_le _))) (fun r23 σ₁ H locs hf hP hL => ?_)
    obtain ⟨e₁, hf⟩ := hf
    rw [e₁] at hP
    refine p_pI X cf0_ (k := 9) (by decide) rfl hP hL ht19 (p_ow hP ht19 rfl) q635 (fun _ h => h) (Or.inl rfl) rfl rfl dX1_discover_127 (fun H locs hP hL => ?_)
    refine p_nmPB hP hB (fun σ24 hσ24 hP hB => ?_)
    have hf := hf σ24 hσ24
    have ht19 : tg_ σ24 x0 = 1 := by rw [hσ24]; exact ht19
    have ht20 : tg_ σ24 x1 = 102 := by rw [hσ24]; exact ht20
    have hl := lv_sub hl [3, 0, 1, 2, 4] rfl
    refine p_iincc (i := 3) (k := 1) hx hb (by decide) dX1_discover_130 hl (by decide) ⟨⟨ne_ rfl, Or.inr (rv_cat _)⟩, ⟨⟨ne_ rfl, Or.inl (ne_ rfl)⟩, ⟨⟨ne_ rfl, Or.inl (ne_ rfl)⟩, ⟨⟨ne_ rfl, Or.inl (ne_ rfl)⟩, trivial⟩⟩⟩⟩ (fun y25 hy25 ls hl => ?_)
    have hf := hf y25 hy25
    exact sX1_discover_L133 Y hrc43 hf _ _ _ _ _ hP hL hB (lv_sub hl [2, 3, 1, 0, 4] rfl)
  · have hf := hf.2 c18
    refine lv_goto (tgt := 133) hx hb dX1_discover_99 (by decide) ?_
    exact sX1_discover_L133 Y hrc43 hf _ _ _ _ _ hP hL hB (lv_sub hl [1, 2, 3, 4, 5] rfl)
set_option maxHeartbeats 4000000 in
theorem sX1_discover_B43 {G : GG_} {p : Program} {l : Launch} {e : Env} {R : Room} {s : State} {m : MethodId} {args : Array Value} {below : List Frame} {meth : Method} {c : Code} {mc ms : Nat} (Y : MX_ G p R s m args meth c cX1_discover 6 RX1 (some Jvm.ClassFile.FieldType.int) 11 257 mc ms "discover") {post : Int32 → Hp → Prop} {rc43 : Nat → Int32 → Int32 → Hp → Prop} {x0 : Nat} {x1 : Nat} {x2 : Nat} {x3 : Int32} {x4 : Int32} {σ : Hp} (hrc43 : ∀ (x2 : Nat) (x3 : Int32) (x4 : Int32) (σ : Hp), rc43 x2 x3 x4 σ → WG_ G p l e R s m args below meth c (MQ below (QI_ G post) args s mc ms (FR_ G)) (BU_ R) 6 43 [(0, rv_ x0), (1, rv_ x1), (2, rv_ x2), (3, .int x3), (4, .int x4)] [] σ) (hf : wX1_discover_B43 post rc43 x0 x1 x2 x3 x4 σ) : WG_ G p l e R s m args below meth c (MQ below (QI_ G post) args s mc ms (FR_ G)) (BU_ R) 6 43 [(0, rv_ x0), (1, rv_ x1), (2, rv_ x2), (3, .int x3), (4, .int x4)] [] σ := by
  have ⟨X, hlk, hr, hRf, hRl, hRc, hnm⟩ := Y
  have ⟨⟨hx, hb, _, hown, hts⟩, _, _⟩ := X
  intro H locs cells slots ls hP hL hB hl
  unfold wX1_discover_B43 at hf
  refine lv_iload hx hb dX1_discover_43 (lv_at hl 4 rfl) ?_
  refine p_aload_n hx hb dX1_discover_45 rfl (lv_at hl 0 rfl) ?_
  obtain ⟨ht26, hf⟩ := hf
  refine p_gI X cf0_ (k := 10) (by decide) rfl hP ht26 q636 (fun _ h => h) dX1_discover_46 ?_
  refine lv_icmp_ge (tgt := 139) hx hb dX1_discover_49 (by decide) (fun c27 => ?_) (fun c27 => ?_)
  · have hf := hf.1 c27
    refine p_aload_n hx hb dX1_discover_139 rfl (lv_at hl 0 rfl) ?_
    refine p_aload_n hx hb dX1_discover_140 rfl (lv_at hl 2 rfl) ?_
    obtain ⟨mc28, ms29, hf⟩ := hf
    obtain ⟨hb30, hf⟩ := hf
    obtain ⟨hb31, hf⟩ := hf
    refine p_callv hL (p_runV X cf0_ (Pic_bu hP mc28 ms29) ht26 (metX1_take l G _ _ _ _ _ _ X.2.2 hf) (cwV 1 hts (lw_V q1133 q1135 qs38 q85 q1136) rfl rfl rfl (by decide +kernel) ⟨Nat.le_trans (Nat.le_of_ble_eq_true rfl) hRf, Nat.le_trans (Nat.le_of_ble_eq_true rfl) hRl⟩) rfl hl.1 rfl (by decide) dX1_discover_141 (BU_call hB hb30 hb31)) (fun σ32 H locs hf hP hL => ?_)
    have hB := BU_back (τ := σ32) hB hb30 hb31
    have hP := Pic_bu hP (bc_ σ - mc28) (bs_ σ - ms29)
    refine p_nmPB hP hB (fun σ33 hσ33 hP hB => ?_)
    have hf := hf σ33 hσ33
    refine lv_iload_n hx hb dX1_discover_144 rfl (lv_at hl 3 rfl) ?_
    exact p_iret X hlk hP hL (BU_le hB hRc).1 (BU_le hB hRc).2 hr dX1_discover_145 hf
  · have hf := hf.2 c27
    refine p_aload_n hx hb dX1_discover_52 rfl (lv_at hl 2 rfl) ?_
    refine p_aload_n hx hb dX1_discover_53 rfl (lv_at hl 0 rfl) ?_
    refine p_gR X cf0_ (k := 6) (by decide) rfl hP ht26 q632 (fun _ h => h) dX1_discover_54 ?_
    refine p_acmp_ne (tgt := 67) hx hb dX1_discover_57 (by decide) (fun c34 => ?_) (fun c34 => ?_)
    · have hf := hf.1 c34
      refine p_aload_n hx hb dX1_discover_67 rfl (lv_at hl 0 rfl) ?_
      refine p_gR X cf0_ (k := 6) (by decide) rfl hP ht26 q632 (fun _ h => h) dX1_discover_68 ?_
      exact sX1_discover_L71 Y hrc43 hf _ _ _ _ _ hP hL hB (lv_sub hl [0, 1, 2, 3, 4] rfl)
    · have hf := hf.2 c34
      refine p_aload_n hx hb dX1_discover_60 rfl (lv_at hl 0 rfl) ?_
      refine p_gR X cf0_ (k := 7) (by decide) rfl hP ht26 q633 (fun _ h => h) dX1_discover_61 ?_
      refine lv_goto (tgt := 71) hx hb dX1_discover_64 (by decide) ?_
      exact sX1_discover_L71 Y hrc43 hf _ _ _ _ _ hP hL hB (lv_sub hl [0, 1, 2, 3, 4] rfl)
set_option maxHeartbeats 4000000 in
theorem sX1_discover_L43 {G : GG_} {p : Program} {l : Launch} {e : Env} {R : Room} {s : State} {m : MethodId} {args : Array Value} {below : List Frame} {meth : Method} {c : Code} {mc ms : Nat} (Y : MX_ G p R s m args meth c cX1_discover 6 RX1 (some Jvm.ClassFile.FieldType.int) 11 257 mc ms "discover") {post : Int32 → Hp → Prop} {x0 : Nat} {x1 : Nat} {x2 : Nat} {x3 : Int32} {x4 : Int32} {σ : Hp} (hf : wX1_discover_L43 post x0 x1 x2 x3 x4 σ) : WG_ G p l e R s m args below meth c (MQ below (QI_ G post) args s mc ms (FR_ G)) (BU_ R) 6 43 [(0, rv_ x0), (1, rv_ x1), (2, rv_ x2), (3, .int x3), (4, .int x4)] [] σ := by
  unfold wX1_discover_L43 at hf
  obtain ⟨I, μ, h0, hI⟩ := hf
  have key : ∀ (n : Nat) (x2 : Nat) (x3 : Int32) (x4 : Int32) (σ : Hp), I x2 x3 x4 σ → μ x2 x3 x4 σ < n → WG_ G p l e R s m args below meth c (MQ below (QI_ G post) args s mc ms (FR_ G)) (BU_ R) 6 43 [(0, rv_ x0), (1, rv_ x1), (2, rv_ x2), (3, .int x3), (4, .int x4)] [] σ := by
    intro n
    induction n with
    | zero => intro x2 x3 x4 σ _ h; exact absurd h (Nat.not_lt_zero _)
    | succ n ih => intro x2 x3 x4 σ hi hn; exact sX1_discover_B43 Y (fun x2' x3' x4' σ' h => ih x2' x3' x4' σ' h.1 (Nat.lt_of_lt_of_le h.2 (Nat.le_of_lt_succ hn))) (hI x2 x3 x4 σ hi)
  exact key _ _ _ _ _ h0 (Nat.lt_succ_self _)
set_option maxHeartbeats 4000000 in
theorem sX1_discover_L18 {G : GG_} {p : Program} {l : Launch} {e : Env} {R : Room} {s : State} {m : MethodId} {args : Array Value} {below : List Frame} {meth : Method} {c : Code} {mc ms : Nat} (Y : MX_ G p R s m args meth c cX1_discover 6 RX1 (some Jvm.ClassFile.FieldType.int) 11 257 mc ms "discover") {post : Int32 → Hp → Prop} {x0 : Nat} {σ : Hp} (hf : wX1_discover_L18 post x0 σ) : WG_ G p l e R s m args below meth c (MQ below (QI_ G post) args s mc ms (FR_ G)) (BU_ R) 6 18 [(0, rv_ x0)] [] σ := by
  have ⟨X, hlk, hr, hRf, hRl, hRc, hnm⟩ := Y
  have ⟨⟨hx, hb, _, hown, hts⟩, _, _⟩ := X
  intro H locs cells slots ls hP hL hB hl
  unfold wX1_discover_L18 at hf
  refine p_aload_n hx hb dX1_discover_18 rfl (lv_at hl 0 rfl) ?_
  obtain ⟨ht35, hf⟩ := hf
  refine p_gR X cf0_ (k := 0) (by decide) rfl hP ht35 q626 (fun _ h => h) dX1_discover_19 ?_
  refine lv_iconst (v := 0) hx hb dX1_discover_22 (by decide) ?_
  obtain ⟨ht36, hf⟩ := hf
  refine p_pI X cf1_ (k := 2) (by decide) rfl hP hL ht36 (p_ow hP ht36 rfl) q133 (fun _ h => h) (Or.inl rfl) rfl (by decide) dX1_discover_23 (fun H locs hP hL => ?_)
  refine p_nmPB hP hB (fun σ37 hσ37 hP hB => ?_)
  have hf := hf σ37 hσ37
  have ht35 : tg_ σ37 x0 = 1 := by rw [hσ37]; exact ht35
  refine p_aload_n hx hb dX1_discover_26 rfl (lv_at hl 0 rfl) ?_
  refine p_callr hL (p_runV X cf0_ hP ht35 (metX1_marks l G _ _ _ X.2.2 hf) (cwV 0 hts (lw_V q955 q957 qs19 q85 q958) rfl rfl rfl (by decide +kernel) ⟨Nat.le_trans (Nat.le_of_ble_eq_true rfl) hRf, Nat.le_trans (Nat.le_of_ble_eq_true rfl) hRl⟩) rfl hl.1 rfl (by decide) dX1_discover_27 (BU_call hB (Nat.zero_le _) (Nat.zero_le _))) (fun r38 σ39 H locs hf hP hL => ?_)
  have hB := BU_keep (τ := σ39) hB
  have hP := Pic_bu hP (bc_ σ37) (bs_ σ37)
  refine p_nmPB hP hB (fun σ40 hσ40 hP hB => ?_)
  have hf := hf σ40 hσ40
  refine p_astore_n (i := 1) hx hb dX1_discover_30 rfl hl (by decide) ⟨⟨ne_ rfl, Or.inr (rv_cat _)⟩, trivial⟩ (fun ls hl => ?_)
  refine p_null hx hb dX1_discover_31 ?_
  refine p_astore_n (i := 2) hx hb dX1_discover_32 rfl hl (by decide) ⟨⟨ne_ rfl, Or.inr (rv_cat _)⟩, ⟨⟨ne_ rfl, Or.inl (ne_ rfl)⟩, trivial⟩⟩ (fun ls hl => ?_)
  refine lv_iconst (v := 0) hx hb dX1_discover_33 (by decide) ?_
  refine p_istore_n (i := 3) hx hb dX1_discover_34 rfl hl (by decide) ⟨⟨ne_ rfl, Or.inr rfl⟩, ⟨⟨ne_ rfl, Or.inl (ne_ rfl)⟩, ⟨⟨ne_ rfl, Or.inl (ne_ rfl)⟩, trivial⟩⟩⟩ (fun ls hl => ?_)
  refine p_aload_n hx hb dX1_discover_35 rfl (lv_at hl 3 rfl) ?_
  refine lv_iconst (v := 0) hx hb dX1_discover_36 (by decide) ?_
  obtain ⟨ht41, hf⟩ := hf
  refine p_pI X cf0_ (k := 9) (by decide) rfl hP hL ht41 (p_ow hP ht41 rfl) q635 (fun _ h => h) (Or.inl rfl) rfl rfl dX1_discover_37 (fun H locs hP hL => ?_)
  refine p_nmPB hP hB (fun σ42 hσ42 hP hB => ?_)
  have hf := hf σ42 hσ42
  have ht41 : tg_ σ42 x0 = 1 := by rw [hσ42]; exact ht41
  refine lv_iconst (v := 0) hx hb dX1_discover_40 (by decide) ?_
  refine p_istore (i := 4) hx hb dX1_discover_41 hl (by decide) ⟨⟨ne_ rfl, Or.inr rfl⟩, ⟨⟨ne_ rfl, Or.inl (ne_ rfl)⟩, ⟨⟨ne_ rfl, Or.inl (ne_ rfl)⟩, ⟨⟨ne_ rfl, Or.inl (ne_ rfl)⟩, trivial⟩⟩⟩⟩ (fun ls hl => ?_)
  exact sX1_discover_L43 Y hf _ _ _ _ _ hP hL hB (lv_sub hl [4, 3, 2, 1, 0] rfl)
set_option maxHeartbeats 4000000 in
theorem sX1_discover {G : GG_} {p : Program} {l : Launch} {e : Env} {R : Room} {s : State} {m : MethodId} {args : Array Value} {below : List Frame} {meth : Method} {c : Code} {mc ms : Nat} (Y : MX_ G p R s m args meth c cX1_discover 6 RX1 (some Jvm.ClassFile.FieldType.int) 11 257 mc ms "discover") {post : Int32 → Hp → Prop} {x0 : Nat} {σ : Hp} (hf : wX1_discover x0 σ post) : WG_ G p l e R s m args below meth c (MQ below (QI_ G post) args s mc ms (FR_ G)) (BU_ R) 6 0 [(0, rv_ x0)] [] σ := by
  have ⟨X, hlk, hr, hRf, hRl, hRc, hnm⟩ := Y
  have ⟨⟨hx, hb, _, hown, hts⟩, _, _⟩ := X
  intro H locs cells slots ls hP hL hB hl
  unfold wX1_discover at hf
  refine p_aload_n hx hb dX1_discover_0 rfl (lv_at hl 0 rfl) ?_
  obtain ⟨ht43, hf⟩ := hf
  refine p_gR X cf0_ (k := 0) (by decide) rfl hP ht43 q626 (fun _ h => h) dX1_discover_1 ?_
  obtain ⟨ht44, hf⟩ := hf
  refine p_gI X cf1_ (k := 2) (by decide) rfl hP ht44 q133 (fun _ h => h) dX1_discover_4 ?_
  refine lv_if_eq (tgt := 18) hx hb dX1_discover_7 (by decide) (fun c45 => ?_) (fun c45 => ?_)
  · have hf := hf.1 c45
    exact sX1_discover_L18 Y hf _ _ _ _ _ hP hL hB (lv_sub hl [0] rfl)
  · have hf := hf.2 c45
    refine p_aload_n hx hb dX1_discover_10 rfl (lv_at hl 0 rfl) ?_
    refine p_gR X cf0_ (k := 0) (by decide) rfl hP ht43 q626 (fun _ h => h) dX1_discover_11 ?_
    refine lv_iconst (v := (-1)) hx hb dX1_discover_14 (by decide) ?_
    refine p_pI X cf1_ (k := 0) (by decide) rfl hP hL ht44 (p_ow hP ht44 rfl) q128 (fun _ h => h) (Or.inl rfl) rfl rfl dX1_discover_15 (fun H locs hP hL => ?_)
    refine p_nmPB hP hB (fun σ46 hσ46 hP hB => ?_)
    have hf := hf σ46 hσ46
    have ht43 : tg_ σ46 x0 = 1 := by rw [hσ46]; exact ht43
    exact sX1_discover_L18 Y hf _ _ _ _ _ hP hL hB (lv_sub hl [0] rfl)
set_option maxHeartbeats 4000000 in
theorem metX1_discover (l : Launch) (G : GG_) (mc ms : Nat) (x0 : Nat) (σ : Hp) (post : Int32 → Hp → Prop) (hG : GOK_ G) (hf : wX1_discover x0 (bu_ σ mc ms) post) : Met l yX1_discover (ws_ yX1_discover cX1_discover 6 (some Jvm.ClassFile.FieldType.int)) { frames := 11, cells := mc, slots := ms, locals := 257 } (PC_ G [rv_ x0] (bu_ σ mc ms)) (QI_ G post) mc ms (FR_ G) := by
  refine Met.ofW (cc := cX1_discover) (maxL := 6) (ret := (some Jvm.ClassFile.FieldType.int)) (by decide) rfl ?_
  intro p e s m args below meth c s₁ B hml hv
  obtain ⟨rfl, hP, hW⟩ := hv
  have hts := atoms_spec (ws := ws_ yX1_discover cX1_discover 6 (some Jvm.ClassFile.FieldType.int)) B.pre
  have hts : ∀ w ∈ lw_all, w.before _ s = true := fun w h => hts w (List.mem_cons_of_mem _ h)
  rw [lg_entry_eq]
  have hl := en_entry [rv_ x0] [1] (n := 6) (ca_r ca_n) (by decide)
  exact sX1_discover ⟨⟨⟨B.exec, B.bytes, hml, findClass_of_methodNamed B.named, hts⟩, hW, hG⟩, B.notSynchronized, B.returns, Nat.le_refl _, Nat.le_refl _, ⟨rfl, rfl⟩, (name_of_methodNamed B.named B.method).1⟩ hf _ _ _ _ _ hP (LO_nil G) (BU_in ⟨rfl, rfl⟩) hl
abbrev cX7_wipe : ByteArray := prog_4_method_2_code
def yX7_wipe : MethodName := ⟨RX7, "wipe", "()V"⟩
theorem dX7_wipe_0 : decode cX7_wipe 0 = .ok (.iconst 0, 1) := by decide +kernel
theorem dX7_wipe_1 : decode cX7_wipe 1 = .ok (.istore_n 1, 1) := by decide +kernel
theorem dX7_wipe_2 : decode cX7_wipe 2 = .ok (.iload_n 1, 1) := by decide +kernel
theorem dX7_wipe_3 : decode cX7_wipe 3 = .ok (.aload_n 0, 1) := by decide +kernel
theorem dX7_wipe_4 : decode cX7_wipe 4 = .ok (.getfield 15, 3) := by decide +kernel
theorem dX7_wipe_7 : decode cX7_wipe 7 = .ok (.arraylength, 1) := by decide +kernel
theorem dX7_wipe_8 : decode cX7_wipe 8 = .ok (.if_icmp .ge 16, 3) := by decide +kernel
theorem dX7_wipe_11 : decode cX7_wipe 11 = .ok (.aload_n 0, 1) := by decide +kernel
theorem dX7_wipe_12 : decode cX7_wipe 12 = .ok (.getfield 15, 3) := by decide +kernel
theorem dX7_wipe_15 : decode cX7_wipe 15 = .ok (.iload_n 1, 1) := by decide +kernel
theorem dX7_wipe_16 : decode cX7_wipe 16 = .ok (.iconst 0, 1) := by decide +kernel
theorem dX7_wipe_17 : decode cX7_wipe 17 = .ok (.bastore, 1) := by decide +kernel
theorem dX7_wipe_18 : decode cX7_wipe 18 = .ok (.iinc 1 1, 3) := by decide +kernel
theorem dX7_wipe_21 : decode cX7_wipe 21 = .ok (.goto (-19), 3) := by decide +kernel
theorem dX7_wipe_24 : decode cX7_wipe 24 = .ok (.iconst 0, 1) := by decide +kernel
theorem dX7_wipe_25 : decode cX7_wipe 25 = .ok (.istore_n 1, 1) := by decide +kernel
theorem dX7_wipe_26 : decode cX7_wipe 26 = .ok (.iload_n 1, 1) := by decide +kernel
theorem dX7_wipe_27 : decode cX7_wipe 27 = .ok (.aload_n 0, 1) := by decide +kernel
theorem dX7_wipe_28 : decode cX7_wipe 28 = .ok (.getfield 9, 3) := by decide +kernel
theorem dX7_wipe_31 : decode cX7_wipe 31 = .ok (.if_icmp .ge 23, 3) := by decide +kernel
theorem dX7_wipe_34 : decode cX7_wipe 34 = .ok (.aload_n 0, 1) := by decide +kernel
theorem dX7_wipe_35 : decode cX7_wipe 35 = .ok (.getfield 19, 3) := by decide +kernel
theorem dX7_wipe_38 : decode cX7_wipe 38 = .ok (.iload_n 1, 1) := by decide +kernel
theorem dX7_wipe_39 : decode cX7_wipe 39 = .ok (.iconst 0, 1) := by decide +kernel
theorem dX7_wipe_40 : decode cX7_wipe 40 = .ok (.iastore, 1) := by decide +kernel
theorem dX7_wipe_41 : decode cX7_wipe 41 = .ok (.aload_n 0, 1) := by decide +kernel
theorem dX7_wipe_42 : decode cX7_wipe 42 = .ok (.getfield 23, 3) := by decide +kernel
theorem dX7_wipe_45 : decode cX7_wipe 45 = .ok (.iload_n 1, 1) := by decide +kernel
theorem dX7_wipe_46 : decode cX7_wipe 46 = .ok (.iconst 0, 1) := by decide +kernel
theorem dX7_wipe_47 : decode cX7_wipe 47 = .ok (.bastore, 1) := by decide +kernel
theorem dX7_wipe_48 : decode cX7_wipe 48 = .ok (.iinc 1 1, 3) := by decide +kernel
theorem dX7_wipe_51 : decode cX7_wipe 51 = .ok (.goto (-25), 3) := by decide +kernel
theorem dX7_wipe_54 : decode cX7_wipe 54 = .ok (.return_, 1) := by decide +kernel
/-- WriteOnceDisc$Medium.wipe()V -/
def wX7_wipe_B26 (post : Hp → Prop) (rc26 : Int32 → Hp → Prop) (x0 : Nat) (x1 : Int32) (σ : Hp) : Prop :=
(tg_ σ x0 = 7 ∧ (((fI_ σ 6 0 x0) ≤ x1 →
  post σ) ∧
 (¬ (fI_ σ 6 0 x0) ≤ x1 →
  (tg_ σ (fR_ σ 6 2 x0) = 102 ∧ (lo_ σ < (fR_ σ 6 2 x0) ∧ (vp_in x1 (ln_ σ (fR_ σ 6 2 x0)) ∧ (∀ σ6, σ6 = wI_ σ (fR_ σ 6 2 x0) (x1).toNatClampNeg (0 : Int32) → (tg_ σ6 (fR_ σ6 6 3 x0) = 101 ∧ (vp_in x1 (ln_ σ6 (fR_ σ6 6 3 x0)) ∧ (∀ σ9, σ9 = wI_ σ6 (fR_ σ6 6 3 x0) (x1).toNatClampNeg (vp_nar .boolean (0 : Int32)) → (∀ y10 : Int32, y10 = x1 + 1 → rc26 y10 σ9)))))))))))
def wX7_wipe_L26 (post : Hp → Prop) (x0 : Nat) (x1 : Int32) (σ : Hp) : Prop :=
 ∃ (I : Int32 → Hp → Prop) (μ : Int32 → Hp → Nat), I x1 σ ∧ ∀ (x1 : Int32) (σ : Hp), I x1 σ → wX7_wipe_B26 post (fun x1' σ' => I x1' σ' ∧ μ x1' σ' < μ x1 σ) x0 x1 σ
def wX7_wipe_B2 (post : Hp → Prop) (rc2 : Int32 → Hp → Prop) (x0 : Nat) (x1 : Int32) (σ : Hp) : Prop :=
(tg_ σ x0 = 7 ∧ (tg_ σ (fR_ σ 6 1 x0) = 100 ∧ (((nI (ln_ σ (fR_ σ 6 1 x0))) ≤ x1 →
  wX7_wipe_L26 post x0 (0 : Int32) σ) ∧
 (¬ (nI (ln_ σ (fR_ σ 6 1 x0))) ≤ x1 →
  (lo_ σ < (fR_ σ 6 1 x0) ∧ (vp_in x1 (ln_ σ (fR_ σ 6 1 x0)) ∧ (∀ σ16, σ16 = wI_ σ (fR_ σ 6 1 x0) (x1).toNatClampNeg (vp_nar .byte (0 : Int32)) → (∀ y17 : Int32, y17 = x1 + 1 → rc2 y17 σ16))))))))
def wX7_wipe_L2 (post : Hp → Prop) (x0 : Nat) (x1 : Int32) (σ : Hp) : Prop :=
 ∃ (I : Int32 → Hp → Prop) (μ : Int32 → Hp → Nat), I x1 σ ∧ ∀ (x1 : Int32) (σ : Hp), I x1 σ → wX7_wipe_B2 post (fun x1' σ' => I x1' σ' ∧ μ x1' σ' < μ x1 σ) x0 x1 σ
def wX7_wipe (x0 : Nat) (σ : Hp) (post : Hp → Prop) : Prop :=
wX7_wipe_L2 post x0 (0 : Int32) σ
set_option maxHeartbeats 4000000 in
theorem sX7_wipe_B26 {G : GG_} {p : Program} {l : Launch} {e : Env} {R : Room} {s : State} {m : MethodId} {args : Array Value} {below : List Frame} {meth : Method} {c : Code} (Y : MX_ G p R s m args meth c cX7_wipe 2 RX7 none 1 20 0 0 "wipe") {post : Hp → Prop} {rc26 : Int32 → Hp → Prop} {x0 : Nat} {x1 : Int32} {σ : Hp} (hrc26 : ∀ (x1 : Int32) (σ : Hp), rc26 x1 σ → WG_ G p l e R s m args below meth c (MQ below (QV_ G post) args s 0 0 (FR_ G)) BN_ 2 26 [(0, rv_ x0), (1, .int x1)] [] σ) (hf : wX7_wipe_B26 post rc26 x0 x1 σ) : WG_ G p l e R s m args below meth c (MQ below (QV_ G post) args s 0 0 (FR_ G)) BN_ 2 26 [(0, rv_ x0), (1, .int x1)] [] σ := by
  have ⟨X, hlk, hr, hRf, hRl, hRc, hnm⟩ := Y
  have ⟨⟨hx, hb, _, hown, hts⟩, _, _⟩ := X
  intro H locs cells slots ls hP hL hB hl
  obtain ⟨rfl, rfl⟩ := hB
  unfold wX7_wipe_B26 at hf
  refine lv_iload_n hx hb dX7_wipe_26 rfl (lv_at hl 1 rfl) ?_
  refine p_aload_n hx hb dX7_wipe_27 rfl (lv_at hl 0 rfl) ?_
  obtain ⟨ht1, hf⟩ := hf
  refine p_gI X cf6_ (k := 0) (by decide) rfl hP ht1 q557 (fun _ h => h) dX7_wipe_28 ?_
  refine lv_icmp_ge (tgt := 54) hx hb dX7_wipe_31 (by decide) (fun c2 => ?_) (fun c2 => ?_)
  · have hf := hf.1 c2
    exact p_vret X hlk hP hL (Nat.le_refl _) (Nat.le_refl _) hr dX7_wipe_54 hf
  · have hf := hf.2 c2
    refine p_aload_n hx hb dX7_wipe_34 rfl (lv_at hl 0 rfl) ?_
    refine p_gR X cf6_ (k := 2) (by decide) rfl hP ht1 q563 (fun _ h => h) dX7_wipe_35 ?_
    refine lv_iload_n hx hb dX7_wipe_38 rfl (lv_at hl 1 rfl) ?_
    refine lv_iconst (v := 0) hx hb dX7_wipe_39 (by decide) ?_
    obtain ⟨ht3, hf⟩ := hf
    obtain ⟨hlo4, hf⟩ := hf
    obtain ⟨hi5, hf⟩ := hf
    refine p_iast X hP hL ht3 hlo4 hi5 dX7_wipe_40 (fun H locs hP hL => ?_)
    refine p_nmP hP (fun σ6 hσ6 hP => ?_)
    have hf := hf σ6 hσ6
    have ht1 : tg_ σ6 x0 = 7 := by rw [hσ6]; exact ht1
    refine p_aload_n hx hb dX7_wipe_41 rfl (lv_at hl 0 rfl) ?_
    refine p_gR X cf6_ (k := 3) (by decide) rfl hP ht1 q566 (fun _ h => h) dX7_wipe_42 ?_
    refine lv_iload_n hx hb dX7_wipe_45 rfl (lv_at hl 1 rfl) ?_
    refine lv_iconst (v := 0) hx hb dX7_wipe_46 (by decide) ?_
    obtain ⟨ht7, hf⟩ := hf
    obtain ⟨hi8, hf⟩ := hf
    refine p_zast X hP hL ht7 (p_ow hP ht7 rfl) hi8 dX7_wipe_47 (fun H locs hP hL => ?_)
    refine p_nmP hP (fun σ9 hσ9 hP => ?_)
    have hf := hf σ9 hσ9
    have ht1 : tg_ σ9 x0 = 7 := by rw [hσ9]; exact ht1
    have hl := lv_sub hl [1, 0] rfl
    refine p_iincc (i := 1) (k := 1) hx hb (by decide) dX7_wipe_48 hl (by decide) ⟨⟨ne_ rfl, Or.inr (rv_cat _)⟩, trivial⟩ (fun y10 hy10 ls hl => ?_)
    have hf := hf y10 hy10
    refine lv_goto (tgt := 26) hx hb dX7_wipe_51 (by decide) ?_
    exact hrc26 _ _ hf _ _ _ _ _ hP hL ⟨rfl, rfl⟩ (lv_sub hl [1, 0] rfl)
set_option maxHeartbeats 4000000 in
theorem sX7_wipe_L26 {G : GG_} {p : Program} {l : Launch} {e : Env} {R : Room} {s : State} {m : MethodId} {args : Array Value} {below : List Frame} {meth : Method} {c : Code} (Y : MX_ G p R s m args meth c cX7_wipe 2 RX7 none 1 20 0 0 "wipe") {post : Hp → Prop} {x0 : Nat} {x1 : Int32} {σ : Hp} (hf : wX7_wipe_L26 post x0 x1 σ) : WG_ G p l e R s m args below meth c (MQ below (QV_ G post) args s 0 0 (FR_ G)) BN_ 2 26 [(0, rv_ x0), (1, .int x1)] [] σ := by
  unfold wX7_wipe_L26 at hf
  obtain ⟨I, μ, h0, hI⟩ := hf
  have key : ∀ (n : Nat) (x1 : Int32) (σ : Hp), I x1 σ → μ x1 σ < n → WG_ G p l e R s m args below meth c (MQ below (QV_ G post) args s 0 0 (FR_ G)) BN_ 2 26 [(0, rv_ x0), (1, .int x1)] [] σ := by
    intro n
    induction n with
    | zero => intro x1 σ _ h; exact absurd h (Nat.not_lt_zero _)
    | succ n ih => intro x1 σ hi hn; exact sX7_wipe_B26 Y (fun x1' σ' h => ih x1' σ' h.1 (Nat.lt_of_lt_of_le h.2 (Nat.le_of_lt_succ hn))) (hI x1 σ hi)
  exact key _ _ _ h0 (Nat.lt_succ_self _)
set_option maxHeartbeats 4000000 in
theorem sX7_wipe_B2 {G : GG_} {p : Program} {l : Launch} {e : Env} {R : Room} {s : State} {m : MethodId} {args : Array Value} {below : List Frame} {meth : Method} {c : Code} (Y : MX_ G p R s m args meth c cX7_wipe 2 RX7 none 1 20 0 0 "wipe") {post : Hp → Prop} {rc2 : Int32 → Hp → Prop} {x0 : Nat} {x1 : Int32} {σ : Hp} (hrc2 : ∀ (x1 : Int32) (σ : Hp), rc2 x1 σ → WG_ G p l e R s m args below meth c (MQ below (QV_ G post) args s 0 0 (FR_ G)) BN_ 2 2 [(0, rv_ x0), (1, .int x1)] [] σ) (hf : wX7_wipe_B2 post rc2 x0 x1 σ) : WG_ G p l e R s m args below meth c (MQ below (QV_ G post) args s 0 0 (FR_ G)) BN_ 2 2 [(0, rv_ x0), (1, .int x1)] [] σ := by
  have ⟨X, hlk, hr, hRf, hRl, hRc, hnm⟩ := Y
  have ⟨⟨hx, hb, _, hown, hts⟩, _, _⟩ := X
  intro H locs cells slots ls hP hL hB hl
  obtain ⟨rfl, rfl⟩ := hB
  unfold wX7_wipe_B2 at hf
  refine lv_iload_n hx hb dX7_wipe_2 rfl (lv_at hl 1 rfl) ?_
  refine p_aload_n hx hb dX7_wipe_3 rfl (lv_at hl 0 rfl) ?_
  obtain ⟨ht11, hf⟩ := hf
  refine p_gR X cf6_ (k := 1) (by decide) rfl hP ht11 q560 (fun _ h => h) dX7_wipe_4 ?_
  obtain ⟨ht12, hf⟩ := hf
  refine p_alen X hP ht12 (by decide) (by decide) dX7_wipe_7 ?_
  refine lv_icmp_ge (tgt := 24) hx hb dX7_wipe_8 (by decide) (fun c13 => ?_) (fun c13 => ?_)
  · have hf := hf.1 c13
    refine lv_iconst (v := 0) hx hb dX7_wipe_24 (by decide) ?_
    have hl := lv_sub hl [0] rfl
    refine p_istore_n (i := 1) hx hb dX7_wipe_25 rfl hl (by decide) ⟨⟨ne_ rfl, Or.inr (rv_cat _)⟩, trivial⟩ (fun ls hl => ?_)
    exact sX7_wipe_L26 Y hf _ _ _ _ _ hP hL ⟨rfl, rfl⟩ (lv_sub hl [1, 0] rfl)
  · have hf := hf.2 c13
    refine p_aload_n hx hb dX7_wipe_11 rfl (lv_at hl 0 rfl) ?_
    refine p_gR X cf6_ (k := 1) (by decide) rfl hP ht11 q560 (fun _ h => h) dX7_wipe_12 ?_
    refine lv_iload_n hx hb dX7_wipe_15 rfl (lv_at hl 1 rfl) ?_
    refine lv_iconst (v := 0) hx hb dX7_wipe_16 (by decide) ?_
    obtain ⟨hlo14, hf⟩ := hf
    obtain ⟨hi15, hf⟩ := hf
    refine p_bast X hP hL ht12 hlo14 hi15 dX7_wipe_17 (fun H locs hP hL => ?_)
    refine p_nmP hP (fun σ16 hσ16 hP => ?_)
    have hf := hf σ16 hσ16
    have ht11 : tg_ σ16 x0 = 7 := by rw [hσ16]; exact ht11
    have hl := lv_sub hl [1, 0] rfl
    refine p_iincc (i := 1) (k := 1) hx hb (by decide) dX7_wipe_18 hl (by decide) ⟨⟨ne_ rfl, Or.inr (rv_cat _)⟩, trivial⟩ (fun y17 hy17 ls hl => ?_)
    have hf := hf y17 hy17
    refine lv_goto (tgt := 2) hx hb dX7_wipe_21 (by decide) ?_
    exact hrc2 _ _ hf _ _ _ _ _ hP hL ⟨rfl, rfl⟩ (lv_sub hl [1, 0] rfl)
set_option maxHeartbeats 4000000 in
theorem sX7_wipe_L2 {G : GG_} {p : Program} {l : Launch} {e : Env} {R : Room} {s : State} {m : MethodId} {args : Array Value} {below : List Frame} {meth : Method} {c : Code} (Y : MX_ G p R s m args meth c cX7_wipe 2 RX7 none 1 20 0 0 "wipe") {post : Hp → Prop} {x0 : Nat} {x1 : Int32} {σ : Hp} (hf : wX7_wipe_L2 post x0 x1 σ) : WG_ G p l e R s m args below meth c (MQ below (QV_ G post) args s 0 0 (FR_ G)) BN_ 2 2 [(0, rv_ x0), (1, .int x1)] [] σ := by
  unfold wX7_wipe_L2 at hf
  obtain ⟨I, μ, h0, hI⟩ := hf
  have key : ∀ (n : Nat) (x1 : Int32) (σ : Hp), I x1 σ → μ x1 σ < n → WG_ G p l e R s m args below meth c (MQ below (QV_ G post) args s 0 0 (FR_ G)) BN_ 2 2 [(0, rv_ x0), (1, .int x1)] [] σ := by
    intro n
    induction n with
    | zero => intro x1 σ _ h; exact absurd h (Nat.not_lt_zero _)
    | succ n ih => intro x1 σ hi hn; exact sX7_wipe_B2 Y (fun x1' σ' h => ih x1' σ' h.1 (Nat.lt_of_lt_of_le h.2 (Nat.le_of_lt_succ hn))) (hI x1 σ hi)
  exact key _ _ _ h0 (Nat.lt_succ_self _)
set_option maxHeartbeats 4000000 in
theorem sX7_wipe {G : GG_} {p : Program} {l : Launch} {e : Env} {R : Room} {s : State} {m : MethodId} {args : Array Value} {below : List Frame} {meth : Method} {c : Code} (Y : MX_ G p R s m args meth c cX7_wipe 2 RX7 none 1 20 0 0 "wipe") {post : Hp → Prop} {x0 : Nat} {σ : Hp} (hf : wX7_wipe x0 σ post) : WG_ G p l e R s m args below meth c (MQ below (QV_ G post) args s 0 0 (FR_ G)) BN_ 2 0 [(0, rv_ x0)] [] σ := by
  have ⟨X, hlk, hr, hRf, hRl, hRc, hnm⟩ := Y
  have ⟨⟨hx, hb, _, hown, hts⟩, _, _⟩ := X
  intro H locs cells slots ls hP hL hB hl
  obtain ⟨rfl, rfl⟩ := hB
  unfold wX7_wipe at hf
  refine lv_iconst (v := 0) hx hb dX7_wipe_0 (by decide) ?_
  refine p_istore_n (i := 1) hx hb dX7_wipe_1 rfl hl (by decide) ⟨⟨ne_ rfl, Or.inr (rv_cat _)⟩, trivial⟩ (fun ls hl => ?_)
  exact sX7_wipe_L2 Y hf _ _ _ _ _ hP hL ⟨rfl, rfl⟩ (lv_sub hl [1, 0] rfl)
set_option maxHeartbeats 4000000 in
theorem metX7_wipe (l : Launch) (G : GG_) (x0 : Nat) (σ : Hp) (post : Hp → Prop) (hG : GOK_ G) (hf : wX7_wipe x0 σ post) : Met l yX7_wipe (ws_ yX7_wipe cX7_wipe 2 none) { frames := 1, cells := 0, slots := 0, locals := 20 } (PC_ G [rv_ x0] σ) (QV_ G post) 0 0 (FR_ G) := by
  refine Met.ofW (cc := cX7_wipe) (maxL := 2) (ret := none) (by decide) rfl ?_
  intro p e s m args below meth c s₁ B hml hv
  obtain ⟨rfl, hP, hW⟩ := hv
  have hts := atoms_spec (ws := ws_ yX7_wipe cX7_wipe 2 none) B.pre
  have hts : ∀ w ∈ lw_all, w.before _ s = true := fun w h => hts w (List.mem_cons_of_mem _ h)
  rw [lg_entry_eq]
  have hl := en_entry [rv_ x0] [1] (n := 2) (ca_r ca_n) (by decide)
  exact sX7_wipe ⟨⟨⟨B.exec, B.bytes, hml, findClass_of_methodNamed B.named, hts⟩, hW, hG⟩, B.notSynchronized, B.returns, Nat.le_refl _, Nat.le_refl _, ⟨rfl, rfl⟩, (name_of_methodNamed B.named B.method).1⟩ hf _ _ _ _ _ hP (LO_nil G) ⟨rfl, rfl⟩ hl
abbrev cX1_compact : ByteArray := prog_1_method_21_code
def yX1_compact : MethodName := ⟨RX1, "compact", "()I"⟩
theorem dX1_compact_0 : decode cX1_compact 0 = .ok (.aload_n 0, 1) := by decide +kernel
theorem dX1_compact_1 : decode cX1_compact 1 = .ok (.getfield 39, 3) := by decide +kernel
theorem dX1_compact_4 : decode cX1_compact 4 = .ok (.getfield 115, 3) := by decide +kernel
theorem dX1_compact_7 : decode cX1_compact 7 = .ok (.ifCond .eq 6, 3) := by decide +kernel
theorem dX1_compact_10 : decode cX1_compact 10 = .ok (.bipush (-4), 2) := by decide +kernel
theorem dX1_compact_12 : decode cX1_compact 12 = .ok (.ireturn, 1) := by decide +kernel
theorem dX1_compact_13 : decode cX1_compact 13 = .ok (.aload_n 0, 1) := by decide +kernel
theorem dX1_compact_14 : decode cX1_compact 14 = .ok (.getfield 68, 3) := by decide +kernel
theorem dX1_compact_17 : decode cX1_compact 17 = .ok (.invokevirtual 255, 3) := by decide +kernel
theorem dX1_compact_20 : decode cX1_compact 20 = .ok (.new 52, 3) := by decide +kernel
theorem dX1_compact_23 : decode cX1_compact 23 = .ok (.dup, 1) := by decide +kernel
theorem dX1_compact_24 : decode cX1_compact 24 = .ok (.invokespecial 54, 3) := by decide +kernel
theorem dX1_compact_27 : decode cX1_compact 27 = .ok (.astore_n 1, 1) := by decide +kernel
theorem dX1_compact_28 : decode cX1_compact 28 = .ok (.iconst 1, 1) := by decide +kernel
theorem dX1_compact_29 : decode cX1_compact 29 = .ok (.istore_n 2, 1) := by decide +kernel
theorem dX1_compact_30 : decode cX1_compact 30 = .ok (.iload_n 2, 1) := by decide +kernel
theorem dX1_compact_31 : decode cX1_compact 31 = .ok (.aload_n 0, 1) := by decide +kernel
theorem dX1_compact_32 : decode cX1_compact 32 = .ok (.getfield 55, 3) := by decide +kernel
theorem dX1_compact_35 : decode cX1_compact 35 = .ok (.getfield 129, 3) := by decide +kernel
theorem dX1_compact_38 : decode cX1_compact 38 = .ok (.invokevirtual 133, 3) := by decide +kernel
theorem dX1_compact_41 : decode cX1_compact 41 = .ok (.if_icmp .ge 91, 3) := by decide +kernel
theorem dX1_compact_44 : decode cX1_compact 44 = .ok (.aload_n 0, 1) := by decide +kernel
theorem dX1_compact_45 : decode cX1_compact 45 = .ok (.getfield 55, 3) := by decide +kernel
theorem dX1_compact_48 : decode cX1_compact 48 = .ok (.getfield 129, 3) := by decide +kernel
theorem dX1_compact_51 : decode cX1_compact 51 = .ok (.iload_n 2, 1) := by decide +kernel
theorem dX1_compact_52 : decode cX1_compact 52 = .ok (.invokevirtual 177, 3) := by decide +kernel
theorem dX1_compact_55 : decode cX1_compact 55 = .ok (.checkcast 110, 3) := by decide +kernel
theorem dX1_compact_58 : decode cX1_compact 58 = .ok (.astore_n 3, 1) := by decide +kernel
theorem dX1_compact_59 : decode cX1_compact 59 = .ok (.new 110, 3) := by decide +kernel
theorem dX1_compact_62 : decode cX1_compact 62 = .ok (.dup, 1) := by decide +kernel
theorem dX1_compact_63 : decode cX1_compact 63 = .ok (.aload_n 3, 1) := by decide +kernel
theorem dX1_compact_64 : decode cX1_compact 64 = .ok (.getfield 165, 3) := by decide +kernel
theorem dX1_compact_67 : decode cX1_compact 67 = .ok (.aload_n 3, 1) := by decide +kernel
theorem dX1_compact_68 : decode cX1_compact 68 = .ok (.getfield 190, 3) := by decide +kernel
theorem dX1_compact_71 : decode cX1_compact 71 = .ok (.aload_n 3, 1) := by decide +kernel
theorem dX1_compact_72 : decode cX1_compact 72 = .ok (.getfield 109, 3) := by decide +kernel
theorem dX1_compact_75 : decode cX1_compact 75 = .ok (.aload_n 3, 1) := by decide +kernel
theorem dX1_compact_76 : decode cX1_compact 76 = .ok (.getfield 258, 3) := by decide +kernel
theorem dX1_compact_79 : decode cX1_compact 79 = .ok (.invokespecial 149, 3) := by decide +kernel
theorem dX1_compact_82 : decode cX1_compact 82 = .ok (.astore 4, 2) := by decide +kernel
theorem dX1_compact_84 : decode cX1_compact 84 = .ok (.aload 4, 2) := by decide +kernel
theorem dX1_compact_86 : decode cX1_compact 86 = .ok (.aload_n 3, 1) := by decide +kernel
theorem dX1_compact_87 : decode cX1_compact 87 = .ok (.getfield 160, 3) := by decide +kernel
theorem dX1_compact_90 : decode cX1_compact 90 = .ok (.putfield 160, 3) := by decide +kernel
theorem dX1_compact_93 : decode cX1_compact 93 = .ok (.aload 4, 2) := by decide +kernel
theorem dX1_compact_95 : decode cX1_compact 95 = .ok (.aload_n 3, 1) := by decide +kernel
theorem dX1_compact_96 : decode cX1_compact 96 = .ok (.getfield 162, 3) := by decide +kernel
theorem dX1_compact_99 : decode cX1_compact 99 = .ok (.putfield 162, 3) := by decide +kernel
theorem dX1_compact_102 : decode cX1_compact 102 = .ok (.aload 4, 2) := by decide +kernel
theorem dX1_compact_104 : decode cX1_compact 104 = .ok (.aload_n 3, 1) := by decide +kernel
theorem dX1_compact_105 : decode cX1_compact 105 = .ok (.getfield 168, 3) := by decide +kernel
theorem dX1_compact_108 : decode cX1_compact 108 = .ok (.putfield 168, 3) := by decide +kernel
theorem dX1_compact_111 : decode cX1_compact 111 = .ok (.aload 4, 2) := by decide +kernel
theorem dX1_compact_113 : decode cX1_compact 113 = .ok (.aload_n 3, 1) := by decide +kernel
theorem dX1_compact_114 : decode cX1_compact 114 = .ok (.getfield 171, 3) := by decide +kernel
theorem dX1_compact_117 : decode cX1_compact 117 = .ok (.putfield 171, 3) := by decide +kernel
theorem dX1_compact_120 : decode cX1_compact 120 = .ok (.aload_n 1, 1) := by decide +kernel
theorem dX1_compact_121 : decode cX1_compact 121 = .ok (.aload 4, 2) := by decide +kernel
theorem dX1_compact_123 : decode cX1_compact 123 = .ok (.invokevirtual 152, 3) := by decide +kernel
theorem dX1_compact_126 : decode cX1_compact 126 = .ok (.iinc 2 1, 3) := by decide +kernel
theorem dX1_compact_129 : decode cX1_compact 129 = .ok (.goto (-99), 3) := by decide +kernel
theorem dX1_compact_132 : decode cX1_compact 132 = .ok (.aload_n 1, 1) := by decide +kernel
theorem dX1_compact_133 : decode cX1_compact 133 = .ok (.aload_n 0, 1) := by decide +kernel
theorem dX1_compact_134 : decode cX1_compact 134 = .ok (.getfield 55, 3) := by decide +kernel
theorem dX1_compact_137 : decode cX1_compact 137 = .ok (.getfield 146, 3) := by decide +kernel
theorem dX1_compact_140 : decode cX1_compact 140 = .ok (.putfield 146, 3) := by decide +kernel
theorem dX1_compact_143 : decode cX1_compact 143 = .ok (.aload_n 0, 1) := by decide +kernel
theorem dX1_compact_144 : decode cX1_compact 144 = .ok (.getfield 48, 3) := by decide +kernel
theorem dX1_compact_147 : decode cX1_compact 147 = .ok (.aload_n 0, 1) := by decide +kernel
theorem dX1_compact_148 : decode cX1_compact 148 = .ok (.getfield 68, 3) := by decide +kernel
theorem dX1_compact_151 : decode cX1_compact 151 = .ok (.aload_n 0, 1) := by decide +kernel
theorem dX1_compact_152 : decode cX1_compact 152 = .ok (.getfield 64, 3) := by decide +kernel
theorem dX1_compact_155 : decode cX1_compact 155 = .ok (.aload_n 1, 1) := by decide +kernel
theorem dX1_compact_156 : decode cX1_compact 156 = .ok (.iconst 1, 1) := by decide +kernel
theorem dX1_compact_157 : decode cX1_compact 157 = .ok (.invokevirtual 200, 3) := by decide +kernel
theorem dX1_compact_160 : decode cX1_compact 160 = .ok (.istore_n 2, 1) := by decide +kernel
theorem dX1_compact_161 : decode cX1_compact 161 = .ok (.iload_n 2, 1) := by decide +kernel
theorem dX1_compact_162 : decode cX1_compact 162 = .ok (.iconst 1, 1) := by decide +kernel
theorem dX1_compact_163 : decode cX1_compact 163 = .ok (.if_icmp .eq 5, 3) := by decide +kernel
theorem dX1_compact_166 : decode cX1_compact 166 = .ok (.iload_n 2, 1) := by decide +kernel
theorem dX1_compact_167 : decode cX1_compact 167 = .ok (.ireturn, 1) := by decide +kernel
theorem dX1_compact_168 : decode cX1_compact 168 = .ok (.aload_n 0, 1) := by decide +kernel
theorem dX1_compact_169 : decode cX1_compact 169 = .ok (.getfield 64, 3) := by decide +kernel
theorem dX1_compact_172 : decode cX1_compact 172 = .ok (.astore_n 3, 1) := by decide +kernel
theorem dX1_compact_173 : decode cX1_compact 173 = .ok (.aload_n 0, 1) := by decide +kernel
theorem dX1_compact_174 : decode cX1_compact 174 = .ok (.aload_n 0, 1) := by decide +kernel
theorem dX1_compact_175 : decode cX1_compact 175 = .ok (.getfield 68, 3) := by decide +kernel
theorem dX1_compact_178 : decode cX1_compact 178 = .ok (.putfield 64, 3) := by decide +kernel
theorem dX1_compact_181 : decode cX1_compact 181 = .ok (.aload_n 0, 1) := by decide +kernel
theorem dX1_compact_182 : decode cX1_compact 182 = .ok (.aload_n 3, 1) := by decide +kernel
theorem dX1_compact_183 : decode cX1_compact 183 = .ok (.putfield 68, 3) := by decide +kernel
theorem dX1_compact_186 : decode cX1_compact 186 = .ok (.aload_n 0, 1) := by decide +kernel
theorem dX1_compact_187 : decode cX1_compact 187 = .ok (.aload_n 1, 1) := by decide +kernel
theorem dX1_compact_188 : decode cX1_compact 188 = .ok (.putfield 55, 3) := by decide +kernel
theorem dX1_compact_191 : decode cX1_compact 191 = .ok (.aload_n 0, 1) := by decide +kernel
theorem dX1_compact_192 : decode cX1_compact 192 = .ok (.iconst 1, 1) := by decide +kernel
theorem dX1_compact_193 : decode cX1_compact 193 = .ok (.putfield 197, 3) := by decide +kernel
theorem dX1_compact_196 : decode cX1_compact 196 = .ok (.aload_n 0, 1) := by decide +kernel
theorem dX1_compact_197 : decode cX1_compact 197 = .ok (.getfield 76, 3) := by decide +kernel
theorem dX1_compact_200 : decode cX1_compact 200 = .ok (.aload_n 0, 1) := by decide +kernel
theorem dX1_compact_201 : decode cX1_compact 201 = .ok (.getfield 64, 3) := by decide +kernel
theorem dX1_compact_204 : decode cX1_compact 204 = .ok (.invokevirtual 241, 3) := by decide +kernel
theorem dX1_compact_207 : decode cX1_compact 207 = .ok (.iconst 1, 1) := by decide +kernel
theorem dX1_compact_208 : decode cX1_compact 208 = .ok (.ireturn, 1) := by decide +kernel
/-- WriteOnceDisc.compact()I -/
def wX1_compact_B30 (post : Int32 → Hp → Prop) (rc30 : Int32 → Hp → Prop) (x0 : Nat) (x1 : Nat) (x2 : Int32) (σ : Hp) : Prop :=
(tg_ σ x0 = 1 ∧ (tg_ σ (fR_ σ 0 4 x0) = 5 ∧ (tg_ σ (fR_ σ 4 0 (fR_ σ 0 4 x0)) = 11 ∧ (wJ2_size (fR_ σ 4 0 (fR_ σ 0 4 x0))  σ (fun r4 => ((r4 ≤ x2 →
  (tg_ σ x1 = 5 ∧ (∀ σ7, σ7 = sI_ σ 4 1 x1 (fI_ σ 4 1 (fR_ σ 0 4 x0)) → (tg_ σ7 (fR_ σ7 0 1 x0) = 3 ∧ (∃ mc9 ms10 : Nat, (mc9 ≤ bc_ σ7 ∧ (ms10 ≤ bs_ σ7 ∧ (wX3_commit (fR_ σ7 0 1 x0) (fR_ σ7 0 3 x0) (fR_ σ7 0 2 x0) x1 (1 : Int32) (bu_ σ7 mc9 ms10) (fun r13 σ14 => (∀ σ15, σ15 = bu_ σ14 (bc_ σ7 - mc9) (bs_ σ7 - ms10) → ((r13 = (1 : Int32) →
   (tg_ σ15 x0 = 1 ∧ (∀ y18 : Nat, y18 = (fR_ σ15 0 2 x0) → (∀ σ19, σ19 = sR_ σ15 0 2 x0 (fR_ σ15 0 3 x0) → (∀ σ20, σ20 = sR_ σ19 0 3 x0 y18 → (∀ σ21, σ21 = sR_ σ20 0 4 x0 x1 → (∀ σ22, σ22 = sI_ σ21 0 9 x0 (1 : Int32) → (tg_ σ22 (fR_ σ22 0 5 x0) = 8 ∧ (wX8_begin (fR_ σ22 0 5 x0) (fR_ σ22 0 2 x0) σ22 (fun σ24 => (∀ σ25, σ25 = bu_ σ24 (bc_ σ22) (bs_ σ22) → post (1 : Int32) σ25))))))))))) ∧
  (¬ r13 = (1 : Int32) →
   post r13 σ15)))))))))))) ∧
 (¬ r4 ≤ x2 →
  (wJ2_get (fR_ σ 4 0 (fR_ σ 0 4 x0)) x2 σ (fun r26 => ((r26 = 0 ∨ tg_ σ r26 = 6) ∧ (1 ≤ bc_ σ ∧ (12 ≤ bs_ σ ∧ (∀ σ30, σ30 = mO_ σ 5 12 → (tg_ σ30 r26 = 6 ∧ (tg_ σ30 (nx_ σ) = 6 ∧ (∃ mc33 ms34 : Nat, (mc33 ≤ bc_ σ30 ∧ (ms34 ≤ bs_ σ30 ∧ (wX6_init (nx_ σ) (fI_ σ30 5 0 r26) (fI_ σ30 5 2 r26) (fI_ σ30 5 1 r26) (fR_ σ30 5 6 r26) (bu_ σ30 mc33 ms34) (fun σ37 => (∀ σ38, σ38 = bu_ σ37 (bc_ σ30 - mc33) (bs_ σ30 - ms34) → (∀ y39 : Nat, y39 = (nx_ σ) → (tg_ σ38 r26 = 6 ∧ (tg_ σ38 y39 = 6 ∧ (∀ σ42, σ42 = sI_ σ38 5 3 y39 (fI_ σ38 5 3 r26) → (∀ σ43, σ43 = sI_ σ42 5 4 y39 (fI_ σ42 5 4 r26) → (∀ σ44, σ44 = sI_ σ43 5 5 y39 (fI_ σ43 5 5 r26) → (pz_ .boolean (fI_ σ44 5 8 r26) ∧ (∀ σ46, σ46 = sI_ σ44 5 8 y39 (fI_ σ44 5 8 r26) → (tg_ σ46 x1 = 5 ∧ (∃ mc48 ms49 : Nat, (mc48 ≤ bc_ σ46 ∧ (ms49 ≤ bs_ σ46 ∧ (wX5_add x1 y39 (bu_ σ46 mc48 ms49) (fun σ52 => (∀ σ53, σ53 = bu_ σ52 (bc_ σ46 - mc48) (bs_ σ46 - ms49) → (∀ y54 : Int32, y54 = x2 + 1 → rc30 y54 σ53)))))))))))))))))))))))))))))))))))))
def wX1_compact_L30 (post : Int32 → Hp → Prop) (x0 : Nat) (x1 : Nat) (x2 : Int32) (σ : Hp) : Prop :=
 ∃ (I : Int32 → Hp → Prop) (μ : Int32 → Hp → Nat), I x2 σ ∧ ∀ (x2 : Int32) (σ : Hp), I x2 σ → wX1_compact_B30 post (fun x2' σ' => I x2' σ' ∧ μ x2' σ' < μ x2 σ) x0 x1 x2 σ
def wX1_compact (x0 : Nat) (σ : Hp) (post : Int32 → Hp → Prop) : Prop :=
(tg_ σ x0 = 1 ∧ (tg_ σ (fR_ σ 0 0 x0) = 2 ∧ (((fI_ σ 1 2 (fR_ σ 0 0 x0)) = 0 →
  (tg_ σ (fR_ σ 0 3 x0) = 7 ∧ (wX7_wipe (fR_ σ 0 3 x0)  σ (fun σ59 => (∀ σ60, σ60 = bu_ σ59 (bc_ σ) (bs_ σ) → (1 ≤ bc_ σ60 ∧ (2 ≤ bs_ σ60 ∧ (∀ σ63, σ63 = mO_ σ60 4 2 → (tg_ σ63 (nx_ σ60) = 5 ∧ (∃ mc65 ms66 : Nat, (mc65 ≤ bc_ σ63 ∧ (ms66 ≤ bs_ σ63 ∧ (wX5_init (nx_ σ60)  (bu_ σ63 mc65 ms66) (fun σ69 => (∀ σ70, σ70 = bu_ σ69 (bc_ σ63 - mc65) (bs_ σ63 - ms66) → (∀ y71 : Nat, y71 = (nx_ σ60) → wX1_compact_L30 post x0 y71 (1 : Int32) σ70)))))))))))))))) ∧
 (¬ (fI_ σ 1 2 (fR_ σ 0 0 x0)) = 0 →
  post (-4 : Int32) σ))))
set_option maxHeartbeats 4000000 in
theorem sX1_compact_B30 {G : GG_} {p : Program} {l : Launch} {e : Env} {R : Room} {s : State} {m : MethodId} {args : Array Value} {below : List Frame} {meth : Method} {c : Code} {mc ms : Nat} (Y : MX_ G p R s m args meth c cX1_compact 5 RX1 (some Jvm.ClassFile.FieldType.int) 11 287 mc ms "compact") {post : Int32 → Hp → Prop} {rc30 : Int32 → Hp → Prop} {x0 : Nat} {x1 : Nat} {x2 : Int32} {σ : Hp} (hrc30 : ∀ (x2 : Int32) (σ : Hp), rc30 x2 σ → WG_ G p l e R s m args below meth c (MQ below (QI_ G post) args s mc ms (FR_ G)) (BU_ R) 5 30 [(0, rv_ x0), (1, rv_ x1), (2, .int x2)] [] σ) (hf : wX1_compact_B30 post rc30 x0 x1 x2 σ) : WG_ G p l e R s m args below meth c (MQ below (QI_ G post) args s mc ms (FR_ G)) (BU_ R) 5 30 [(0, rv_ x0), (1, rv_ x1), (2, .int x2)] [] σ := by
  have ⟨X, hlk, hr, hRf, hRl, hRc, hnm⟩ := Y
  have ⟨⟨hx, hb, _, hown, hts⟩, _, _⟩ := X
  intro H locs cells slots ls hP hL hB hl
  unfold wX1_compact_B30 at hf
  refine lv_iload_n hx hb dX1_compact_30 rfl (lv_at hl 2 rfl) ?_
  refine p_aload_n hx hb dX1_compact_31 rfl (lv_at hl 0 rfl) ?_
  obtain ⟨ht1, hf⟩ := hf
  refine p_gR X cf0_ (k := 4) (by decide) rfl hP ht1 q630 (fun _ h => h) dX1_compact_32 ?_
  obtain ⟨ht2, hf⟩ := hf
  refine p_gR X cf4_ (k := 0) (by decide) rfl hP ht2 q542 (fun _ h => h) dX1_compact_35 ?_
  obtain ⟨ht3, hf⟩ := hf
  refine p_calli hL (p_runV X cf10_ hP ht3 (metJ2_size l G _ _ _ X.2.2 hf) (cwV 0 hts (lw_V q753 q720 q721 q90 q722) rfl rfl rfl (by decide +kernel) ⟨Nat.le_trans (Nat.le_of_ble_eq_true rfl) hRf, Nat.le_trans (Nat.le_of_ble_eq_true rfl) hRl⟩) rfl hl.1 rfl (by rw [(ca_i ca_n)]; decide) dX1_compact_38 (BU_call hB (Nat.zero_le _) (Nat.zero_le _))) (fun r4 σ₁ H locs hf hP hL => ?_)
  obtain ⟨e₁, hf⟩ := hf
  rw [e₁] at hP
  refine lv_icmp_ge (tgt := 132) hx hb dX1_compact_41 (by decide) (fun c5 => ?_) (fun c5 => ?_)
  · have hf := hf.1 c5
    refine p_aload_n hx hb dX1_compact_132 rfl (lv_at hl 1 rfl) ?_
    refine p_aload_n hx hb dX1_compact_133 rfl (lv_at hl 0 rfl) ?_
    refine p_gR X cf0_ (k := 4) (by decide) rfl hP ht1 q630 (fun _ h => h) dX1_compact_134 ?_
    refine p_gI X cf4_ (k := 1) (by decide) rfl hP ht2 q545 (fun _ h => h) dX1_compact_137 ?_
    obtain ⟨ht6, hf⟩ := hf
    refine p_pI X cf4_ (k := 1) (by decide) rfl hP hL ht6 (p_ow hP ht6 rfl) q545 (fun _ h => h) (Or.inl rfl) rfl rfl dX1_compact_140 (fun H locs hP hL => ?_)
    refine p_nmPB hP hB (fun σ7 hσ7 hP hB => ?_)
    have hf := hf σ7 hσ7
    have ht1 : tg_ σ7 x0 = 1 := by rw [hσ7]; exact ht1
    have ht6 : tg_ σ7 x1 = 5 := by rw [hσ7]; exact ht6
    refine p_aload_n hx hb dX1_compact_143 rfl (lv_at hl 0 rfl) ?_
    refine p_gR X cf0_ (k := 1) (by decide) rfl hP ht1 q627 (fun _ h => h) dX1_compact_144 ?_
    refine p_aload_n hx hb dX1_compact_147 rfl (lv_at hl 0 rfl) ?_
    refine p_gR X cf0_ (k := 3) (by decide) rfl hP ht1 q629 (fun _ h => h) dX1_compact_148 ?_
    refine p_aload_n hx hb dX1_compact_151 rfl (lv_at hl 0 rfl) ?_
    refine p_gR X cf0_ (k := 2) (by decide) rfl hP ht1 q628 (fun _ h => h) dX1_compact_152 ?_
    refine p_aload_n hx hb dX1_compact_155 rfl (lv_at hl 1 rfl) ?_
    refine lv_iconst (v := 1) hx hb dX1_compact_156 (by decide) ?_
    obtain ⟨ht8, hf⟩ := hf
    obtain ⟨mc9, ms10, hf⟩ := hf
    obtain ⟨hb11, hf⟩ := hf
    obtain ⟨hb12, hf⟩ := hf
    refine p_calli hL (p_runV X cf2_ (Pic_bu hP mc9 ms10) ht8 (metX3_commit l G _ _ _ _ _ _ _ _ _ X.2.2 hf) (cwV 4 hts (lw_V q806 q807 q808 q87 q809) rfl rfl rfl (by decide +kernel) ⟨Nat.le_trans (Nat.le_of_ble_eq_true rfl) hRf, Nat.le_trans (Nat.le_of_ble_eq_true rfl) hRl⟩) rfl hl.1 rfl (by decide) dX1_compact_157 (BU_call hB hb11 hb12)) (fun r13 σ14 H locs hf hP hL => ?_)
    have hB := BU_back (τ := σ14) hB hb11 hb12
    have hP := Pic_bu hP (bc_ σ7 - mc9) (bs_ σ7 - ms10)
    refine p_nmPB hP hB (fun σ15 hσ15 hP hB => ?_)
    have hf := hf σ15 hσ15
    have hl := lv_sub hl [0, 1] rfl
    refine p_istore_n (i := 2) hx hb dX1_compact_160 rfl hl (by decide) ⟨⟨ne_ rfl, Or.inl (ne_ rfl)⟩, ⟨⟨ne_ rfl, Or.inr (rv_cat _)⟩, trivial⟩⟩ (fun ls hl => ?_)
    refine lv_iload_n hx hb dX1_compact_161 rfl (lv_at hl 0 rfl) ?_
    refine lv_iconst (v := 1) hx hb dX1_compact_162 (by decide) ?_
    refine lv_icmp_eq (tgt := 168) hx hb dX1_compact_163 (by decide) (fun c16 => ?_) (fun c16 => ?_)
    · have hf := hf.1 c16
      refine p_aload_n hx hb dX1_compact_168 rfl (lv_at hl 1 rfl) ?_
      obtain ⟨ht17, hf⟩ := hf
      refine p_gR X cf0_ (k := 2) (by decide) rfl hP ht17 q628 (fun _ h => h) dX1_compact_169 ?_
      have hl := lv_sub hl [1, 2] rfl
      refine p_topr (fun y18 hy18 => ?_)
      have hf := hf y18 hy18
      refine p_astore_n (i := 3) hx hb dX1_compact_172 rfl hl (by decide) ⟨⟨ne_ rfl, Or.inl (ne_ rfl)⟩, ⟨⟨ne_ rfl, Or.inl (ne_ rfl)⟩, trivial⟩⟩ (fun ls hl => ?_)
      refine p_aload_n hx hb dX1_compact_173 rfl (lv_at hl 1 rfl) ?_
      refine p_aload_n hx hb dX1_compact_174 rfl (lv_at hl 1 rfl) ?_
      refine p_gR X cf0_ (k := 3) (by decide) rfl hP ht17 q629 (fun _ h => h) dX1_compact_175 ?_
      refine p_pR X cf0_ (k := 2) (by decide) rfl hP hL ht17 (p_ow hP ht17 rfl) q628 (fun _ h => h) (Or.inl rfl) dX1_compact_178 (fun H locs hP hL => ?_)
      refine p_nmPB hP hB (fun σ19 hσ19 hP hB => ?_)
      have hf := hf σ19 hσ19
      have ht17 : tg_ σ19 x0 = 1 := by rw [hσ19]; exact ht17
      refine p_aload_n hx hb dX1_compact_181 rfl (lv_at hl 1 rfl) ?_
      refine p_aload_n hx hb dX1_compact_182 rfl (lv_at hl 0 rfl) ?_
      refine p_pR X cf0_ (k := 3) (by decide) rfl hP hL ht17 (p_ow hP ht17 rfl) q629 (fun _ h => h) (Or.inl rfl) dX1_compact_183 (fun H locs hP hL => ?_)
      refine p_nmPB hP hB (fun σ20 hσ20 hP hB => ?_)
      have hf := hf σ20 hσ20
      have ht17 : tg_ σ20 x0 = 1 := by rw [hσ20]; exact ht17
      refine p_aload_n hx hb dX1_compact_186 rfl (lv_at hl 1 rfl) ?_
      refine p_aload_n hx hb dX1_compact_187 rfl (lv_at hl 2 rfl) ?_
      refine p_pR X cf0_ (k := 4) (by decide) rfl hP hL ht17 (p_ow hP ht17 rfl) q630 (fun _ h => h) (Or.inl rfl) dX1_compact_188 (fun H locs hP hL => ?_)
      refine p_nmPB hP hB (fun σ21 hσ21 hP hB => ?_)
      have hf := hf σ21 hσ21
      have ht17 : tg_ σ21 x0 = 1 := by rw [hσ21]; exact ht17
      refine p_aload_n hx hb dX1_compact_191 rfl (lv_at hl 1 rfl) ?_
      refine lv_iconst (v := 1) hx hb dX1_compact_192 (by decide) ?_
      refine p_pI X cf0_ (k := 9) (by decide) rfl hP hL ht17 (p_ow hP ht17 rfl) q635 (fun _ h => h) (Or.inl rfl) rfl rfl dX1_compact_193 (fun H locs hP hL => ?_)
      refine p_nmPB hP hB (fun σ22 hσ22 hP hB => ?_)
      have hf := hf σ22 hσ22
      have ht17 : tg_ σ22 x0 = 1 := by rw [hσ22]; exact ht17
      refine p_aload_n hx hb dX1_compact_196 rfl (lv_at hl 1 rfl) ?_
      refine p_gR X cf0_ (k := 5) (by decide) rfl hP ht17 q631 (fun _ h => h) dX1_compact_197 ?_
      refine p_aload_n hx hb dX1_compact_200 rfl (lv_at hl 1 rfl) ?_
      refine p_gR X cf0_ (k := 2) (by decide) rfl hP ht17 q628 (fun _ h => h) dX1_compact_201 ?_
      obtain ⟨ht23, hf⟩ := hf
      refine p_callv hL (p_runV X cf7_ hP ht23 (metX8_begin l G _ _ _ _ X.2.2 hf) (cwV 1 hts (lw_V q977 q978 q979 q105 q980) rfl rfl rfl (by decide +kernel) ⟨Nat.le_trans (Nat.le_of_ble_eq_true rfl) hRf, Nat.le_trans (Nat.le_of_ble_eq_true rfl) hRl⟩) rfl hl.1 rfl (by decide) dX1_compact_204 (BU_call hB (Nat.zero_le _) (Nat.zero_le _))) (fun σ24 H locs hf hP hL => ?_)
      have hB := BU_keep (τ := σ24) hB
      have hP := Pic_bu hP (bc_ σ22) (bs_ σ22)
      refine p_nmPB hP hB (fun σ25 hσ25 hP hB => ?_)
      have hf := hf σ25 hσ25
      refine lv_iconst (v := 1) hx hb dX1_compact_207 (by decide) ?_
      exact p_iret X hlk hP hL (BU_le hB hRc).1 (BU_le hB hRc).2 hr dX1_compact_208 hf
    · have hf := hf.2 c16
      refine lv_iload_n hx hb dX1_compact_166 rfl (lv_at hl 0 rfl) ?_
      exact p_iret X hlk hP hL (BU_le hB hRc).1 (BU_le hB hRc).2 hr dX1_compact_167 hf
  · have hf := hf.2 c5
    refine p_aload_n hx hb dX1_compact_44 rfl (lv_at hl 0 rfl) ?_
    refine p_gR X cf0_ (k := 4) (by decide) rfl hP ht1 q630 (fun _ h => h) dX1_compact_45 ?_
    refine p_gR X cf4_ (k := 0) (by decide) rfl hP ht2 q542 (fun _ h => h) dX1_compact_48 ?_
    refine lv_iload_n hx hb dX1_compact_51 rfl (lv_at hl 2 rfl) ?_
    refine p_callr hL (p_runV X cf10_ hP ht3 (metJ2_get l G _ _ _ _ X.2.2 hf) (cwV 1 hts (lw_V q776 q724 q725 q90 q726) rfl rfl rfl (by decide +kernel) ⟨Nat.le_trans (Nat.le_of_ble_eq_true rfl) hRf, Nat.le_trans (Nat.le_of_ble_eq_true rfl) hRl⟩) rfl hl.1 rfl (by decide) dX1_compact_52 (BU_call hB (Nat.zero_le _) (Nat.zero_le _))) (fun r26 σ₁ H locs hf hP hL => ?_)
    obtain ⟨e₁, hf⟩ := hf
    rw [e₁] at hP
    obtain ⟨hc27, hf⟩ := hf
    refine p_cast X cf5_ hP hc27 q754 dX1_compact_55 ?_
    refine p_astore_n (i := 3) hx hb dX1_compact_58 rfl hl (by decide) ⟨⟨ne_ rfl, Or.inl (ne_ rfl)⟩, ⟨⟨ne_ rfl, Or.inl (ne_ rfl)⟩, ⟨⟨ne_ rfl, Or.inr rfl⟩, trivial⟩⟩⟩ (fun ls hl => ?_)
    obtain ⟨hb28, hf⟩ := hf
    obtain ⟨hb29, hf⟩ := hf
    refine p_new X cf5_ (by decide +kernel) hP hB q754 q213 q93 hb28 hb29 dX1_compact_59 (fun H hP hB => ?_)
    refine p_nmPB hP hB (fun σ30 hσ30 hP hB => ?_)
    have hf := hf σ30 hσ30
    refine lv_dup hx hb dX1_compact_62 (rv_cat _) ?_
    refine p_aload_n hx hb dX1_compact_63 rfl (lv_at hl 0 rfl) ?_
    obtain ⟨ht31, hf⟩ := hf
    refine p_gI X cf5_ (k := 0) (by decide) rfl hP ht31 q438 (fun _ h => h) dX1_compact_64 ?_
    refine p_aload_n hx hb dX1_compact_67 rfl (lv_at hl 0 rfl) ?_
    refine p_gI X cf5_ (k := 2) (by decide) rfl hP ht31 q446 (fun _ h => h) dX1_compact_68 ?_
    refine p_aload_n hx hb dX1_compact_71 rfl (lv_at hl 0 rfl) ?_
    refine p_gI X cf5_ (k := 1) (by decide) rfl hP ht31 q441 (fun _ h => h) dX1_compact_72 ?_
    refine p_aload_n hx hb dX1_compact_75 rfl (lv_at hl 0 rfl) ?_
    refine p_gR X cf5_ (k := 6) (by decide) rfl hP ht31 q457 (fun _ h => h) dX1_compact_76 ?_
    obtain ⟨ht32, hf⟩ := hf
    obtain ⟨mc33, ms34, hf⟩ := hf
    obtain ⟨hb35, hf⟩ := hf
    obtain ⟨hb36, hf⟩ := hf
    refine p_callv hL (p_runI X (Pic_bu hP mc33 ms34) ht32 (metX6_init l G _ _ _ _ _ _ _ _ _ X.2.2 hf) (cwI 4 hts (lw_meth q217) rfl rfl rfl (hts _ q93) (hts _ q755) (hts _ q216) rfl (by decide +kernel) ⟨Nat.le_trans (Nat.le_of_ble_eq_true rfl) hRf, Nat.le_trans (Nat.le_of_ble_eq_true rfl) hRl⟩) rfl hl.1 rfl (by rw [(ca_r ca_n)]; decide) dX1_compact_79 (BU_call hB hb35 hb36)) (fun σ37 H locs hf hP hL => ?_)
    have hB := BU_back (τ := σ37) hB hb35 hb36
    have hP := Pic_bu hP (bc_ σ30 - mc33) (bs_ σ30 - ms34)
    refine p_nmPB hP hB (fun σ38 hσ38 hP hB => ?_)
    have hf := hf σ38 hσ38
    refine p_topr (fun y39 hy39 => ?_)
    have hf := hf y39 hy39
    refine p_astore (i := 4) hx hb dX1_compact_82 hl (by decide) ⟨⟨ne_ rfl, Or.inr (rv_cat _)⟩, ⟨⟨ne_ rfl, Or.inl (ne_ rfl)⟩, ⟨⟨ne_ rfl, Or.inl (ne_ rfl)⟩, ⟨⟨ne_ rfl, Or.inl (ne_ rfl)⟩, trivial⟩⟩⟩⟩ (fun ls hl => ?_)
    refine p_aload hx hb dX1_compact_84 (lv_at hl 0 rfl) ?_
    refine p_aload_n hx hb dX1_compact_86 rfl (lv_at hl 1 rfl) ?_
    obtain ⟨ht40, hf⟩ := hf
    refine p_gI X cf5_ (k := 3) (by decide) rfl hP ht40 q449 (fun _ h => h) dX1_compact_87 ?_
    obtain ⟨ht41, hf⟩ := hf
    refine p_pI X cf5_ (k := 3) (by decide) rfl hP hL ht41 (p_ow hP ht41 rfl) q449 (fun _ h => h) (Or.inl rfl) rfl rfl dX1_compact_90 (fun H locs hP hL => ?_)
    refine p_nmPB hP hB (fun σ42 hσ42 hP hB => ?_)
    have hf := hf σ42 hσ42
    have ht40 : tg_ σ42 r26 = 6 := by rw [hσ42]; exact ht40
    have ht41 : tg_ σ42 y39 = 6 := by rw [hσ42]; exact ht41
    refine p_aload hx hb dX1_compact_93 (lv_at hl 0 rfl) ?_
    refine p_aload_n hx hb dX1_compact_95 rfl (lv_at hl 1 rfl) ?_
    refine p_gI X cf5_ (k := 4) (by decide) rfl hP ht40 q451 (fun _ h => h) dX1_compact_96 ?_
    refine p_pI X cf5_ (k := 4) (by decide) rfl hP hL ht41 (p_ow hP ht41 rfl) q451 (fun _ h => h) (Or.inl rfl) rfl rfl dX1_compact_99 (fun H locs hP hL => ?_)
    refine p_nmPB hP hB (fun σ43 hσ43 hP hB => ?_)
    have hf := hf σ43 hσ43
    have ht40 : tg_ σ43 r26 = 6 := by rw [hσ43]; exact ht40
    have ht41 : tg_ σ43 y39 = 6 := by rw [hσ43]; exact ht41
    refine p_aload hx hb dX1_compact_102 (lv_at hl 0 rfl) ?_
    refine p_aload_n hx hb dX1_compact_104 rfl (lv_at hl 1 rfl) ?_
    refine p_gI X cf5_ (k := 5) (by decide) rfl hP ht40 q453 (fun _ h => h) dX1_compact_105 ?_
    refine p_pI X cf5_ (k := 5) (by decide) rfl hP hL ht41 (p_ow hP ht41 rfl) q453 (fun _ h => h) (Or.inl rfl) rfl rfl dX1_compact_108 (fun H locs hP hL => ?_)
    refine p_nmPB hP hB (fun σ44 hσ44 hP hB => ?_)
    have hf := hf σ44 hσ44
    have ht40 : tg_ σ44 r26 = 6 := by rw [hσ44]; exact ht40
    have ht41 : tg_ σ44 y39 = 6 := by rw [hσ44]; exact ht41
    refine p_aload hx hb dX1_compact_111 (lv_at hl 0 rfl) ?_
    refine p_aload_n hx hb dX1_compact_113 rfl (lv_at hl 1 rfl) ?_
    refine p_gI X cf5_ (k := 8) (by decide) rfl hP ht40 q462 (fun _ h => h) dX1_compact_114 ?_
    obtain ⟨hz45, hf⟩ := hf
    refine p_pI X cf5_ (k := 8) (by decide) rfl hP hL ht41 (p_ow hP ht41 rfl) q462 (fun _ h => h) (Or.inl rfl) hz45.1 hz45.2 dX1_compact_117 (fun H locs hP hL => ?_)
    refine p_nmPB hP hB (fun σ46 hσ46 hP hB => ?_)
    have hf := hf σ46 hσ46
    have ht40 : tg_ σ46 r26 = 6 := by rw [hσ46]; exact ht40
    have ht41 : tg_ σ46 y39 = 6 := by rw [hσ46]; exact ht41
    refine p_aload_n hx hb dX1_compact_120 rfl (lv_at hl 3 rfl) ?_
    refine p_aload hx hb dX1_compact_121 (lv_at hl 0 rfl) ?_
    obtain ⟨ht47, hf⟩ := hf
    obtain ⟨mc48, ms49, hf⟩ := hf
    obtain ⟨hb50, hf⟩ := hf
    obtain ⟨hb51, hf⟩ := hf
    refine p_callv hL (p_runV X cf4_ (Pic_bu hP mc48 ms49) ht47 (metX5_add l G _ _ _ _ _ _ X.2.2 hf) (cwV 1 hts (lw_V q756 q492 q493 q92 q494) rfl rfl rfl (by decide +kernel) ⟨Nat.le_trans (Nat.le_of_ble_eq_true rfl) hRf, Nat.le_trans (Nat.le_of_ble_eq_true rfl) hRl⟩) rfl hl.1 rfl (by decide) dX1_compact_123 (BU_call hB hb50 hb51)) (fun σ52 H locs hf hP hL => ?_)
    have hB := BU_back (τ := σ52) hB hb50 hb51
    have hP := Pic_bu hP (bc_ σ46 - mc48) (bs_ σ46 - ms49)
    refine p_nmPB hP hB (fun σ53 hσ53 hP hB => ?_)
    have hf := hf σ53 hσ53
    have hl := lv_sub hl [4, 2, 3] rfl
    refine p_iincc (i := 2) (k := 1) hx hb (by decide) dX1_compact_126 hl (by decide) ⟨⟨ne_ rfl, Or.inl (ne_ rfl)⟩, ⟨⟨ne_ rfl, Or.inr (rv_cat _)⟩, trivial⟩⟩ (fun y54 hy54 ls hl => ?_)
    have hf := hf y54 hy54
    refine lv_goto (tgt := 30) hx hb dX1_compact_129 (by decide) ?_
    exact hrc30 _ _ hf _ _ _ _ _ hP hL hB (lv_sub hl [1, 2, 0] rfl)
set_option maxHeartbeats 4000000 in
theorem sX1_compact_L30 {G : GG_} {p : Program} {l : Launch} {e : Env} {R : Room} {s : State} {m : MethodId} {args : Array Value} {below : List Frame} {meth : Method} {c : Code} {mc ms : Nat} (Y : MX_ G p R s m args meth c cX1_compact 5 RX1 (some Jvm.ClassFile.FieldType.int) 11 287 mc ms "compact") {post : Int32 → Hp → Prop} {x0 : Nat} {x1 : Nat} {x2 : Int32} {σ : Hp} (hf : wX1_compact_L30 post x0 x1 x2 σ) : WG_ G p l e R s m args below meth c (MQ below (QI_ G post) args s mc ms (FR_ G)) (BU_ R) 5 30 [(0, rv_ x0), (1, rv_ x1), (2, .int x2)] [] σ := by
  unfold wX1_compact_L30 at hf
  obtain ⟨I, μ, h0, hI⟩ := hf
  have key : ∀ (n : Nat) (x2 : Int32) (σ : Hp), I x2 σ → μ x2 σ < n → WG_ G p l e R s m args below meth c (MQ below (QI_ G post) args s mc ms (FR_ G)) (BU_ R) 5 30 [(0, rv_ x0), (1, rv_ x1), (2, .int x2)] [] σ := by
    intro n
    induction n with
    | zero => intro x2 σ _ h; exact absurd h (Nat.not_lt_zero _)
    | succ n ih => intro x2 σ hi hn; exact sX1_compact_B30 Y (fun x2' σ' h => ih x2' σ' h.1 (Nat.lt_of_lt_of_le h.2 (Nat.le_of_lt_succ hn))) (hI x2 σ hi)
  exact key _ _ _ h0 (Nat.lt_succ_self _)
set_option maxHeartbeats 4000000 in
theorem sX1_compact {G : GG_} {p : Program} {l : Launch} {e : Env} {R : Room} {s : State} {m : MethodId} {args : Array Value} {below : List Frame} {meth : Method} {c : Code} {mc ms : Nat} (Y : MX_ G p R s m args meth c cX1_compact 5 RX1 (some Jvm.ClassFile.FieldType.int) 11 287 mc ms "compact") {post : Int32 → Hp → Prop} {x0 : Nat} {σ : Hp} (hf : wX1_compact x0 σ post) : WG_ G p l e R s m args below meth c (MQ below (QI_ G post) args s mc ms (FR_ G)) (BU_ R) 5 0 [(0, rv_ x0)] [] σ := by
  have ⟨X, hlk, hr, hRf, hRl, hRc, hnm⟩ := Y
  have ⟨⟨hx, hb, _, hown, hts⟩, _, _⟩ := X
  intro H locs cells slots ls hP hL hB hl
  unfold wX1_compact at hf
  refine p_aload_n hx hb dX1_compact_0 rfl (lv_at hl 0 rfl) ?_
  obtain ⟨ht55, hf⟩ := hf
  refine p_gR X cf0_ (k := 0) (by decide) rfl hP ht55 q626 (fun _ h => h) dX1_compact_1 ?_
  obtain ⟨ht56, hf⟩ := hf
  refine p_gI X cf1_ (k := 2) (by decide) rfl hP ht56 q133 (fun _ h => h) dX1_compact_4 ?_
  refine lv_if_eq (tgt := 13) hx hb dX1_compact_7 (by decide) (fun c57 => ?_) (fun c57 => ?_)
  · have hf := hf.1 c57
    refine p_aload_n hx hb dX1_compact_13 rfl (lv_at hl 0 rfl) ?_
    refine p_gR X cf0_ (k := 3) (by decide) rfl hP ht55 q629 (fun _ h => h) dX1_compact_14 ?_
    obtain ⟨ht58, hf⟩ := hf
    refine p_callv hL (p_runV X cf6_ hP ht58 (metX7_wipe l G _ _ _ X.2.2 hf) (cwV 0 hts (lw_V q1142 q1143 q1144 q104 q1145) rfl rfl rfl (by decide +kernel) ⟨Nat.le_trans (Nat.le_of_ble_eq_true rfl) hRf, Nat.le_trans (Nat.le_of_ble_eq_true rfl) hRl⟩) rfl hl.1 rfl (by decide) dX1_compact_17 (BU_call hB (Nat.zero_le _) (Nat.zero_le _))) (fun σ59 H locs hf hP hL => ?_)
    have hB := BU_keep (τ := σ59) hB
    have hP := Pic_bu hP (bc_ σ) (bs_ σ)
    refine p_nmPB hP hB (fun σ60 hσ60 hP hB => ?_)
    have hf := hf σ60 hσ60
    obtain ⟨hb61, hf⟩ := hf
    obtain ⟨hb62, hf⟩ := hf
    refine p_new X cf4_ (by decide +kernel) hP hB q204 q205 q92 hb61 hb62 dX1_compact_20 (fun H hP hB => ?_)
    refine p_nmPB hP hB (fun σ63 hσ63 hP hB => ?_)
    have hf := hf σ63 hσ63
    refine lv_dup hx hb dX1_compact_23 (rv_cat _) ?_
    obtain ⟨ht64, hf⟩ := hf
    obtain ⟨mc65, ms66, hf⟩ := hf
    obtain ⟨hb67, hf⟩ := hf
    obtain ⟨hb68, hf⟩ := hf
    refine p_callv hL (p_runI X (Pic_bu hP mc65 ms66) ht64 (metX5_init l G _ _ _ _ _ X.2.2 hf) (cwI 0 hts (lw_meth q208) rfl rfl rfl (hts _ q92) (hts _ q206) (hts _ q207) rfl (by decide +kernel) ⟨Nat.le_trans (Nat.le_of_ble_eq_true rfl) hRf, Nat.le_trans (Nat.le_of_ble_eq_true rfl) hRl⟩) rfl hl.1 rfl (by rw [(ca_r ca_n)]; decide) dX1_compact_24 (BU_call hB hb67 hb68)) (fun σ69 H locs hf hP hL => ?_)
    have hB := BU_back (τ := σ69) hB hb67 hb68
    have hP := Pic_bu hP (bc_ σ63 - mc65) (bs_ σ63 - ms66)
    refine p_nmPB hP hB (fun σ70 hσ70 hP hB => ?_)
    have hf := hf σ70 hσ70
    refine p_topr (fun y71 hy71 => ?_)
    have hf := hf y71 hy71
    refine p_astore_n (i := 1) hx hb dX1_compact_27 rfl hl (by decide) ⟨⟨ne_ rfl, Or.inr (rv_cat _)⟩, trivial⟩ (fun ls hl => ?_)
    refine lv_iconst (v := 1) hx hb dX1_compact_28 (by decide) ?_
    refine p_istore_n (i := 2) hx hb dX1_compact_29 rfl hl (by decide) ⟨⟨ne_ rfl, Or.inr (rv_cat _)⟩, ⟨⟨ne_ rfl, Or.inl (ne_ rfl)⟩, trivial⟩⟩ (fun ls hl => ?_)
    exact sX1_compact_L30 Y hf _ _ _ _ _ hP hL hB (lv_sub hl [2, 1, 0] rfl)
  · have hf := hf.2 c57
    refine lv_bipush (v := (-4)) hx hb dX1_compact_10 (by decide) ?_
    exact p_iret X hlk hP hL (BU_le hB hRc).1 (BU_le hB hRc).2 hr dX1_compact_12 hf
set_option maxHeartbeats 4000000 in
theorem metX1_compact (l : Launch) (G : GG_) (mc ms : Nat) (x0 : Nat) (σ : Hp) (post : Int32 → Hp → Prop) (hG : GOK_ G) (hf : wX1_compact x0 (bu_ σ mc ms) post) : Met l yX1_compact (ws_ yX1_compact cX1_compact 5 (some Jvm.ClassFile.FieldType.int)) { frames := 11, cells := mc, slots := ms, locals := 287 } (PC_ G [rv_ x0] (bu_ σ mc ms)) (QI_ G post) mc ms (FR_ G) := by
  refine Met.ofW (cc := cX1_compact) (maxL := 5) (ret := (some Jvm.ClassFile.FieldType.int)) (by decide) rfl ?_
  intro p e s m args below meth c s₁ B hml hv
  obtain ⟨rfl, hP, hW⟩ := hv
  have hts := atoms_spec (ws := ws_ yX1_compact cX1_compact 5 (some Jvm.ClassFile.FieldType.int)) B.pre
  have hts : ∀ w ∈ lw_all, w.before _ s = true := fun w h => hts w (List.mem_cons_of_mem _ h)
  rw [lg_entry_eq]
  have hl := en_entry [rv_ x0] [1] (n := 5) (ca_r ca_n) (by decide)
  exact sX1_compact ⟨⟨⟨B.exec, B.bytes, hml, findClass_of_methodNamed B.named, hts⟩, hW, hG⟩, B.notSynchronized, B.returns, Nat.le_refl _, Nat.le_refl _, ⟨rfl, rfl⟩, (name_of_methodNamed B.named B.method).1⟩ hf _ _ _ _ _ hP (LO_nil G) (BU_in ⟨rfl, rfl⟩) hl
abbrev cX1_state : ByteArray := prog_1_method_22_code
def yX1_state : MethodName := ⟨RX1, "state", "(I)I"⟩
theorem dX1_state_0 : decode cX1_state 0 = .ok (.iload_n 1, 1) := by decide +kernel
theorem dX1_state_1 : decode cX1_state 1 = .ok (.iconst 0, 1) := by decide +kernel
theorem dX1_state_2 : decode cX1_state 2 = .ok (.aload_n 0, 1) := by decide +kernel
theorem dX1_state_3 : decode cX1_state 3 = .ok (.getfield 64, 3) := by decide +kernel
theorem dX1_state_6 : decode cX1_state 6 = .ok (.getfield 90, 3) := by decide +kernel
theorem dX1_state_9 : decode cX1_state 9 = .ok (.iconst 1, 1) := by decide +kernel
theorem dX1_state_10 : decode cX1_state 10 = .ok (.isub, 1) := by decide +kernel
theorem dX1_state_11 : decode cX1_state 11 = .ok (.invokestatic 94, 3) := by decide +kernel
theorem dX1_state_14 : decode cX1_state 14 = .ok (.ifCond .eq 15, 3) := by decide +kernel
theorem dX1_state_17 : decode cX1_state 17 = .ok (.aload_n 0, 1) := by decide +kernel
theorem dX1_state_18 : decode cX1_state 18 = .ok (.getfield 64, 3) := by decide +kernel
theorem dX1_state_21 : decode cX1_state 21 = .ok (.getfield 206, 3) := by decide +kernel
theorem dX1_state_24 : decode cX1_state 24 = .ok (.iload_n 1, 1) := by decide +kernel
theorem dX1_state_25 : decode cX1_state 25 = .ok (.iaload, 1) := by decide +kernel
theorem dX1_state_26 : decode cX1_state 26 = .ok (.goto 4, 3) := by decide +kernel
theorem dX1_state_29 : decode cX1_state 29 = .ok (.iconst (-1), 1) := by decide +kernel
theorem dX1_state_30 : decode cX1_state 30 = .ok (.ireturn, 1) := by decide +kernel
/-- WriteOnceDisc.state(I)I -/
def wX1_state (x0 : Nat) (x1 : Int32) (σ : Hp) (post : Int32 → Prop) : Prop :=
(tg_ σ x0 = 1 ∧ (tg_ σ (fR_ σ 0 2 x0) = 7 ∧ (wX1_in x1 (0 : Int32) ((fI_ σ 6 0 (fR_ σ 0 2 x0)) - (1 : Int32)) σ (fun r3 => ((r3 = 0 →
  post (-1 : Int32)) ∧
 (¬ r3 = 0 →
  (tg_ σ (fR_ σ 6 2 (fR_ σ 0 2 x0)) = 102 ∧ (vp_in x1 (ln_ σ (fR_ σ 6 2 (fR_ σ 0 2 x0))) ∧ post (aI_ σ (fR_ σ 6 2 (fR_ σ 0 2 x0)) (x1).toNatClampNeg)))))))))
set_option maxHeartbeats 4000000 in
theorem sX1_state {G : GG_} {p : Program} {l : Launch} {e : Env} {R : Room} {s : State} {m : MethodId} {args : Array Value} {below : List Frame} {meth : Method} {c : Code} (Y : MX_ G p R s m args meth c cX1_state 2 RX1 (some Jvm.ClassFile.FieldType.int) 2 42 0 0 "state") {post : Int32 → Prop} {x0 : Nat} {x1 : Int32} {σ : Hp} (hf : wX1_state x0 x1 σ post) : WG_ G p l e R s m args below meth c (MQ below (QI_ G (fun r τ => τ = σ ∧ post r)) args s 0 0 (FR_ G)) BN_ 2 0 [(0, rv_ x0), (1, .int x1)] [] σ := by
  have ⟨X, hlk, hr, hRf, hRl, hRc, hnm⟩ := Y
  have ⟨⟨hx, hb, _, hown, hts⟩, _, _⟩ := X
  intro H locs cells slots ls hP hL hB hl
  obtain ⟨rfl, rfl⟩ := hB
  unfold wX1_state at hf
  refine lv_iload_n hx hb dX1_state_0 rfl (lv_at hl 1 rfl) ?_
  refine lv_iconst (v := 0) hx hb dX1_state_1 (by decide) ?_
  refine p_aload_n hx hb dX1_state_2 rfl (lv_at hl 0 rfl) ?_
  obtain ⟨ht1, hf⟩ := hf
  refine p_gR X cf0_ (k := 2) (by decide) rfl hP ht1 q628 (fun _ h => h) dX1_state_3 ?_
  obtain ⟨ht2, hf⟩ := hf
  refine p_gI X cf6_ (k := 0) (by decide) rfl hP ht2 q559 (fun _ h => h) dX1_state_6 ?_
  refine lv_iconst (v := 1) hx hb dX1_state_9 (by decide) ?_
  refine lv_isub hx hb dX1_state_10 ?_
  refine p_calli hL (p_runS X hP (metX1_in l G _ _ _ _ _ X.2.2 hf) (va_cwS 3 hts (lw_S q664 q665 q85 q666) rfl rfl rfl (by decide +kernel) ⟨Nat.le_trans (Nat.le_of_ble_eq_true rfl) hRf, Nat.le_trans (Nat.le_of_ble_eq_true rfl) hRl⟩) rfl hl.1 rfl (by decide) dX1_state_11 ⟨Nat.zero_le _, Nat.zero_le _⟩) (fun r3 σ₁ H locs hf hP hL => ?_)
  obtain ⟨e₁, hf⟩ := hf
  rw [e₁] at hP
  refine lv_if_eq (tgt := 29) hx hb dX1_state_14 (by decide) (fun c4 => ?_) (fun c4 => ?_)
  · have hf := hf.1 c4
    refine lv_iconst (v := (-1)) hx hb dX1_state_29 (by decide) ?_
    exact p_iret X hlk hP hL (Nat.le_refl _) (Nat.le_refl _) hr dX1_state_30 ⟨rfl, hf⟩
  · have hf := hf.2 c4
    refine p_aload_n hx hb dX1_state_17 rfl (lv_at hl 0 rfl) ?_
    refine p_gR X cf0_ (k := 2) (by decide) rfl hP ht1 q628 (fun _ h => h) dX1_state_18 ?_
    refine p_gR X cf6_ (k := 2) (by decide) rfl hP ht2 q565 (fun _ h => h) dX1_state_21 ?_
    refine lv_iload_n hx hb dX1_state_24 rfl (lv_at hl 1 rfl) ?_
    obtain ⟨ht5, hf⟩ := hf
    obtain ⟨hi6, hf⟩ := hf
    refine p_iald X hP ht5 hi6 dX1_state_25 ?_
    refine lv_goto (tgt := 30) hx hb dX1_state_26 (by decide) ?_
    exact p_iret X hlk hP hL (Nat.le_refl _) (Nat.le_refl _) hr dX1_state_30 ⟨rfl, hf⟩
set_option maxHeartbeats 4000000 in
theorem metX1_state (l : Launch) (G : GG_) (x0 : Nat) (x1 : Int32) (σ : Hp) (post : Int32 → Prop) (hG : GOK_ G) (hf : wX1_state x0 x1 σ post) : Met l yX1_state (ws_ yX1_state cX1_state 2 (some Jvm.ClassFile.FieldType.int)) { frames := 2, cells := 0, slots := 0, locals := 42 } (PC_ G [rv_ x0, .int x1] σ) (QI_ G (fun r τ => τ = σ ∧ post r)) 0 0 (FR_ G) := by
  refine Met.ofW (cc := cX1_state) (maxL := 2) (ret := (some Jvm.ClassFile.FieldType.int)) (by decide) rfl ?_
  intro p e s m args below meth c s₁ B hml hv
  obtain ⟨rfl, hP, hW⟩ := hv
  have hts := atoms_spec (ws := ws_ yX1_state cX1_state 2 (some Jvm.ClassFile.FieldType.int)) B.pre
  have hts : ∀ w ∈ lw_all, w.before _ s = true := fun w h => hts w (List.mem_cons_of_mem _ h)
  rw [lg_entry_eq]
  have hl := en_entry [rv_ x0, .int x1] [1, 1] (n := 2) (ca_r (ca_i ca_n)) (by decide)
  exact sX1_state ⟨⟨⟨B.exec, B.bytes, hml, findClass_of_methodNamed B.named, hts⟩, hW, hG⟩, B.notSynchronized, B.returns, Nat.le_refl _, Nat.le_refl _, ⟨rfl, rfl⟩, (name_of_methodNamed B.named B.method).1⟩ hf _ _ _ _ _ hP (LO_nil G) ⟨rfl, rfl⟩ hl
abbrev cX1_isIn : ByteArray := prog_1_method_23_code
def yX1_isIn : MethodName := ⟨RX1, "isIn", "(I)Z"⟩
theorem dX1_isIn_0 : decode cX1_isIn 0 = .ok (.iload_n 1, 1) := by decide +kernel
theorem dX1_isIn_1 : decode cX1_isIn 1 = .ok (.iconst 0, 1) := by decide +kernel
theorem dX1_isIn_2 : decode cX1_isIn 2 = .ok (.aload_n 0, 1) := by decide +kernel
theorem dX1_isIn_3 : decode cX1_isIn 3 = .ok (.getfield 64, 3) := by decide +kernel
theorem dX1_isIn_6 : decode cX1_isIn 6 = .ok (.getfield 90, 3) := by decide +kernel
theorem dX1_isIn_9 : decode cX1_isIn 9 = .ok (.sipush 2048, 3) := by decide +kernel
theorem dX1_isIn_12 : decode cX1_isIn 12 = .ok (.imul, 1) := by decide +kernel
theorem dX1_isIn_13 : decode cX1_isIn 13 = .ok (.iconst 1, 1) := by decide +kernel
theorem dX1_isIn_14 : decode cX1_isIn 14 = .ok (.isub, 1) := by decide +kernel
theorem dX1_isIn_15 : decode cX1_isIn 15 = .ok (.invokestatic 94, 3) := by decide +kernel
theorem dX1_isIn_18 : decode cX1_isIn 18 = .ok (.ireturn, 1) := by decide +kernel
/-- WriteOnceDisc.isIn(I)Z -/
def wX1_isIn (x0 : Nat) (x1 : Int32) (σ : Hp) (post : Int32 → Prop) : Prop :=
(tg_ σ x0 = 1 ∧ (tg_ σ (fR_ σ 0 2 x0) = 7 ∧ (wX1_in x1 (0 : Int32) (((fI_ σ 6 0 (fR_ σ 0 2 x0)) * (2048 : Int32)) - (1 : Int32)) σ (fun r3 => (nr_ .boolean r3 ∧ post r3)))))
set_option maxHeartbeats 4000000 in
theorem sX1_isIn {G : GG_} {p : Program} {l : Launch} {e : Env} {R : Room} {s : State} {m : MethodId} {args : Array Value} {below : List Frame} {meth : Method} {c : Code} (Y : MX_ G p R s m args meth c cX1_isIn 2 RX1 (some Jvm.ClassFile.FieldType.boolean) 2 42 0 0 "isIn") {post : Int32 → Prop} {x0 : Nat} {x1 : Int32} {σ : Hp} (hf : wX1_isIn x0 x1 σ post) : WG_ G p l e R s m args below meth c (MQ below (QI_ G (fun r τ => τ = σ ∧ post r)) args s 0 0 (FR_ G)) BN_ 2 0 [(0, rv_ x0), (1, .int x1)] [] σ := by
  have ⟨X, hlk, hr, hRf, hRl, hRc, hnm⟩ := Y
  have ⟨⟨hx, hb, _, hown, hts⟩, _, _⟩ := X
  intro H locs cells slots ls hP hL hB hl
  obtain ⟨rfl, rfl⟩ := hB
  unfold wX1_isIn at hf
  refine lv_iload_n hx hb dX1_isIn_0 rfl (lv_at hl 1 rfl) ?_
  refine lv_iconst (v := 0) hx hb dX1_isIn_1 (by decide) ?_
  refine p_aload_n hx hb dX1_isIn_2 rfl (lv_at hl 0 rfl) ?_
  obtain ⟨ht1, hf⟩ := hf
  refine p_gR X cf0_ (k := 2) (by decide) rfl hP ht1 q628 (fun _ h => h) dX1_isIn_3 ?_
  obtain ⟨ht2, hf⟩ := hf
  refine p_gI X cf6_ (k := 0) (by decide) rfl hP ht2 q559 (fun _ h => h) dX1_isIn_6 ?_
  refine lv_sipush (v := 2048) hx hb dX1_isIn_9 (by decide) ?_
  refine lv_imul hx hb dX1_isIn_12 ?_
  refine lv_iconst (v := 1) hx hb dX1_isIn_13 (by decide) ?_
  refine lv_isub hx hb dX1_isIn_14 ?_
  refine p_calli hL (p_runS X hP (metX1_in l G _ _ _ _ _ X.2.2 hf) (va_cwS 3 hts (lw_S q664 q665 q85 q666) rfl rfl rfl (by decide +kernel) ⟨Nat.le_trans (Nat.le_of_ble_eq_true rfl) hRf, Nat.le_trans (Nat.le_of_ble_eq_true rfl) hRl⟩) rfl hl.1 rfl (by decide) dX1_isIn_15 ⟨Nat.zero_le _, Nat.zero_le _⟩) (fun r3 σ₁ H locs hf hP hL => ?_)
  obtain ⟨e₁, hf⟩ := hf
  rw [e₁] at hP
  obtain ⟨hn4, hf⟩ := hf
  exact p_zret X hlk hP hL (Nat.le_refl _) (Nat.le_refl _) hr hn4 dX1_isIn_18 ⟨rfl, hf⟩
set_option maxHeartbeats 4000000 in
theorem metX1_isIn (l : Launch) (G : GG_) (x0 : Nat) (x1 : Int32) (σ : Hp) (post : Int32 → Prop) (hG : GOK_ G) (hf : wX1_isIn x0 x1 σ post) : Met l yX1_isIn (ws_ yX1_isIn cX1_isIn 2 (some Jvm.ClassFile.FieldType.boolean)) { frames := 2, cells := 0, slots := 0, locals := 42 } (PC_ G [rv_ x0, .int x1] σ) (QI_ G (fun r τ => τ = σ ∧ post r)) 0 0 (FR_ G) := by
  refine Met.ofW (cc := cX1_isIn) (maxL := 2) (ret := (some Jvm.ClassFile.FieldType.boolean)) (by decide) rfl ?_
  intro p e s m args below meth c s₁ B hml hv
  obtain ⟨rfl, hP, hW⟩ := hv
  have hts := atoms_spec (ws := ws_ yX1_isIn cX1_isIn 2 (some Jvm.ClassFile.FieldType.boolean)) B.pre
  have hts : ∀ w ∈ lw_all, w.before _ s = true := fun w h => hts w (List.mem_cons_of_mem _ h)
  rw [lg_entry_eq]
  have hl := en_entry [rv_ x0, .int x1] [1, 1] (n := 2) (ca_r (ca_i ca_n)) (by decide)
  exact sX1_isIn ⟨⟨⟨B.exec, B.bytes, hml, findClass_of_methodNamed B.named, hts⟩, hW, hG⟩, B.notSynchronized, B.returns, Nat.le_refl _, Nat.le_refl _, ⟨rfl, rfl⟩, (name_of_methodNamed B.named B.method).1⟩ hf _ _ _ _ _ hP (LO_nil G) ⟨rfl, rfl⟩ hl
abbrev cX1_byteAt : ByteArray := prog_1_method_24_code
def yX1_byteAt : MethodName := ⟨RX1, "byteAt", "(I)I"⟩
theorem dX1_byteAt_0 : decode cX1_byteAt 0 = .ok (.aload_n 0, 1) := by decide +kernel
theorem dX1_byteAt_1 : decode cX1_byteAt 1 = .ok (.iload_n 1, 1) := by decide +kernel
theorem dX1_byteAt_2 : decode cX1_byteAt 2 = .ok (.invokevirtual 261, 3) := by decide +kernel
theorem dX1_byteAt_5 : decode cX1_byteAt 5 = .ok (.ifCond .eq 15, 3) := by decide +kernel
theorem dX1_byteAt_8 : decode cX1_byteAt 8 = .ok (.aload_n 0, 1) := by decide +kernel
theorem dX1_byteAt_9 : decode cX1_byteAt 9 = .ok (.getfield 64, 3) := by decide +kernel
theorem dX1_byteAt_12 : decode cX1_byteAt 12 = .ok (.iload_n 1, 1) := by decide +kernel
theorem dX1_byteAt_13 : decode cX1_byteAt 13 = .ok (.i2l, 1) := by decide +kernel
theorem dX1_byteAt_14 : decode cX1_byteAt 14 = .ok (.invokevirtual 263, 3) := by decide +kernel
theorem dX1_byteAt_17 : decode cX1_byteAt 17 = .ok (.goto 4, 3) := by decide +kernel
theorem dX1_byteAt_20 : decode cX1_byteAt 20 = .ok (.iconst (-1), 1) := by decide +kernel
theorem dX1_byteAt_21 : decode cX1_byteAt 21 = .ok (.ireturn, 1) := by decide +kernel
/-- WriteOnceDisc.byteAt(I)I -/
def wX1_byteAt (x0 : Nat) (x1 : Int32) (σ : Hp) (post : Int32 → Prop) : Prop :=
(tg_ σ x0 = 1 ∧ (wX1_isIn x0 x1 σ (fun r2 => ((r2 = 0 →
  post (-1 : Int32)) ∧
 (¬ r2 = 0 →
  (tg_ σ (fR_ σ 0 2 x0) = 7 ∧ (wX7_at (fR_ σ 0 2 x0) (x1).toInt64 σ (fun r5 => post r5))))))))
set_option maxHeartbeats 4000000 in
theorem sX1_byteAt {G : GG_} {p : Program} {l : Launch} {e : Env} {R : Room} {s : State} {m : MethodId} {args : Array Value} {below : List Frame} {meth : Method} {c : Code} (Y : MX_ G p R s m args meth c cX1_byteAt 2 RX1 (some Jvm.ClassFile.FieldType.int) 3 63 0 0 "byteAt") {post : Int32 → Prop} {x0 : Nat} {x1 : Int32} {σ : Hp} (hf : wX1_byteAt x0 x1 σ post) : WG_ G p l e R s m args below meth c (MQ below (QI_ G (fun r τ => τ = σ ∧ post r)) args s 0 0 (FR_ G)) BN_ 2 0 [(0, rv_ x0), (1, .int x1)] [] σ := by
  have ⟨X, hlk, hr, hRf, hRl, hRc, hnm⟩ := Y
  have ⟨⟨hx, hb, _, hown, hts⟩, _, _⟩ := X
  intro H locs cells slots ls hP hL hB hl
  obtain ⟨rfl, rfl⟩ := hB
  unfold wX1_byteAt at hf
  refine p_aload_n hx hb dX1_byteAt_0 rfl (lv_at hl 0 rfl) ?_
  refine lv_iload_n hx hb dX1_byteAt_1 rfl (lv_at hl 1 rfl) ?_
  obtain ⟨ht1, hf⟩ := hf
  refine p_calli hL (p_runV X cf0_ hP ht1 (metX1_isIn l G _ _ _ _ X.2.2 hf) (cwV 1 hts (lw_V q1154 q1156 qs39 q85 q1157) rfl rfl rfl (by decide +kernel) ⟨Nat.le_trans (Nat.le_of_ble_eq_true rfl) hRf, Nat.le_trans (Nat.le_of_ble_eq_true rfl) hRl⟩) rfl hl.1 rfl (by decide) dX1_byteAt_2 ⟨Nat.zero_le _, Nat.zero_le _⟩) (fun r2 σ₁ H locs hf hP hL => ?_)
  obtain ⟨e₁, hf⟩ := hf
  rw [e₁] at hP
  refine lv_if_eq (tgt := 20) hx hb dX1_byteAt_5 (by decide) (fun c3 => ?_) (fun c3 => ?_)
  · have hf := hf.1 c3
    refine lv_iconst (v := (-1)) hx hb dX1_byteAt_20 (by decide) ?_
    exact p_iret X hlk hP hL (Nat.le_refl _) (Nat.le_refl _) hr dX1_byteAt_21 ⟨rfl, hf⟩
  · have hf := hf.2 c3
    refine p_aload_n hx hb dX1_byteAt_8 rfl (lv_at hl 0 rfl) ?_
    refine p_gR X cf0_ (k := 2) (by decide) rfl hP ht1 q628 (fun _ h => h) dX1_byteAt_9 ?_
    refine lv_iload_n hx hb dX1_byteAt_12 rfl (lv_at hl 1 rfl) ?_
    refine lv_i2l hx hb dX1_byteAt_13 rfl ?_
    obtain ⟨ht4, hf⟩ := hf
    refine p_calli hL (p_runV X cf6_ hP ht4 (metX7_at l G _ _ _ _ X.2.2 hf) (cwV 1 hts (lw_V q1158 q967 q968 q104 q969) rfl rfl rfl (by decide +kernel) ⟨Nat.le_trans (Nat.le_of_ble_eq_true rfl) hRf, Nat.le_trans (Nat.le_of_ble_eq_true rfl) hRl⟩) rfl hl.1 rfl (by decide) dX1_byteAt_14 ⟨Nat.zero_le _, Nat.zero_le _⟩) (fun r5 σ₁ H locs hf hP hL => ?_)
    obtain ⟨e₁, hf⟩ := hf
    rw [e₁] at hP
    refine lv_goto (tgt := 21) hx hb dX1_byteAt_17 (by decide) ?_
    exact p_iret X hlk hP hL (Nat.le_refl _) (Nat.le_refl _) hr dX1_byteAt_21 ⟨rfl, hf⟩
set_option maxHeartbeats 4000000 in
theorem metX1_byteAt (l : Launch) (G : GG_) (x0 : Nat) (x1 : Int32) (σ : Hp) (post : Int32 → Prop) (hG : GOK_ G) (hf : wX1_byteAt x0 x1 σ post) : Met l yX1_byteAt (ws_ yX1_byteAt cX1_byteAt 2 (some Jvm.ClassFile.FieldType.int)) { frames := 3, cells := 0, slots := 0, locals := 63 } (PC_ G [rv_ x0, .int x1] σ) (QI_ G (fun r τ => τ = σ ∧ post r)) 0 0 (FR_ G) := by
  refine Met.ofW (cc := cX1_byteAt) (maxL := 2) (ret := (some Jvm.ClassFile.FieldType.int)) (by decide) rfl ?_
  intro p e s m args below meth c s₁ B hml hv
  obtain ⟨rfl, hP, hW⟩ := hv
  have hts := atoms_spec (ws := ws_ yX1_byteAt cX1_byteAt 2 (some Jvm.ClassFile.FieldType.int)) B.pre
  have hts : ∀ w ∈ lw_all, w.before _ s = true := fun w h => hts w (List.mem_cons_of_mem _ h)
  rw [lg_entry_eq]
  have hl := en_entry [rv_ x0, .int x1] [1, 1] (n := 2) (ca_r (ca_i ca_n)) (by decide)
  exact sX1_byteAt ⟨⟨⟨B.exec, B.bytes, hml, findClass_of_methodNamed B.named, hts⟩, hW, hG⟩, B.notSynchronized, B.returns, Nat.le_refl _, Nat.le_refl _, ⟨rfl, rfl⟩, (name_of_methodNamed B.named B.method).1⟩ hf _ _ _ _ _ hP (LO_nil G) ⟨rfl, rfl⟩ hl
abbrev cX1_spoil : ByteArray := prog_1_method_25_code
def yX1_spoil : MethodName := ⟨RX1, "spoil", "(II)I"⟩
theorem dX1_spoil_0 : decode cX1_spoil 0 = .ok (.aload_n 0, 1) := by decide +kernel
theorem dX1_spoil_1 : decode cX1_spoil 1 = .ok (.iload_n 1, 1) := by decide +kernel
theorem dX1_spoil_2 : decode cX1_spoil 2 = .ok (.invokevirtual 261, 3) := by decide +kernel
theorem dX1_spoil_5 : decode cX1_spoil 5 = .ok (.ifCond .eq 20, 3) := by decide +kernel
theorem dX1_spoil_8 : decode cX1_spoil 8 = .ok (.aload_n 0, 1) := by decide +kernel
theorem dX1_spoil_9 : decode cX1_spoil 9 = .ok (.getfield 64, 3) := by decide +kernel
theorem dX1_spoil_12 : decode cX1_spoil 12 = .ok (.getfield 206, 3) := by decide +kernel
theorem dX1_spoil_15 : decode cX1_spoil 15 = .ok (.iload_n 1, 1) := by decide +kernel
theorem dX1_spoil_16 : decode cX1_spoil 16 = .ok (.sipush 2048, 3) := by decide +kernel
theorem dX1_spoil_19 : decode cX1_spoil 19 = .ok (.idiv, 1) := by decide +kernel
theorem dX1_spoil_20 : decode cX1_spoil 20 = .ok (.iaload, 1) := by decide +kernel
theorem dX1_spoil_21 : decode cX1_spoil 21 = .ok (.iconst 1, 1) := by decide +kernel
theorem dX1_spoil_22 : decode cX1_spoil 22 = .ok (.if_icmp .eq 5, 3) := by decide +kernel
theorem dX1_spoil_25 : decode cX1_spoil 25 = .ok (.iconst (-1), 1) := by decide +kernel
theorem dX1_spoil_26 : decode cX1_spoil 26 = .ok (.ireturn, 1) := by decide +kernel
theorem dX1_spoil_27 : decode cX1_spoil 27 = .ok (.aload_n 0, 1) := by decide +kernel
theorem dX1_spoil_28 : decode cX1_spoil 28 = .ok (.getfield 64, 3) := by decide +kernel
theorem dX1_spoil_31 : decode cX1_spoil 31 = .ok (.iload_n 1, 1) := by decide +kernel
theorem dX1_spoil_32 : decode cX1_spoil 32 = .ok (.i2l, 1) := by decide +kernel
theorem dX1_spoil_33 : decode cX1_spoil 33 = .ok (.invokevirtual 263, 3) := by decide +kernel
theorem dX1_spoil_36 : decode cX1_spoil 36 = .ok (.istore_n 3, 1) := by decide +kernel
theorem dX1_spoil_37 : decode cX1_spoil 37 = .ok (.aload_n 0, 1) := by decide +kernel
theorem dX1_spoil_38 : decode cX1_spoil 38 = .ok (.getfield 64, 3) := by decide +kernel
theorem dX1_spoil_41 : decode cX1_spoil 41 = .ok (.getfield 267, 3) := by decide +kernel
theorem dX1_spoil_44 : decode cX1_spoil 44 = .ok (.iload_n 1, 1) := by decide +kernel
theorem dX1_spoil_45 : decode cX1_spoil 45 = .ok (.iload_n 2, 1) := by decide +kernel
theorem dX1_spoil_46 : decode cX1_spoil 46 = .ok (.i2b, 1) := by decide +kernel
theorem dX1_spoil_47 : decode cX1_spoil 47 = .ok (.bastore, 1) := by decide +kernel
theorem dX1_spoil_48 : decode cX1_spoil 48 = .ok (.iload_n 3, 1) := by decide +kernel
theorem dX1_spoil_49 : decode cX1_spoil 49 = .ok (.ireturn, 1) := by decide +kernel
/-- WriteOnceDisc.spoil(II)I -/
def wX1_spoil (x0 : Nat) (x1 : Int32) (x2 : Int32) (σ : Hp) (post : Int32 → Hp → Prop) : Prop :=
(tg_ σ x0 = 1 ∧ (wX1_isIn x0 x1 σ (fun r2 => ((r2 = 0 →
  post (-1 : Int32) σ) ∧
 (¬ r2 = 0 →
  (tg_ σ (fR_ σ 0 2 x0) = 7 ∧ (tg_ σ (fR_ σ 6 2 (fR_ σ 0 2 x0)) = 102 ∧ (vp_in (x1 / (2048 : Int32)) (ln_ σ (fR_ σ 6 2 (fR_ σ 0 2 x0))) ∧ (((aI_ σ (fR_ σ 6 2 (fR_ σ 0 2 x0)) ((x1 / (2048 : Int32))).toNatClampNeg) = (1 : Int32) →
   (wX7_at (fR_ σ 0 2 x0) (x1).toInt64 σ (fun r8 => (tg_ σ (fR_ σ 6 1 (fR_ σ 0 2 x0)) = 100 ∧ (lo_ σ < (fR_ σ 6 1 (fR_ σ 0 2 x0)) ∧ (vp_in x1 (ln_ σ (fR_ σ 6 1 (fR_ σ 0 2 x0))) ∧ (∀ σ12, σ12 = wI_ σ (fR_ σ 6 1 (fR_ σ 0 2 x0)) (x1).toNatClampNeg (vp_nar .byte (x2).toInt8.toInt32) → post r8 σ12))))))) ∧
  (¬ (aI_ σ (fR_ σ 6 2 (fR_ σ 0 2 x0)) ((x1 / (2048 : Int32))).toNatClampNeg) = (1 : Int32) →
   post (-1 : Int32) σ))))))))))
set_option maxHeartbeats 4000000 in
theorem sX1_spoil {G : GG_} {p : Program} {l : Launch} {e : Env} {R : Room} {s : State} {m : MethodId} {args : Array Value} {below : List Frame} {meth : Method} {c : Code} (Y : MX_ G p R s m args meth c cX1_spoil 4 RX1 (some Jvm.ClassFile.FieldType.int) 3 63 0 0 "spoil") {post : Int32 → Hp → Prop} {x0 : Nat} {x1 : Int32} {x2 : Int32} {σ : Hp} (hf : wX1_spoil x0 x1 x2 σ post) : WG_ G p l e R s m args below meth c (MQ below (QI_ G post) args s 0 0 (FR_ G)) BN_ 4 0 [(0, rv_ x0), (1, .int x1), (2, .int x2)] [] σ := by
  have ⟨X, hlk, hr, hRf, hRl, hRc, hnm⟩ := Y
  have ⟨⟨hx, hb, _, hown, hts⟩, _, _⟩ := X
  intro H locs cells slots ls hP hL hB hl
  obtain ⟨rfl, rfl⟩ := hB
  unfold wX1_spoil at hf
  refine p_aload_n hx hb dX1_spoil_0 rfl (lv_at hl 0 rfl) ?_
  refine lv_iload_n hx hb dX1_spoil_1 rfl (lv_at hl 1 rfl) ?_
  obtain ⟨ht1, hf⟩ := hf
  refine p_calli hL (p_runV X cf0_ hP ht1 (metX1_isIn l G _ _ _ _ X.2.2 hf) (cwV 1 hts (lw_V q1154 q1156 qs39 q85 q1157) rfl rfl rfl (by decide +kernel) ⟨Nat.le_trans (Nat.le_of_ble_eq_true rfl) hRf, Nat.le_trans (Nat.le_of_ble_eq_true rfl) hRl⟩) rfl hl.1 rfl (by decide) dX1_spoil_2 ⟨Nat.zero_le _, Nat.zero_le _⟩) (fun r2 σ₁ H locs hf hP hL => ?_)
  obtain ⟨e₁, hf⟩ := hf
  rw [e₁] at hP
  refine lv_if_eq (tgt := 25) hx hb dX1_spoil_5 (by decide) (fun c3 => ?_) (fun c3 => ?_)
  · have hf := hf.1 c3
    refine lv_iconst (v := (-1)) hx hb dX1_spoil_25 (by decide) ?_
    exact p_iret X hlk hP hL (Nat.le_refl _) (Nat.le_refl _) hr dX1_spoil_26 hf
  · have hf := hf.2 c3
    refine p_aload_n hx hb dX1_spoil_8 rfl (lv_at hl 0 rfl) ?_
    refine p_gR X cf0_ (k := 2) (by decide) rfl hP ht1 q628 (fun _ h => h) dX1_spoil_9 ?_
    obtain ⟨ht4, hf⟩ := hf
    refine p_gR X cf6_ (k := 2) (by decide) rfl hP ht4 q565 (fun _ h => h) dX1_spoil_12 ?_
    refine lv_iload_n hx hb dX1_spoil_15 rfl (lv_at hl 1 rfl) ?_
    refine lv_sipush (v := 2048) hx hb dX1_spoil_16 (by decide) ?_
    refine lv_idiv hx hb dX1_spoil_19 (by decide) ?_
    obtain ⟨ht5, hf⟩ := hf
    obtain ⟨hi6, hf⟩ := hf
    refine p_iald X hP ht5 hi6 dX1_spoil_20 ?_
    refine lv_iconst (v := 1) hx hb dX1_spoil_21 (by decide) ?_
    refine lv_icmp_eq (tgt := 27) hx hb dX1_spoil_22 (by decide) (fun c7 => ?_) (fun c7 => ?_)
    · have hf := hf.1 c7
      refine p_aload_n hx hb dX1_spoil_27 rfl (lv_at hl 0 rfl) ?_
      refine p_gR X cf0_ (k := 2) (by decide) rfl hP ht1 q628 (fun _ h => h) dX1_spoil_28 ?_
      refine lv_iload_n hx hb dX1_spoil_31 rfl (lv_at hl 1 rfl) ?_
      refine lv_i2l hx hb dX1_spoil_32 rfl ?_
      refine p_calli hL (p_runV X cf6_ hP ht4 (metX7_at l G _ _ _ _ X.2.2 hf) (cwV 1 hts (lw_V q1158 q967 q968 q104 q969) rfl rfl rfl (by decide +kernel) ⟨Nat.le_trans (Nat.le_of_ble_eq_true rfl) hRf, Nat.le_trans (Nat.le_of_ble_eq_true rfl) hRl⟩) rfl hl.1 rfl (by decide) dX1_spoil_33 ⟨Nat.zero_le _, Nat.zero_le _⟩) (fun r8 σ₁ H locs hf hP hL => ?_)
      obtain ⟨e₁, hf⟩ := hf
      rw [e₁] at hP
      refine p_istore_n (i := 3) hx hb dX1_spoil_36 rfl hl (by decide) ⟨⟨ne_ rfl, Or.inl (ne_ rfl)⟩, ⟨⟨ne_ rfl, Or.inl (ne_ rfl)⟩, ⟨⟨ne_ rfl, Or.inr rfl⟩, trivial⟩⟩⟩ (fun ls hl => ?_)
      refine p_aload_n hx hb dX1_spoil_37 rfl (lv_at hl 1 rfl) ?_
      refine p_gR X cf0_ (k := 2) (by decide) rfl hP ht1 q628 (fun _ h => h) dX1_spoil_38 ?_
      refine p_gR X cf6_ (k := 1) (by decide) rfl hP ht4 q562 (fun _ h => h) dX1_spoil_41 ?_
      refine lv_iload_n hx hb dX1_spoil_44 rfl (lv_at hl 2 rfl) ?_
      refine lv_iload_n hx hb dX1_spoil_45 rfl (lv_at hl 3 rfl) ?_
      refine lv_i2b hx hb dX1_spoil_46 rfl ?_
      obtain ⟨ht9, hf⟩ := hf
      obtain ⟨hlo10, hf⟩ := hf
      obtain ⟨hi11, hf⟩ := hf
      refine p_bast X hP hL ht9 hlo10 hi11 dX1_spoil_47 (fun H locs hP hL => ?_)
      refine p_nmP hP (fun σ12 hσ12 hP => ?_)
      have hf := hf σ12 hσ12
      have ht1 : tg_ σ12 x0 = 1 := by rw [hσ12]; exact ht1
      refine lv_iload_n hx hb dX1_spoil_48 rfl (lv_at hl 0 rfl) ?_
      exact p_iret X hlk hP hL (Nat.le_refl _) (Nat.le_refl _) hr dX1_spoil_49 hf
    · have hf := hf.2 c7
      refine lv_iconst (v := (-1)) hx hb dX1_spoil_25 (by decide) ?_
      exact p_iret X hlk hP hL (Nat.le_refl _) (Nat.le_refl _) hr dX1_spoil_26 hf
set_option maxHeartbeats 4000000 in
theorem metX1_spoil (l : Launch) (G : GG_) (x0 : Nat) (x1 : Int32) (x2 : Int32) (σ : Hp) (post : Int32 → Hp → Prop) (hG : GOK_ G) (hf : wX1_spoil x0 x1 x2 σ post) : Met l yX1_spoil (ws_ yX1_spoil cX1_spoil 4 (some Jvm.ClassFile.FieldType.int)) { frames := 3, cells := 0, slots := 0, locals := 63 } (PC_ G [rv_ x0, .int x1, .int x2] σ) (QI_ G post) 0 0 (FR_ G) := by
  refine Met.ofW (cc := cX1_spoil) (maxL := 4) (ret := (some Jvm.ClassFile.FieldType.int)) (by decide) rfl ?_
  intro p e s m args below meth c s₁ B hml hv
  obtain ⟨rfl, hP, hW⟩ := hv
  have hts := atoms_spec (ws := ws_ yX1_spoil cX1_spoil 4 (some Jvm.ClassFile.FieldType.int)) B.pre
  have hts : ∀ w ∈ lw_all, w.before _ s = true := fun w h => hts w (List.mem_cons_of_mem _ h)
  rw [lg_entry_eq]
  have hl := en_entry [rv_ x0, .int x1, .int x2] [1, 1, 1] (n := 4) (ca_r (ca_i (ca_i ca_n))) (by decide)
  exact sX1_spoil ⟨⟨⟨B.exec, B.bytes, hml, findClass_of_methodNamed B.named, hts⟩, hW, hG⟩, B.notSynchronized, B.returns, Nat.le_refl _, Nat.le_refl _, ⟨rfl, rfl⟩, (name_of_methodNamed B.named B.method).1⟩ hf _ _ _ _ _ hP (LO_nil G) ⟨rfl, rfl⟩ hl
abbrev cX1_writes : ByteArray := prog_1_method_26_code
def yX1_writes : MethodName := ⟨RX1, "writes", "()I"⟩
theorem dX1_writes_0 : decode cX1_writes 0 = .ok (.aload_n 0, 1) := by decide +kernel
theorem dX1_writes_1 : decode cX1_writes 1 = .ok (.getfield 39, 3) := by decide +kernel
theorem dX1_writes_4 : decode cX1_writes 4 = .ok (.getfield 271, 3) := by decide +kernel
theorem dX1_writes_7 : decode cX1_writes 7 = .ok (.ireturn, 1) := by decide +kernel
/-- WriteOnceDisc.writes()I -/
def wX1_writes (x0 : Nat) (σ : Hp) (post : Int32 → Prop) : Prop :=
(tg_ σ x0 = 1 ∧ (tg_ σ (fR_ σ 0 0 x0) = 2 ∧ post (fI_ σ 1 1 (fR_ σ 0 0 x0))))
set_option maxHeartbeats 4000000 in
theorem sX1_writes {G : GG_} {p : Program} {l : Launch} {e : Env} {R : Room} {s : State} {m : MethodId} {args : Array Value} {below : List Frame} {meth : Method} {c : Code} (Y : MX_ G p R s m args meth c cX1_writes 1 RX1 (some Jvm.ClassFile.FieldType.int) 1 20 0 0 "writes") {post : Int32 → Prop} {x0 : Nat} {σ : Hp} (hf : wX1_writes x0 σ post) : WG_ G p l e R s m args below meth c (MQ below (QI_ G (fun r τ => τ = σ ∧ post r)) args s 0 0 (FR_ G)) BN_ 1 0 [(0, rv_ x0)] [] σ := by
  have ⟨X, hlk, hr, hRf, hRl, hRc, hnm⟩ := Y
  have ⟨⟨hx, hb, _, hown, hts⟩, _, _⟩ := X
  intro H locs cells slots ls hP hL hB hl
  obtain ⟨rfl, rfl⟩ := hB
  unfold wX1_writes at hf
  refine p_aload_n hx hb dX1_writes_0 rfl (lv_at hl 0 rfl) ?_
  obtain ⟨ht1, hf⟩ := hf
  refine p_gR X cf0_ (k := 0) (by decide) rfl hP ht1 q626 (fun _ h => h) dX1_writes_1 ?_
  obtain ⟨ht2, hf⟩ := hf
  refine p_gI X cf1_ (k := 1) (by decide) rfl hP ht2 q130 (fun _ h => h) dX1_writes_4 ?_
  exact p_iret X hlk hP hL (Nat.le_refl _) (Nat.le_refl _) hr dX1_writes_7 ⟨rfl, hf⟩
set_option maxHeartbeats 4000000 in
theorem metX1_writes (l : Launch) (G : GG_) (x0 : Nat) (σ : Hp) (post : Int32 → Prop) (hG : GOK_ G) (hf : wX1_writes x0 σ post) : Met l yX1_writes (ws_ yX1_writes cX1_writes 1 (some Jvm.ClassFile.FieldType.int)) { frames := 1, cells := 0, slots := 0, locals := 20 } (PC_ G [rv_ x0] σ) (QI_ G (fun r τ => τ = σ ∧ post r)) 0 0 (FR_ G) := by
  refine Met.ofW (cc := cX1_writes) (maxL := 1) (ret := (some Jvm.ClassFile.FieldType.int)) (by decide) rfl ?_
  intro p e s m args below meth c s₁ B hml hv
  obtain ⟨rfl, hP, hW⟩ := hv
  have hts := atoms_spec (ws := ws_ yX1_writes cX1_writes 1 (some Jvm.ClassFile.FieldType.int)) B.pre
  have hts : ∀ w ∈ lw_all, w.before _ s = true := fun w h => hts w (List.mem_cons_of_mem _ h)
  rw [lg_entry_eq]
  have hl := en_entry [rv_ x0] [1] (n := 1) (ca_r ca_n) (by decide)
  exact sX1_writes ⟨⟨⟨B.exec, B.bytes, hml, findClass_of_methodNamed B.named, hts⟩, hW, hG⟩, B.notSynchronized, B.returns, Nat.le_refl _, Nat.le_refl _, ⟨rfl, rfl⟩, (name_of_methodNamed B.named B.method).1⟩ hf _ _ _ _ _ hP (LO_nil G) ⟨rfl, rfl⟩ hl
abbrev cX1_says : ByteArray := prog_1_method_28_code
def yX1_says : MethodName := ⟨RX1, "says", "(LWriteOnceDisc$Reader;I)I"⟩
theorem dX1_says_0 : decode cX1_says 0 = .ok (.aload_n 0, 1) := by decide +kernel
theorem dX1_says_1 : decode cX1_says 1 = .ok (.iload_n 1, 1) := by decide +kernel
theorem dX1_says_2 : decode cX1_says 2 = .ok (.i2l, 1) := by decide +kernel
theorem dX1_says_3 : decode cX1_says 3 = .ok (.invokevirtual 247, 3) := by decide +kernel
theorem dX1_says_6 : decode cX1_says 6 = .ok (.ifCond .eq 13, 3) := by decide +kernel
theorem dX1_says_9 : decode cX1_says 9 = .ok (.aload_n 0, 1) := by decide +kernel
theorem dX1_says_10 : decode cX1_says 10 = .ok (.getfield 226, 3) := by decide +kernel
theorem dX1_says_13 : decode cX1_says 13 = .ok (.invokevirtual 133, 3) := by decide +kernel
theorem dX1_says_16 : decode cX1_says 16 = .ok (.goto 9, 3) := by decide +kernel
theorem dX1_says_19 : decode cX1_says 19 = .ok (.iconst (-1), 1) := by decide +kernel
theorem dX1_says_20 : decode cX1_says 20 = .ok (.aload_n 0, 1) := by decide +kernel
theorem dX1_says_21 : decode cX1_says 21 = .ok (.getfield 277, 3) := by decide +kernel
theorem dX1_says_24 : decode cX1_says 24 = .ok (.isub, 1) := by decide +kernel
theorem dX1_says_25 : decode cX1_says 25 = .ok (.ireturn, 1) := by decide +kernel
/-- WriteOnceDisc.says(LWriteOnceDisc$Reader;I)I -/
def wX1_says (x0 : Nat) (x1 : Int32) (σ : Hp) (post : Int32 → Hp → Prop) : Prop :=
(tg_ σ x0 = 8 ∧ (∃ mc2 ms3 : Nat, (mc2 ≤ bc_ σ ∧ (ms3 ≤ bs_ σ ∧ (wX8_reads x0 (x1).toInt64 (bu_ σ mc2 ms3) (fun r6 σ7 => (∀ σ8, σ8 = bu_ σ7 (bc_ σ - mc2) (bs_ σ - ms3) → ((r6 = 0 →
  (tg_ σ8 x0 = 8 ∧ post ((-1 : Int32) - (fI_ σ8 7 8 x0)) σ8)) ∧
 (¬ r6 = 0 →
  (tg_ σ8 x0 = 8 ∧ (tg_ σ8 (fR_ σ8 7 0 x0) = 11 ∧ (wJ2_size (fR_ σ8 7 0 x0)  σ8 (fun r13 => post r13 σ8)))))))))))))
set_option maxHeartbeats 4000000 in
theorem sX1_says {G : GG_} {p : Program} {l : Launch} {e : Env} {R : Room} {s : State} {m : MethodId} {args : Array Value} {below : List Frame} {meth : Method} {c : Code} {mc ms : Nat} (Y : MX_ G p R s m args meth c cX1_says 2 RX1 (some Jvm.ClassFile.FieldType.int) 10 257 mc ms "says") {post : Int32 → Hp → Prop} {x0 : Nat} {x1 : Int32} {σ : Hp} (hf : wX1_says x0 x1 σ post) : WG_ G p l e R s m args below meth c (MQ below (QI_ G post) args s mc ms (FR_ G)) (BU_ R) 2 0 [(0, rv_ x0), (1, .int x1)] [] σ := by
  have ⟨X, hlk, hr, hRf, hRl, hRc, hnm⟩ := Y
  have ⟨⟨hx, hb, _, hown, hts⟩, _, _⟩ := X
  intro H locs cells slots ls hP hL hB hl
  unfold wX1_says at hf
  refine p_aload_n hx hb dX1_says_0 rfl (lv_at hl 0 rfl) ?_
  refine lv_iload_n hx hb dX1_says_1 rfl (lv_at hl 1 rfl) ?_
  refine lv_i2l hx hb dX1_says_2 rfl ?_
  obtain ⟨ht1, hf⟩ := hf
  obtain ⟨mc2, ms3, hf⟩ := hf
  obtain ⟨hb4, hf⟩ := hf
  obtain ⟨hb5, hf⟩ := hf
  refine p_calli hL (p_runV X cf7_ (Pic_bu hP mc2 ms3) ht1 (metX8_reads l G _ _ _ _ _ _ X.2.2 hf) (cwV 1 hts (lw_V q986 q987 q988 q105 q989) rfl rfl rfl (by decide +kernel) ⟨Nat.le_trans (Nat.le_of_ble_eq_true rfl) hRf, Nat.le_trans (Nat.le_of_ble_eq_true rfl) hRl⟩) rfl hl.1 rfl (by decide) dX1_says_3 (BU_call hB hb4 hb5)) (fun r6 σ7 H locs hf hP hL => ?_)
  have hB := BU_back (τ := σ7) hB hb4 hb5
  have hP := Pic_bu hP (bc_ σ - mc2) (bs_ σ - ms3)
  refine p_nmPB hP hB (fun σ8 hσ8 hP hB => ?_)
  have hf := hf σ8 hσ8
  refine lv_if_eq (tgt := 19) hx hb dX1_says_6 (by decide) (fun c9 => ?_) (fun c9 => ?_)
  · have hf := hf.1 c9
    refine lv_iconst (v := (-1)) hx hb dX1_says_19 (by decide) ?_
    refine p_aload_n hx hb dX1_says_20 rfl (lv_at hl 0 rfl) ?_
    obtain ⟨ht10, hf⟩ := hf
    refine p_gI X cf7_ (k := 8) (by decide) rfl hP ht10 q600 (fun _ h => h) dX1_says_21 ?_
    refine lv_isub hx hb dX1_says_24 ?_
    exact p_iret X hlk hP hL (BU_le hB hRc).1 (BU_le hB hRc).2 hr dX1_says_25 hf
  · have hf := hf.2 c9
    refine p_aload_n hx hb dX1_says_9 rfl (lv_at hl 0 rfl) ?_
    obtain ⟨ht11, hf⟩ := hf
    refine p_gR X cf7_ (k := 0) (by decide) rfl hP ht11 q591 (fun _ h => h) dX1_says_10 ?_
    obtain ⟨ht12, hf⟩ := hf
    refine p_calli hL (p_runV X cf10_ hP ht12 (metJ2_size l G _ _ _ X.2.2 hf) (cwV 0 hts (lw_V q753 q720 q721 q90 q722) rfl rfl rfl (by decide +kernel) ⟨Nat.le_trans (Nat.le_of_ble_eq_true rfl) hRf, Nat.le_trans (Nat.le_of_ble_eq_true rfl) hRl⟩) rfl hl.1 rfl (by decide) dX1_says_13 (BU_call hB (Nat.zero_le _) (Nat.zero_le _))) (fun r13 σ₁ H locs hf hP hL => ?_)
    obtain ⟨e₁, hf⟩ := hf
    rw [e₁] at hP
    refine lv_goto (tgt := 25) hx hb dX1_says_16 (by decide) ?_
    exact p_iret X hlk hP hL (BU_le hB hRc).1 (BU_le hB hRc).2 hr dX1_says_25 hf
set_option maxHeartbeats 4000000 in
theorem metX1_says (l : Launch) (G : GG_) (mc ms : Nat) (x0 : Nat) (x1 : Int32) (σ : Hp) (post : Int32 → Hp → Prop) (hG : GOK_ G) (hf : wX1_says x0 x1 (bu_ σ mc ms) post) : Met l yX1_says (ws_ yX1_says cX1_says 2 (some Jvm.ClassFile.FieldType.int)) { frames := 10, cells := mc, slots := ms, locals := 257 } (PC_ G [rv_ x0, .int x1] (bu_ σ mc ms)) (QI_ G post) mc ms (FR_ G) := by
  refine Met.ofW (cc := cX1_says) (maxL := 2) (ret := (some Jvm.ClassFile.FieldType.int)) (by decide) rfl ?_
  intro p e s m args below meth c s₁ B hml hv
  obtain ⟨rfl, hP, hW⟩ := hv
  have hts := atoms_spec (ws := ws_ yX1_says cX1_says 2 (some Jvm.ClassFile.FieldType.int)) B.pre
  have hts : ∀ w ∈ lw_all, w.before _ s = true := fun w h => hts w (List.mem_cons_of_mem _ h)
  rw [lg_entry_eq]
  have hl := en_entry [rv_ x0, .int x1] [1, 1] (n := 2) (ca_r (ca_i ca_n)) (by decide)
  exact sX1_says ⟨⟨⟨B.exec, B.bytes, hml, findClass_of_methodNamed B.named, hts⟩, hW, hG⟩, B.notSynchronized, B.returns, Nat.le_refl _, Nat.le_refl _, ⟨rfl, rfl⟩, (name_of_methodNamed B.named B.method).1⟩ hf _ _ _ _ _ hP (LO_nil G) (BU_in ⟨rfl, rfl⟩) hl
abbrev cX1_open : ByteArray := prog_1_method_30_code
def yX1_open : MethodName := ⟨RX1, "open", "(I)I"⟩
theorem dX1_open_0 : decode cX1_open 0 = .ok (.aload_n 0, 1) := by decide +kernel
theorem dX1_open_1 : decode cX1_open 1 = .ok (.invokevirtual 237, 3) := by decide +kernel
theorem dX1_open_4 : decode cX1_open 4 = .ok (.astore_n 2, 1) := by decide +kernel
theorem dX1_open_5 : decode cX1_open 5 = .ok (.iload_n 1, 1) := by decide +kernel
theorem dX1_open_6 : decode cX1_open 6 = .ok (.iconst 0, 1) := by decide +kernel
theorem dX1_open_7 : decode cX1_open 7 = .ok (.aload_n 0, 1) := by decide +kernel
theorem dX1_open_8 : decode cX1_open 8 = .ok (.getfield 223, 3) := by decide +kernel
theorem dX1_open_11 : decode cX1_open 11 = .ok (.iconst 1, 1) := by decide +kernel
theorem dX1_open_12 : decode cX1_open 12 = .ok (.isub, 1) := by decide +kernel
theorem dX1_open_13 : decode cX1_open 13 = .ok (.invokestatic 94, 3) := by decide +kernel
theorem dX1_open_16 : decode cX1_open 16 = .ok (.ifCond .ne 7, 3) := by decide +kernel
theorem dX1_open_19 : decode cX1_open 19 = .ok (.ldc_w 287, 3) := by decide +kernel
theorem dX1_open_22 : decode cX1_open 22 = .ok (.ireturn, 1) := by decide +kernel
theorem dX1_open_23 : decode cX1_open 23 = .ok (.aload_n 0, 1) := by decide +kernel
theorem dX1_open_24 : decode cX1_open 24 = .ok (.getfield 76, 3) := by decide +kernel
theorem dX1_open_27 : decode cX1_open 27 = .ok (.aload_n 0, 1) := by decide +kernel
theorem dX1_open_28 : decode cX1_open 28 = .ok (.aload_n 2, 1) := by decide +kernel
theorem dX1_open_29 : decode cX1_open 29 = .ok (.iload_n 1, 1) := by decide +kernel
theorem dX1_open_30 : decode cX1_open 30 = .ok (.iaload, 1) := by decide +kernel
theorem dX1_open_31 : decode cX1_open 31 = .ok (.invokevirtual 244, 3) := by decide +kernel
theorem dX1_open_34 : decode cX1_open 34 = .ok (.invokestatic 284, 3) := by decide +kernel
theorem dX1_open_37 : decode cX1_open 37 = .ok (.istore_n 3, 1) := by decide +kernel
theorem dX1_open_38 : decode cX1_open 38 = .ok (.iload_n 3, 1) := by decide +kernel
theorem dX1_open_39 : decode cX1_open 39 = .ok (.ifCond .ge 13, 3) := by decide +kernel
theorem dX1_open_42 : decode cX1_open 42 = .ok (.aload_n 0, 1) := by decide +kernel
theorem dX1_open_43 : decode cX1_open 43 = .ok (.getfield 76, 3) := by decide +kernel
theorem dX1_open_46 : decode cX1_open 46 = .ok (.getfield 226, 3) := by decide +kernel
theorem dX1_open_49 : decode cX1_open 49 = .ok (.invokevirtual 288, 3) := by decide +kernel
theorem dX1_open_52 : decode cX1_open 52 = .ok (.iload_n 3, 1) := by decide +kernel
theorem dX1_open_53 : decode cX1_open 53 = .ok (.ireturn, 1) := by decide +kernel
/-- WriteOnceDisc.open(I)I -/
def wX1_open (x0 : Nat) (x1 : Int32) (σ : Hp) (post : Int32 → Hp → Prop) : Prop :=
(tg_ σ x0 = 1 ∧ (wX1_marks x0  σ (fun r2 σ3 => (∀ σ4, σ4 = bu_ σ3 (bc_ σ) (bs_ σ) → (tg_ σ4 x0 = 1 ∧ (wX1_in x1 (0 : Int32) ((fI_ σ4 0 10 x0) - (1 : Int32)) σ4 (fun r6 => ((¬ r6 = 0 →
  (tg_ σ4 r2 = 102 ∧ (vp_in x1 (ln_ σ4 r2) ∧ (wX1_base x0 (aI_ σ4 r2 (x1).toNatClampNeg) σ4 (fun r10 => (∃ mc11 ms12 : Nat, (mc11 ≤ bc_ σ4 ∧ (ms12 ≤ bs_ σ4 ∧ (wX1_says (fR_ σ4 0 5 x0) r10 (bu_ σ4 mc11 ms12) (fun r15 σ16 => (∀ σ17, σ17 = bu_ σ16 (bc_ σ4 - mc11) (bs_ σ4 - ms12) → ((0 ≤ r15 →
   post r15 σ17) ∧
  (¬ 0 ≤ r15 →
   (tg_ σ17 x0 = 1 ∧ (tg_ σ17 (fR_ σ17 0 5 x0) = 8 ∧ (tg_ σ17 (fR_ σ17 7 0 (fR_ σ17 0 5 x0)) = 11 ∧ (wJ2_clear (fR_ σ17 7 0 (fR_ σ17 0 5 x0))  σ17 (fun σ22 => (∀ σ23, σ23 = bu_ σ22 (bc_ σ17) (bs_ σ17) → post r15 σ23))))))))))))))))))) ∧
 (r6 = 0 →
  post (-1000000 : Int32) σ4)))))))))
set_option maxHeartbeats 4000000 in
theorem sX1_open {G : GG_} {p : Program} {l : Launch} {e : Env} {R : Room} {s : State} {m : MethodId} {args : Array Value} {below : List Frame} {meth : Method} {c : Code} {mc ms : Nat} (Y : MX_ G p R s m args meth c cX1_open 4 RX1 (some Jvm.ClassFile.FieldType.int) 11 278 mc ms "open") {post : Int32 → Hp → Prop} {x0 : Nat} {x1 : Int32} {σ : Hp} (hf : wX1_open x0 x1 σ post) : WG_ G p l e R s m args below meth c (MQ below (QI_ G post) args s mc ms (FR_ G)) (BU_ R) 4 0 [(0, rv_ x0), (1, .int x1)] [] σ := by
  have ⟨X, hlk, hr, hRf, hRl, hRc, hnm⟩ := Y
  have ⟨⟨hx, hb, _, hown, hts⟩, _, _⟩ := X
  intro H locs cells slots ls hP hL hB hl
  unfold wX1_open at hf
  refine p_aload_n hx hb dX1_open_0 rfl (lv_at hl 0 rfl) ?_
  obtain ⟨ht1, hf⟩ := hf
  refine p_callr hL (p_runV X cf0_ hP ht1 (metX1_marks l G _ _ _ X.2.2 hf) (cwV 0 hts (lw_V q955 q957 qs19 q85 q958) rfl rfl rfl (by decide +kernel) ⟨Nat.le_trans (Nat.le_of_ble_eq_true rfl) hRf, Nat.le_trans (Nat.le_of_ble_eq_true rfl) hRl⟩) rfl hl.1 rfl (by decide) dX1_open_1 (BU_call hB (Nat.zero_le _) (Nat.zero_le _))) (fun r2 σ3 H locs hf hP hL => ?_)
  have hB := BU_keep (τ := σ3) hB
  have hP := Pic_bu hP (bc_ σ) (bs_ σ)
  refine p_nmPB hP hB (fun σ4 hσ4 hP hB => ?_)
  have hf := hf σ4 hσ4
  refine p_astore_n (i := 2) hx hb dX1_open_4 rfl hl (by decide) ⟨⟨ne_ rfl, Or.inl (ne_ rfl)⟩, ⟨⟨ne_ rfl, Or.inr rfl⟩, trivial⟩⟩ (fun ls hl => ?_)
  refine lv_iload_n hx hb dX1_open_5 rfl (lv_at hl 2 rfl) ?_
  refine lv_iconst (v := 0) hx hb dX1_open_6 (by decide) ?_
  refine p_aload_n hx hb dX1_open_7 rfl (lv_at hl 1 rfl) ?_
  obtain ⟨ht5, hf⟩ := hf
  refine p_gI X cf0_ (k := 10) (by decide) rfl hP ht5 q636 (fun _ h => h) dX1_open_8 ?_
  refine lv_iconst (v := 1) hx hb dX1_open_11 (by decide) ?_
  refine lv_isub hx hb dX1_open_12 ?_
  refine p_calli hL (p_runS X hP (metX1_in l G _ _ _ _ _ X.2.2 hf) (va_cwS 3 hts (lw_S q664 q665 q85 q666) rfl rfl rfl (by decide +kernel) ⟨Nat.le_trans (Nat.le_of_ble_eq_true rfl) hRf, Nat.le_trans (Nat.le_of_ble_eq_true rfl) hRl⟩) rfl hl.1 rfl (by decide) dX1_open_13 (BU_call hB (Nat.zero_le _) (Nat.zero_le _))) (fun r6 σ₁ H locs hf hP hL => ?_)
  obtain ⟨e₁, hf⟩ := hf
  rw [e₁] at hP
  refine lv_if_ne (tgt := 23) hx hb dX1_open_16 (by decide) (fun c7 => ?_) (fun c7 => ?_)
  · have hf := hf.1 c7
    refine p_aload_n hx hb dX1_open_23 rfl (lv_at hl 1 rfl) ?_
    refine p_gR X cf0_ (k := 5) (by decide) rfl hP ht5 q631 (fun _ h => h) dX1_open_24 ?_
    refine p_aload_n hx hb dX1_open_27 rfl (lv_at hl 1 rfl) ?_
    refine p_aload_n hx hb dX1_open_28 rfl (lv_at hl 0 rfl) ?_
    refine lv_iload_n hx hb dX1_open_29 rfl (lv_at hl 2 rfl) ?_
    obtain ⟨ht8, hf⟩ := hf
    obtain ⟨hi9, hf⟩ := hf
    refine p_iald X hP ht8 hi9 dX1_open_30 ?_
    refine p_calli hL (p_runV X cf0_ hP ht5 (metX1_base l G _ _ _ _ X.2.2 hf) (cwV 1 hts (lw_V q982 q984 qs20 q85 q985) rfl rfl rfl (by decide +kernel) ⟨Nat.le_trans (Nat.le_of_ble_eq_true rfl) hRf, Nat.le_trans (Nat.le_of_ble_eq_true rfl) hRl⟩) rfl hl.1 rfl (by rw [(ca_r ca_n)]; decide) dX1_open_31 (BU_call hB (Nat.zero_le _) (Nat.zero_le _))) (fun r10 σ₁ H locs hf hP hL => ?_)
    obtain ⟨e₁, hf⟩ := hf
    rw [e₁] at hP
    obtain ⟨mc11, ms12, hf⟩ := hf
    obtain ⟨hb13, hf⟩ := hf
    obtain ⟨hb14, hf⟩ := hf
    refine p_calli hL (p_runS X (Pic_bu hP mc11 ms12) (metX1_says l G _ _ _ _ _ _ X.2.2 hf) (va_cwS 2 hts (lw_S q1172 q1173 q85 q1174) rfl rfl rfl (by decide +kernel) ⟨Nat.le_trans (Nat.le_of_ble_eq_true rfl) hRf, Nat.le_trans (Nat.le_of_ble_eq_true rfl) hRl⟩) rfl hl.1 rfl (by decide) dX1_open_34 (BU_call hB hb13 hb14)) (fun r15 σ16 H locs hf hP hL => ?_)
    have hB := BU_back (τ := σ16) hB hb13 hb14
    have hP := Pic_bu hP (bc_ σ4 - mc11) (bs_ σ4 - ms12)
    refine p_nmPB hP hB (fun σ17 hσ17 hP hB => ?_)
    have hf := hf σ17 hσ17
    have hl := lv_sub hl [1] rfl
    refine p_istore_n (i := 3) hx hb dX1_open_37 rfl hl (by decide) ⟨⟨ne_ rfl, Or.inl (ne_ rfl)⟩, trivial⟩ (fun ls hl => ?_)
    refine lv_iload_n hx hb dX1_open_38 rfl (lv_at hl 0 rfl) ?_
    refine lv_if_ge (tgt := 52) hx hb dX1_open_39 (by decide) (fun c18 => ?_) (fun c18 => ?_)
    · have hf := hf.1 c18
      refine lv_iload_n hx hb dX1_open_52 rfl (lv_at hl 0 rfl) ?_
      exact p_iret X hlk hP hL (BU_le hB hRc).1 (BU_le hB hRc).2 hr dX1_open_53 hf
    · have hf := hf.2 c18
      refine p_aload_n hx hb dX1_open_42 rfl (lv_at hl 1 rfl) ?_
      obtain ⟨ht19, hf⟩ := hf
      refine p_gR X cf0_ (k := 5) (by decide) rfl hP ht19 q631 (fun _ h => h) dX1_open_43 ?_
      obtain ⟨ht20, hf⟩ := hf
      refine p_gR X cf7_ (k := 0) (by decide) rfl hP ht20 q591 (fun _ h => h) dX1_open_46 ?_
      obtain ⟨ht21, hf⟩ := hf
      refine p_callv hL (p_runV X cf10_ hP ht21 (metJ2_clear l G _ _ _ X.2.2 hf) (cwV 0 hts (lw_V q1175 q850 q851 q90 q852) rfl rfl rfl (by decide +kernel) ⟨Nat.le_trans (Nat.le_of_ble_eq_true rfl) hRf, Nat.le_trans (Nat.le_of_ble_eq_true rfl) hRl⟩) rfl hl.1 rfl (by decide) dX1_open_49 (BU_call hB (Nat.zero_le _) (Nat.zero_le _))) (fun σ22 H locs hf hP hL => ?_)
      have hB := BU_keep (τ := σ22) hB
      have hP := Pic_bu hP (bc_ σ17) (bs_ σ17)
      refine p_nmPB hP hB (fun σ23 hσ23 hP hB => ?_)
      have hf := hf σ23 hσ23
      refine lv_iload_n hx hb dX1_open_52 rfl (lv_at hl 0 rfl) ?_
      exact p_iret X hlk hP hL (BU_le hB hRc).1 (BU_le hB hRc).2 hr dX1_open_53 hf
  · have hf := hf.2 c7
    refine lv_ldcw hx hb hown (hts _ q1171) dX1_open_19 ?_
    exact p_iret X hlk hP hL (BU_le hB hRc).1 (BU_le hB hRc).2 hr dX1_open_22 hf
set_option maxHeartbeats 4000000 in
theorem metX1_open (l : Launch) (G : GG_) (mc ms : Nat) (x0 : Nat) (x1 : Int32) (σ : Hp) (post : Int32 → Hp → Prop) (hG : GOK_ G) (hf : wX1_open x0 x1 (bu_ σ mc ms) post) : Met l yX1_open (ws_ yX1_open cX1_open 4 (some Jvm.ClassFile.FieldType.int)) { frames := 11, cells := mc, slots := ms, locals := 278 } (PC_ G [rv_ x0, .int x1] (bu_ σ mc ms)) (QI_ G post) mc ms (FR_ G) := by
  refine Met.ofW (cc := cX1_open) (maxL := 4) (ret := (some Jvm.ClassFile.FieldType.int)) (by decide) rfl ?_
  intro p e s m args below meth c s₁ B hml hv
  obtain ⟨rfl, hP, hW⟩ := hv
  have hts := atoms_spec (ws := ws_ yX1_open cX1_open 4 (some Jvm.ClassFile.FieldType.int)) B.pre
  have hts : ∀ w ∈ lw_all, w.before _ s = true := fun w h => hts w (List.mem_cons_of_mem _ h)
  rw [lg_entry_eq]
  have hl := en_entry [rv_ x0, .int x1] [1, 1] (n := 4) (ca_r (ca_i ca_n)) (by decide)
  exact sX1_open ⟨⟨⟨B.exec, B.bytes, hml, findClass_of_methodNamed B.named, hts⟩, hW, hG⟩, B.notSynchronized, B.returns, Nat.le_refl _, Nat.le_refl _, ⟨rfl, rfl⟩, (name_of_methodNamed B.named B.method).1⟩ hf _ _ _ _ _ hP (LO_nil G) (BU_in ⟨rfl, rfl⟩) hl
def RX0 : String := "WriteOnceDiscLaw"
abbrev cX0_cell : ByteArray := method_2_code
def yX0_cell : MethodName := ⟨RX0, "cell", "([II)I"⟩
theorem dX0_cell_0 : decode cX0_cell 0 = .ok (.iload_n 1, 1) := by decide +kernel
theorem dX0_cell_1 : decode cX0_cell 1 = .ok (.aload_n 0, 1) := by decide +kernel
theorem dX0_cell_2 : decode cX0_cell 2 = .ok (.arraylength, 1) := by decide +kernel
theorem dX0_cell_3 : decode cX0_cell 3 = .ok (.if_icmp .ge 9, 3) := by decide +kernel
theorem dX0_cell_6 : decode cX0_cell 6 = .ok (.aload_n 0, 1) := by decide +kernel
theorem dX0_cell_7 : decode cX0_cell 7 = .ok (.iload_n 1, 1) := by decide +kernel
theorem dX0_cell_8 : decode cX0_cell 8 = .ok (.iaload, 1) := by decide +kernel
theorem dX0_cell_9 : decode cX0_cell 9 = .ok (.goto 4, 3) := by decide +kernel
theorem dX0_cell_12 : decode cX0_cell 12 = .ok (.iconst 0, 1) := by decide +kernel
theorem dX0_cell_13 : decode cX0_cell 13 = .ok (.ireturn, 1) := by decide +kernel
/-- WriteOnceDiscLaw.cell([II)I -/
def wX0_cell (x0 : Nat) (x1 : Int32) (σ : Hp) (post : Int32 → Prop) : Prop :=
(tg_ σ x0 = 102 ∧ (((nI (ln_ σ x0)) ≤ x1 →
  post (0 : Int32)) ∧
 (¬ (nI (ln_ σ x0)) ≤ x1 →
  (vp_in x1 (ln_ σ x0) ∧ post (aI_ σ x0 (x1).toNatClampNeg)))))
set_option maxHeartbeats 4000000 in
theorem sX0_cell {G : GG_} {p : Program} {l : Launch} {e : Env} {R : Room} {s : State} {m : MethodId} {args : Array Value} {below : List Frame} {meth : Method} {c : Code} (Y : MX_ G p R s m args meth c cX0_cell 2 RX0 (some Jvm.ClassFile.FieldType.int) 1 20 0 0 "cell") {post : Int32 → Prop} {x0 : Nat} {x1 : Int32} {σ : Hp} (hf : wX0_cell x0 x1 σ post) : WG_ G p l e R s m args below meth c (MQ below (QI_ G (fun r τ => τ = σ ∧ post r)) args s 0 0 (FR_ G)) BN_ 2 0 [(0, rv_ x0), (1, .int x1)] [] σ := by
  have ⟨X, hlk, hr, hRf, hRl, hRc, hnm⟩ := Y
  have ⟨⟨hx, hb, _, hown, hts⟩, _, _⟩ := X
  intro H locs cells slots ls hP hL hB hl
  obtain ⟨rfl, rfl⟩ := hB
  unfold wX0_cell at hf
  refine lv_iload_n hx hb dX0_cell_0 rfl (lv_at hl 1 rfl) ?_
  refine p_aload_n hx hb dX0_cell_1 rfl (lv_at hl 0 rfl) ?_
  obtain ⟨ht1, hf⟩ := hf
  refine p_alen X hP ht1 (by decide) (by decide) dX0_cell_2 ?_
  refine lv_icmp_ge (tgt := 12) hx hb dX0_cell_3 (by decide) (fun c2 => ?_) (fun c2 => ?_)
  · have hf := hf.1 c2
    refine lv_iconst (v := 0) hx hb dX0_cell_12 (by decide) ?_
    exact p_iret X hlk hP hL (Nat.le_refl _) (Nat.le_refl _) hr dX0_cell_13 ⟨rfl, hf⟩
  · have hf := hf.2 c2
    refine p_aload_n hx hb dX0_cell_6 rfl (lv_at hl 0 rfl) ?_
    refine lv_iload_n hx hb dX0_cell_7 rfl (lv_at hl 1 rfl) ?_
    obtain ⟨hi3, hf⟩ := hf
    refine p_iald X hP ht1 hi3 dX0_cell_8 ?_
    refine lv_goto (tgt := 13) hx hb dX0_cell_9 (by decide) ?_
    exact p_iret X hlk hP hL (Nat.le_refl _) (Nat.le_refl _) hr dX0_cell_13 ⟨rfl, hf⟩
set_option maxHeartbeats 4000000 in
theorem metX0_cell (l : Launch) (G : GG_) (x0 : Nat) (x1 : Int32) (σ : Hp) (post : Int32 → Prop) (hG : GOK_ G) (hf : wX0_cell x0 x1 σ post) : Met l yX0_cell (ws_ yX0_cell cX0_cell 2 (some Jvm.ClassFile.FieldType.int)) { frames := 1, cells := 0, slots := 0, locals := 20 } (PC_ G [rv_ x0, .int x1] σ) (QI_ G (fun r τ => τ = σ ∧ post r)) 0 0 (FR_ G) := by
  refine Met.ofW (cc := cX0_cell) (maxL := 2) (ret := (some Jvm.ClassFile.FieldType.int)) (by decide) rfl ?_
  intro p e s m args below meth c s₁ B hml hv
  obtain ⟨rfl, hP, hW⟩ := hv
  have hts := atoms_spec (ws := ws_ yX0_cell cX0_cell 2 (some Jvm.ClassFile.FieldType.int)) B.pre
  have hts : ∀ w ∈ lw_all, w.before _ s = true := fun w h => hts w (List.mem_cons_of_mem _ h)
  rw [lg_entry_eq]
  have hl := en_entry [rv_ x0, .int x1] [1, 1] (n := 2) (ca_r (ca_i ca_n)) (by decide)
  exact sX0_cell ⟨⟨⟨B.exec, B.bytes, hml, findClass_of_methodNamed B.named, hts⟩, hW, hG⟩, B.notSynchronized, B.returns, Nat.le_refl _, Nat.le_refl _, ⟨rfl, rfl⟩, (name_of_methodNamed B.named B.method).1⟩ hf _ _ _ _ _ hP (LO_nil G) ⟨rfl, rfl⟩ hl
