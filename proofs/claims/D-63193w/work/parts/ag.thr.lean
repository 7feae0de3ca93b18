set_option maxRecDepth 100000
/-- openNode, where it throws -/
def wTX1_openNode (x0 : Nat) (x1 : Int32) (σ : Hp) (post : Hp → Prop) : Prop :=
(tg_ σ x0 = 1 ∧ (tg_ σ (fR_ σ 0 5 x0) = 8 ∧ (tg_ σ (fR_ σ 7 0 (fR_ σ 0 5 x0)) = 11 ∧ (wJ2_size (fR_ σ 7 0 (fR_ σ 0 5 x0))  σ (fun r4 => (wX1_in x1 (0 : Int32) (r4 - (1 : Int32)) σ (fun r5 => ((∃ mc6 ms7 : Nat, mc6 ≤ bc_ σ ∧ ms7 ≤ bs_ σ ∧ wTX1_need r5 (bu_ σ mc6 ms7) (fun τ10 => ∀ τ₂, τ₂ = bu_ τ10 (bc_ σ - mc6) (bs_ σ - ms7) → post τ₂)) ∨ (wX1_need r5 σ ((wJ2_get (fR_ σ 7 0 (fR_ σ 0 5 x0)) x1 σ (fun r11 => ((r11 = 0 ∨ tg_ σ r11 = 10) ∧ False)))))))))))))
set_option maxHeartbeats 4000000 in
theorem sTX1_openNode {G : GG_} {p : Program} {l : Launch} {e : Env} {R : Room} {s : State} {m : MethodId} {args : Array Value} {below : List Frame} {meth : Method} {c : Code} {mc ms : Nat} (Y : (MX_ G p R s m args meth c cX1_openNode 2 RX1 (some ((Jvm.ClassFile.FieldType.object "WriteOnceDisc$Found"))) 7 120 mc ms "openNode") ∧ l.flags = pinnedFlags ++ [noTraceFlag] ∧ ∀ c1, meth.code = some c1 → c1.exceptionTable.isEmpty = true) {post : Hp → Prop} {x0 : Nat} {x1 : Int32} {σ : Hp} (hf : wTX1_openNode x0 x1 σ post) : WG_ G p l e R s m args below meth c (MQT below (QT_ G post) args s mc ms (FR_ G)) (BU_ R) 2 0 [(0, rv_ x0), (1, .int x1)] [] σ := by
  have ⟨⟨X, hlk, hr, hRf, hRl, hRc, hnm⟩, hfl, ho⟩ := Y
  have ⟨⟨hx, hb, _, hown, hts⟩, _, _⟩ := X
  intro H locs cells slots ls hP hL hB hl
  unfold wTX1_openNode at hf
  refine lv_iload_n hx hb dX1_openNode_0 rfl (lv_at hl 1 rfl) ?_
  refine lv_iconst (v := 0) hx hb dX1_openNode_1 (by decide) ?_
  refine p_aload_n hx hb dX1_openNode_2 rfl (lv_at hl 0 rfl) ?_
  obtain ⟨ht1, hf⟩ := hf
  refine p_gR X cf0_ (k := 5) (by decide) rfl hP ht1 q631 (fun _ h => h) dX1_openNode_3 ?_
  obtain ⟨ht2, hf⟩ := hf
  refine p_gR X cf7_ (k := 0) (by decide) rfl hP ht2 q591 (fun _ h => h) dX1_openNode_6 ?_
  obtain ⟨ht3, hf⟩ := hf
  refine p_calli hL (p_runV X cf10_ hP ht3 (metJ2_size l G _ _ _ X.2.2 hf) (cwV 0 hts (lw_V q753 q720 q721 q90 q722) rfl rfl rfl (by decide +kernel) ⟨Nat.le_trans (Nat.le_of_ble_eq_true rfl) hRf, Nat.le_trans (Nat.le_of_ble_eq_true rfl) hRl⟩) rfl hl.1 rfl (by rw [(ca_i (ca_i ca_n))]; decide) dX1_openNode_9 (BU_call hB (Nat.zero_le _) (Nat.zero_le _))) (fun r4 σ₁ H locs hf hP hL => ?_)
  obtain ⟨e₁, hf⟩ := hf
  rw [e₁] at hP
  refine lv_iconst (v := 1) hx hb dX1_openNode_12 (by decide) ?_
  refine lv_isub hx hb dX1_openNode_13 ?_
  refine p_calli hL (p_runS X hP (metX1_in l G _ _ _ _ _ X.2.2 hf) (va_cwS 3 hts (lw_S q664 q665 q85 q666) rfl rfl rfl (by decide +kernel) ⟨Nat.le_trans (Nat.le_of_ble_eq_true rfl) hRf, Nat.le_trans (Nat.le_of_ble_eq_true rfl) hRl⟩) rfl hl.1 rfl (by decide) dX1_openNode_14 (BU_call hB (Nat.zero_le _) (Nat.zero_le _))) (fun r5 σ₁ H locs hf hP hL => ?_)
  obtain ⟨e₁, hf⟩ := hf
  rw [e₁] at hP
  rcases hf with hf | hf
  · obtain ⟨mc6, ms7, hb8, hb9, hf⟩ := hf
    exact p_thr hL hlk ho (p_runST X (Pic_bu hP mc6 ms7) (metTX1_need l G _ _ _ _ _ hfl X.2.2 hf) (va_cwS 1 hts (lw_S q1187 q1188 q85 q1189) rfl rfl rfl (by decide +kernel) ⟨Nat.le_trans (Nat.le_of_ble_eq_true rfl) hRf, Nat.le_trans (Nat.le_of_ble_eq_true rfl) hRl⟩) rfl hl.1 rfl (by decide) dX1_openNode_17 (BU_call hB hb8 hb9)) (BU_callT hB hb8 hb9 hRc).1 (BU_callT hB hb8 hb9 hRc).2 (fun τ h => ⟨_, h _ rfl, fun K hK => Pic_bu hK _ _⟩)
  refine p_callv hL (p_runS X hP (metX1_need l G _ _ _ X.2.2 hf) (va_cwS 1 hts (lw_S q1187 q1188 q85 q1189) rfl rfl rfl (by decide +kernel) ⟨Nat.le_trans (Nat.le_of_ble_eq_true rfl) hRf, Nat.le_trans (Nat.le_of_ble_eq_true rfl) hRl⟩) rfl hl.1 rfl (by decide) dX1_openNode_17 (BU_call hB (Nat.zero_le _) (Nat.zero_le _))) (fun σ₁ H locs hf hP hL => ?_)
  obtain ⟨e₁, hf⟩ := hf
  rw [e₁] at hP
  refine p_aload_n hx hb dX1_openNode_20 rfl (lv_at hl 0 rfl) ?_
  refine p_gR X cf0_ (k := 5) (by decide) rfl hP ht1 q631 (fun _ h => h) dX1_openNode_21 ?_
  refine p_gR X cf7_ (k := 0) (by decide) rfl hP ht2 q591 (fun _ h => h) dX1_openNode_24 ?_
  refine lv_iload_n hx hb dX1_openNode_27 rfl (lv_at hl 1 rfl) ?_
  refine p_callr hL (p_runV X cf10_ hP ht3 (metJ2_get l G _ _ _ _ X.2.2 hf) (cwV 1 hts (lw_V q776 q724 q725 q90 q726) rfl rfl rfl (by decide +kernel) ⟨Nat.le_trans (Nat.le_of_ble_eq_true rfl) hRf, Nat.le_trans (Nat.le_of_ble_eq_true rfl) hRl⟩) rfl hl.1 rfl (by decide) dX1_openNode_28 (BU_call hB (Nat.zero_le _) (Nat.zero_le _))) (fun r11 σ₁ H locs hf hP hL => ?_)
  obtain ⟨e₁, hf⟩ := hf
  rw [e₁] at hP
  obtain ⟨hc12, hf⟩ := hf
  refine p_cast X cf9_ hP hc12 q1137 dX1_openNode_31 ?_
  exact hf.elim
set_option maxHeartbeats 4000000 in
theorem metTX1_openNode (l : Launch) (G : GG_) (mc ms : Nat) (x0 : Nat) (x1 : Int32) (σ : Hp) (post : Hp → Prop) (hfl : l.flags = pinnedFlags ++ [noTraceFlag]) (hG : GOK_ G) (hf : wTX1_openNode x0 x1 (bu_ σ mc ms) post) : MetT l yX1_openNode (ws_ yX1_openNode cX1_openNode 2 (some ((Jvm.ClassFile.FieldType.object "WriteOnceDisc$Found")))) { frames := 7, cells := mc, slots := ms, locals := 120 } (PC_ G [rv_ x0, .int x1] (bu_ σ mc ms)) (QT_ G post) mc ms (FR_ G) := by
  refine MetT.ofW (cc := cX1_openNode) (maxL := 2) (ret := (some ((Jvm.ClassFile.FieldType.object "WriteOnceDisc$Found")))) (by decide) rfl ?_
  intro p e s m args below meth c s₁ B hml hv
  obtain ⟨rfl, hP, hW⟩ := hv
  have hts0 := atoms_spec (ws := ws_ yX1_openNode cX1_openNode 2 (some ((Jvm.ClassFile.FieldType.object "WriteOnceDisc$Found")))) B.pre
  have hts : ∀ w ∈ lw_all, w.before _ s = true := fun w h => hts0 w (List.mem_cons_of_mem _ h)
  obtain ⟨meth1, c1, hm1, hc1, -, -, -, -, hemp, -⟩ := Cond.code_spec B.named (hts0 _ List.mem_cons_self)
  cases B.method.symm.trans hm1
  rw [lg_entry_eq]
  have hl := en_entry [rv_ x0, .int x1] [1, 1] (n := 2) (ca_r (ca_i ca_n)) (by decide)
  exact sTX1_openNode ⟨⟨⟨⟨B.exec, B.bytes, hml, findClass_of_methodNamed B.named, hts⟩, hW, hG⟩, B.notSynchronized, B.returns, Nat.le_refl _, Nat.le_refl _, ⟨rfl, rfl⟩, (name_of_methodNamed B.named B.method).1⟩, hfl, fun c2 h2 => by rw [hc1] at h2; cases h2; exact hemp⟩ hf _ _ _ _ _ hP (LO_nil G) (BU_in ⟨rfl, rfl⟩) hl
/-- mark, where it throws -/
def wTX1_mark_L33 (post : Hp → Prop) (x0 : Nat) (x1 : Int32) (x2 : Int32) (x3 : Nat) (s0 : Int32) (σ : Hp) : Prop :=
((∃ mc1 ms2 : Nat, mc1 ≤ bc_ σ ∧ ms2 ≤ bs_ σ ∧ wTX1_need s0 (bu_ σ mc1 ms2) (fun τ5 => ∀ τ₂, τ₂ = bu_ τ5 (bc_ σ - mc1) (bs_ σ - ms2) → post τ₂)) ∨ (wX1_need s0 σ ((tg_ σ x3 = 102 ∧ (vp_in x1 (ln_ σ x3) ∧ (∀ y8 : Int32, y8 = (aI_ σ x3 (x1).toNatClampNeg) → (((3 : Int32) ≤ x2 →
  (tg_ σ x0 = 1 ∧ (tg_ σ (fR_ σ 0 6 x0) = 8 ∧ (wX8_begin (fR_ σ 0 6 x0) (fR_ σ 0 2 x0) σ (fun σ12 => (∀ σ13, σ13 = bu_ σ12 (bc_ σ) (bs_ σ) → (tg_ σ13 x0 = 1 ∧ (wX1_base x0 y8 σ13 (fun r15 => (∃ mc16 ms17 : Nat, (mc16 ≤ bc_ σ13 ∧ (ms17 ≤ bs_ σ13 ∧ (wX1_says (fR_ σ13 0 6 x0) r15 (bu_ σ13 mc16 ms17) (fun r20 σ21 => (∀ σ22, σ22 = bu_ σ21 (bc_ σ13 - mc16) (bs_ σ13 - ms17) → False))))))))))))))) ∧
 (¬ (3 : Int32) ≤ x2 →
  ((¬ x2 = 0 →
   (tg_ σ x0 = 1 ∧ (tg_ σ (fR_ σ 0 2 x0) = 7 ∧ (wX7_low (fR_ σ 0 2 x0) (((y8).toInt64 * (2048 : Int64)) + ((4 : Int64) * (x2).toInt64)) (4 : Int32) σ (fun r26 => False))))) ∧
  (x2 = 0 →
   False))))))))))
def wTX1_mark_L32 (post : Hp → Prop) (x0 : Nat) (x1 : Int32) (x2 : Int32) (x3 : Nat) (σ : Hp) : Prop :=
wTX1_mark_L33 post x0 x1 x2 x3 (0 : Int32) σ
def wTX1_mark (x0 : Nat) (x1 : Int32) (x2 : Int32) (σ : Hp) (post : Hp → Prop) : Prop :=
(tg_ σ x0 = 1 ∧ (wX1_marks x0  σ (fun r28 σ29 => (∀ σ30, σ30 = bu_ σ29 (bc_ σ) (bs_ σ) → (tg_ σ30 x0 = 1 ∧ (wX1_in x1 (0 : Int32) ((fI_ σ30 0 10 x0) - (1 : Int32)) σ30 (fun r32 => ((r32 = 0 →
  wTX1_mark_L32 post x0 x1 x2 r28 σ30) ∧
 (¬ r32 = 0 →
  (wX1_in x2 (0 : Int32) (3 : Int32) σ30 (fun r34 => ((r34 = 0 →
   wTX1_mark_L32 post x0 x1 x2 r28 σ30) ∧
  (¬ r34 = 0 →
   wTX1_mark_L33 post x0 x1 x2 r28 (1 : Int32) σ30)))))))))))))
set_option maxHeartbeats 4000000 in
theorem sTX1_mark_L33 {G : GG_} {p : Program} {l : Launch} {e : Env} {R : Room} {s : State} {m : MethodId} {args : Array Value} {below : List Frame} {meth : Method} {c : Code} {mc ms : Nat} (Y : (MX_ G p R s m args meth c cX1_mark 5 RX1 (some Jvm.ClassFile.FieldType.int) 11 278 mc ms "mark") ∧ l.flags = pinnedFlags ++ [noTraceFlag] ∧ ∀ c1, meth.code = some c1 → c1.exceptionTable.isEmpty = true) {post : Hp → Prop} {x0 : Nat} {x1 : Int32} {x2 : Int32} {x3 : Nat} {s0 : Int32} {σ : Hp} (hf : wTX1_mark_L33 post x0 x1 x2 x3 s0 σ) : WG_ G p l e R s m args below meth c (MQT below (QT_ G post) args s mc ms (FR_ G)) (BU_ R) 5 33 [(0, rv_ x0), (1, .int x1), (2, .int x2), (3, rv_ x3)] [.int s0] σ := by
  have ⟨⟨X, hlk, hr, hRf, hRl, hRc, hnm⟩, hfl, ho⟩ := Y
  have ⟨⟨hx, hb, _, hown, hts⟩, _, _⟩ := X
  intro H locs cells slots ls hP hL hB hl
  unfold wTX1_mark_L33 at hf
  rcases hf with hf | hf
  · obtain ⟨mc1, ms2, hb3, hb4, hf⟩ := hf
    exact p_thr hL hlk ho (p_runST X (Pic_bu hP mc1 ms2) (metTX1_need l G _ _ _ _ _ hfl X.2.2 hf) (va_cwS 1 hts (lw_S q1187 q1188 q85 q1189) rfl rfl rfl (by decide +kernel) ⟨Nat.le_trans (Nat.le_of_ble_eq_true rfl) hRf, Nat.le_trans (Nat.le_of_ble_eq_true rfl) hRl⟩) rfl hl.1 rfl (by decide) dX1_mark_33 (BU_call hB hb3 hb4)) (BU_callT hB hb3 hb4 hRc).1 (BU_callT hB hb3 hb4 hRc).2 (fun τ h => ⟨_, h _ rfl, fun K hK => Pic_bu hK _ _⟩)
  refine p_callv hL (p_runS X hP (metX1_need l G _ _ _ X.2.2 hf) (va_cwS 1 hts (lw_S q1187 q1188 q85 q1189) rfl rfl rfl (by decide +kernel) ⟨Nat.le_trans (Nat.le_of_ble_eq_true rfl) hRf, Nat.le_trans (Nat.le_of_ble_eq_true rfl) hRl⟩) rfl hl.1 rfl (by decide) dX1_mark_33 (BU_call hB (Nat.zero_le _) (Nat.zero_le _))) (fun σ₁ H locs hf hP hL => ?_)
  obtain ⟨e₁, hf⟩ := hf
  rw [e₁] at hP
  refine p_aload_n hx hb dX1_mark_36 rfl (lv_at hl 3 rfl) ?_
  refine lv_iload_n hx hb dX1_mark_37 rfl (lv_at hl 1 rfl) ?_
  obtain ⟨ht6, hf⟩ := hf
  obtain ⟨hi7, hf⟩ := hf
  refine p_iald X hP ht6 hi7 dX1_mark_38 ?_
  have hl := lv_sub hl [0, 2] rfl
  refine lv_topi (fun y8 hy8 => ?_)
  have hf := hf y8 hy8
  refine p_istore (i := 4) hx hb dX1_mark_39 hl (by decide) ⟨⟨ne_ rfl, Or.inl (ne_ rfl)⟩, ⟨⟨ne_ rfl, Or.inl (ne_ rfl)⟩, trivial⟩⟩ (fun ls hl => ?_)
  refine lv_iload_n hx hb dX1_mark_41 rfl (lv_at hl 2 rfl) ?_
  refine lv_iconst (v := 3) hx hb dX1_mark_42 (by decide) ?_
  refine lv_icmp_ge (tgt := 78) hx hb dX1_mark_43 (by decide) (fun c9 => ?_) (fun c9 => ?_)
  · have hf := hf.1 c9
    refine p_aload_n hx hb dX1_mark_78 rfl (lv_at hl 1 rfl) ?_
    obtain ⟨ht10, hf⟩ := hf
    refine p_gR X cf0_ (k := 6) (by decide) rfl hP ht10 q632 (fun _ h => h) dX1_mark_79 ?_
    refine p_aload_n hx hb dX1_mark_82 rfl (lv_at hl 1 rfl) ?_
    refine p_gR X cf0_ (k := 2) (by decide) rfl hP ht10 q628 (fun _ h => h) dX1_mark_83 ?_
    obtain ⟨ht11, hf⟩ := hf
    refine p_callv hL (p_runV X cf7_ hP ht11 (metX8_begin l G _ _ _ _ X.2.2 hf) (cwV 1 hts (lw_V q977 q978 q979 q105 q980) rfl rfl rfl (by decide +kernel) ⟨Nat.le_trans (Nat.le_of_ble_eq_true rfl) hRf, Nat.le_trans (Nat.le_of_ble_eq_true rfl) hRl⟩) rfl hl.1 rfl (by decide) dX1_mark_86 (BU_call hB (Nat.zero_le _) (Nat.zero_le _))) (fun σ12 H locs hf hP hL => ?_)
    have hB := BU_keep (τ := σ12) hB
    have hP := Pic_bu hP (bc_ σ) (bs_ σ)
    refine p_nmPB hP hB (fun σ13 hσ13 hP hB => ?_)
    have hf := hf σ13 hσ13
    refine p_aload_n hx hb dX1_mark_89 rfl (lv_at hl 1 rfl) ?_
    obtain ⟨ht14, hf⟩ := hf
    refine p_gR X cf0_ (k := 6) (by decide) rfl hP ht14 q632 (fun _ h => h) dX1_mark_90 ?_
    refine p_aload_n hx hb dX1_mark_93 rfl (lv_at hl 1 rfl) ?_
    refine lv_iload hx hb dX1_mark_94 (lv_at hl 0 rfl) ?_
    refine p_calli hL (p_runV X cf0_ hP ht14 (metX1_base l G _ _ _ _ X.2.2 hf) (cwV 1 hts (lw_V q982 q984 qs20 q85 q985) rfl rfl rfl (by decide +kernel) ⟨Nat.le_trans (Nat.le_of_ble_eq_true rfl) hRf, Nat.le_trans (Nat.le_of_ble_eq_true rfl) hRl⟩) rfl hl.1 rfl (by rw [(ca_r ca_n)]; decide) dX1_mark_96 (BU_call hB (Nat.zero_le _) (Nat.zero_le _))) (fun r15 σ₁ H locs hf hP hL => ?_)
    obtain ⟨e₁, hf⟩ := hf
    rw [e₁] at hP
    obtain ⟨mc16, ms17, hf⟩ := hf
    obtain ⟨hb18, hf⟩ := hf
    obtain ⟨hb19, hf⟩ := hf
    refine p_calli hL (p_runS X (Pic_bu hP mc16 ms17) (metX1_says l G _ _ _ _ _ _ X.2.2 hf) (va_cwS 2 hts (lw_S q1172 q1173 q85 q1174) rfl rfl rfl (by decide +kernel) ⟨Nat.le_trans (Nat.le_of_ble_eq_true rfl) hRf, Nat.le_trans (Nat.le_of_ble_eq_true rfl) hRl⟩) rfl hl.1 rfl (by decide) dX1_mark_99 (BU_call hB hb18 hb19)) (fun r20 σ21 H locs hf hP hL => ?_)
    have hB := BU_back (τ := σ21) hB hb18 hb19
    have hP := Pic_bu hP (bc_ σ13 - mc16) (bs_ σ13 - ms17)
    refine p_nmPB hP hB (fun σ22 hσ22 hP hB => ?_)
    have hf := hf σ22 hσ22
    exact hf.elim
  · have hf := hf.2 c9
    refine lv_iload_n hx hb dX1_mark_46 rfl (lv_at hl 2 rfl) ?_
    refine lv_if_ne (tgt := 55) hx hb dX1_mark_47 (by decide) (fun c23 => ?_) (fun c23 => ?_)
    · have hf := hf.1 c23
      refine p_aload_n hx hb dX1_mark_55 rfl (lv_at hl 1 rfl) ?_
      obtain ⟨ht24, hf⟩ := hf
      refine p_gR X cf0_ (k := 2) (by decide) rfl hP ht24 q628 (fun _ h => h) dX1_mark_56 ?_
      refine lv_iload hx hb dX1_mark_59 (lv_at hl 0 rfl) ?_
      refine lv_i2l hx hb dX1_mark_61 rfl ?_
      refine lv_ldc2 hx hb hown (hts _ q959) dX1_mark_62 ?_
      refine lv_lmul hx hb dX1_mark_65 ?_
      refine lv_ldc2 hx hb hown (hts _ q971) dX1_mark_66 ?_
      refine lv_iload_n hx hb dX1_mark_69 rfl (lv_at hl 2 rfl) ?_
      refine lv_i2l hx hb dX1_mark_70 rfl ?_
      refine lv_lmul hx hb dX1_mark_71 ?_
      refine lv_ladd hx hb dX1_mark_72 ?_
      refine lv_iconst (v := 4) hx hb dX1_mark_73 (by decide) ?_
      obtain ⟨ht25, hf⟩ := hf
      refine p_calli hL (p_runV X cf6_ hP ht25 (metX7_low l G _ _ _ _ _ X.2.2 hf) (cwV 2 hts (lw_V q972 q973 q974 q104 q975) rfl rfl rfl (by decide +kernel) ⟨Nat.le_trans (Nat.le_of_ble_eq_true rfl) hRf, Nat.le_trans (Nat.le_of_ble_eq_true rfl) hRl⟩) rfl hl.1 rfl (by decide) dX1_mark_74 (BU_call hB (Nat.zero_le _) (Nat.zero_le _))) (fun r26 σ₁ H locs hf hP hL => ?_)
      obtain ⟨e₁, hf⟩ := hf
      rw [e₁] at hP
      exact hf.elim
    · have hf := hf.2 c23
      refine lv_iload hx hb dX1_mark_50 (lv_at hl 0 rfl) ?_
      refine lv_goto (tgt := 77) hx hb dX1_mark_52 (by decide) ?_
      exact hf.elim
set_option maxHeartbeats 4000000 in
theorem sTX1_mark_L32 {G : GG_} {p : Program} {l : Launch} {e : Env} {R : Room} {s : State} {m : MethodId} {args : Array Value} {below : List Frame} {meth : Method} {c : Code} {mc ms : Nat} (Y : (MX_ G p R s m args meth c cX1_mark 5 RX1 (some Jvm.ClassFile.FieldType.int) 11 278 mc ms "mark") ∧ l.flags = pinnedFlags ++ [noTraceFlag] ∧ ∀ c1, meth.code = some c1 → c1.exceptionTable.isEmpty = true) {post : Hp → Prop} {x0 : Nat} {x1 : Int32} {x2 : Int32} {x3 : Nat} {σ : Hp} (hf : wTX1_mark_L32 post x0 x1 x2 x3 σ) : WG_ G p l e R s m args below meth c (MQT below (QT_ G post) args s mc ms (FR_ G)) (BU_ R) 5 32 [(0, rv_ x0), (1, .int x1), (2, .int x2), (3, rv_ x3)] [] σ := by
  have ⟨⟨X, hlk, hr, hRf, hRl, hRc, hnm⟩, hfl, ho⟩ := Y
  have ⟨⟨hx, hb, _, hown, hts⟩, _, _⟩ := X
  intro H locs cells slots ls hP hL hB hl
  unfold wTX1_mark_L32 at hf
  refine lv_iconst (v := 0) hx hb dX1_mark_32 (by decide) ?_
  exact sTX1_mark_L33 Y hf _ _ _ _ _ hP hL hB (lv_sub hl [0, 1, 2, 3] rfl)
set_option maxHeartbeats 4000000 in
theorem sTX1_mark {G : GG_} {p : Program} {l : Launch} {e : Env} {R : Room} {s : State} {m : MethodId} {args : Array Value} {below : List Frame} {meth : Method} {c : Code} {mc ms : Nat} (Y : (MX_ G p R s m args meth c cX1_mark 5 RX1 (some Jvm.ClassFile.FieldType.int) 11 278 mc ms "mark") ∧ l.flags = pinnedFlags ++ [noTraceFlag] ∧ ∀ c1, meth.code = some c1 → c1.exceptionTable.isEmpty = true) {post : Hp → Prop} {x0 : Nat} {x1 : Int32} {x2 : Int32} {σ : Hp} (hf : wTX1_mark x0 x1 x2 σ post) : WG_ G p l e R s m args below meth c (MQT below (QT_ G post) args s mc ms (FR_ G)) (BU_ R) 5 0 [(0, rv_ x0), (1, .int x1), (2, .int x2)] [] σ := by
  have ⟨⟨X, hlk, hr, hRf, hRl, hRc, hnm⟩, hfl, ho⟩ := Y
  have ⟨⟨hx, hb, _, hown, hts⟩, _, _⟩ := X
  intro H locs cells slots ls hP hL hB hl
  unfold wTX1_mark at hf
  refine p_aload_n hx hb dX1_mark_0 rfl (lv_at hl 0 rfl) ?_
  obtain ⟨ht27, hf⟩ := hf
  refine p_callr hL (p_runV X cf0_ hP ht27 (metX1_marks l G _ _ _ X.2.2 hf) (cwV 0 hts (lw_V q955 q957 qs19 q85 q958) rfl rfl rfl (by decide +kernel) ⟨Nat.le_trans (Nat.le_of_ble_eq_true rfl) hRf, Nat.le_trans (Nat.le_of_ble_eq_true rfl) hRl⟩) rfl hl.1 rfl (by decide) dX1_mark_1 (BU_call hB (Nat.zero_le _) (Nat.zero_le _))) (fun r28 σ29 H locs hf hP hL => ?_)
  have hB := BU_keep (τ := σ29) hB
  have hP := Pic_bu hP (bc_ σ) (bs_ σ)
  refine p_nmPB hP hB (fun σ30 hσ30 hP hB => ?_)
  have hf := hf σ30 hσ30
  refine p_astore_n (i := 3) hx hb dX1_mark_4 rfl hl (by decide) ⟨⟨ne_ rfl, Or.inl (ne_ rfl)⟩, ⟨⟨ne_ rfl, Or.inl (ne_ rfl)⟩, ⟨⟨ne_ rfl, Or.inr rfl⟩, trivial⟩⟩⟩ (fun ls hl => ?_)
  refine lv_iload_n hx hb dX1_mark_5 rfl (lv_at hl 2 rfl) ?_
  refine lv_iconst (v := 0) hx hb dX1_mark_6 (by decide) ?_
  refine p_aload_n hx hb dX1_mark_7 rfl (lv_at hl 1 rfl) ?_
  obtain ⟨ht31, hf⟩ := hf
  refine p_gI X cf0_ (k := 10) (by decide) rfl hP ht31 q636 (fun _ h => h) dX1_mark_8 ?_
  refine lv_iconst (v := 1) hx hb dX1_mark_11 (by decide) ?_
  refine lv_isub hx hb dX1_mark_12 ?_
  refine p_calli hL (p_runS X hP (metX1_in l G _ _ _ _ _ X.2.2 hf) (va_cwS 3 hts (lw_S q664 q665 q85 q666) rfl rfl rfl (by decide +kernel) ⟨Nat.le_trans (Nat.le_of_ble_eq_true rfl) hRf, Nat.le_trans (Nat.le_of_ble_eq_true rfl) hRl⟩) rfl hl.1 rfl (by decide) dX1_mark_13 (BU_call hB (Nat.zero_le _) (Nat.zero_le _))) (fun r32 σ₁ H locs hf hP hL => ?_)
  obtain ⟨e₁, hf⟩ := hf
  rw [e₁] at hP
  refine lv_if_eq (tgt := 32) hx hb dX1_mark_16 (by decide) (fun c33 => ?_) (fun c33 => ?_)
  · have hf := hf.1 c33
    exact sTX1_mark_L32 Y hf _ _ _ _ _ hP hL hB (lv_sub hl [1, 2, 3, 0] rfl)
  · have hf := hf.2 c33
    refine lv_iload_n hx hb dX1_mark_19 rfl (lv_at hl 3 rfl) ?_
    refine lv_iconst (v := 0) hx hb dX1_mark_20 (by decide) ?_
    refine lv_iconst (v := 3) hx hb dX1_mark_21 (by decide) ?_
    refine p_calli hL (p_runS X hP (metX1_in l G _ _ _ _ _ X.2.2 hf) (va_cwS 3 hts (lw_S q664 q665 q85 q666) rfl rfl rfl (by decide +kernel) ⟨Nat.le_trans (Nat.le_of_ble_eq_true rfl) hRf, Nat.le_trans (Nat.le_of_ble_eq_true rfl) hRl⟩) rfl hl.1 rfl (by decide) dX1_mark_22 (BU_call hB (Nat.zero_le _) (Nat.zero_le _))) (fun r34 σ₁ H locs hf hP hL => ?_)
    obtain ⟨e₁, hf⟩ := hf
    rw [e₁] at hP
    refine lv_if_eq (tgt := 32) hx hb dX1_mark_25 (by decide) (fun c35 => ?_) (fun c35 => ?_)
    · have hf := hf.1 c35
      exact sTX1_mark_L32 Y hf _ _ _ _ _ hP hL hB (lv_sub hl [1, 2, 3, 0] rfl)
    · have hf := hf.2 c35
      refine lv_iconst (v := 1) hx hb dX1_mark_28 (by decide) ?_
      refine lv_goto (tgt := 33) hx hb dX1_mark_29 (by decide) ?_
      exact sTX1_mark_L33 Y hf _ _ _ _ _ hP hL hB (lv_sub hl [1, 2, 3, 0] rfl)
set_option maxHeartbeats 4000000 in
theorem metTX1_mark (l : Launch) (G : GG_) (mc ms : Nat) (x0 : Nat) (x1 : Int32) (x2 : Int32) (σ : Hp) (post : Hp → Prop) (hfl : l.flags = pinnedFlags ++ [noTraceFlag]) (hG : GOK_ G) (hf : wTX1_mark x0 x1 x2 (bu_ σ mc ms) post) : MetT l yX1_mark (ws_ yX1_mark cX1_mark 5 (some Jvm.ClassFile.FieldType.int)) { frames := 11, cells := mc, slots := ms, locals := 278 } (PC_ G [rv_ x0, .int x1, .int x2] (bu_ σ mc ms)) (QT_ G post) mc ms (FR_ G) := by
  refine MetT.ofW (cc := cX1_mark) (maxL := 5) (ret := (some Jvm.ClassFile.FieldType.int)) (by decide) rfl ?_
  intro p e s m args below meth c s₁ B hml hv
  obtain ⟨rfl, hP, hW⟩ := hv
  have hts0 := atoms_spec (ws := ws_ yX1_mark cX1_mark 5 (some Jvm.ClassFile.FieldType.int)) B.pre
  have hts : ∀ w ∈ lw_all, w.before _ s = true := fun w h => hts0 w (List.mem_cons_of_mem _ h)
  obtain ⟨meth1, c1, hm1, hc1, -, -, -, -, hemp, -⟩ := Cond.code_spec B.named (hts0 _ List.mem_cons_self)
  cases B.method.symm.trans hm1
  rw [lg_entry_eq]
  have hl := en_entry [rv_ x0, .int x1, .int x2] [1, 1, 1] (n := 5) (ca_r (ca_i (ca_i ca_n))) (by decide)
  exact sTX1_mark ⟨⟨⟨⟨B.exec, B.bytes, hml, findClass_of_methodNamed B.named, hts⟩, hW, hG⟩, B.notSynchronized, B.returns, Nat.le_refl _, Nat.le_refl _, ⟨rfl, rfl⟩, (name_of_methodNamed B.named B.method).1⟩, hfl, fun c2 h2 => by rw [hc1] at h2; cases h2; exact hemp⟩ hf _ _ _ _ _ hP (LO_nil G) (BU_in ⟨rfl, rfl⟩) hl
/-- node, where it throws -/
def wTX1_node (x0 : Nat) (x1 : Int32) (x2 : Int32) (σ : Hp) (post : Hp → Prop) : Prop :=
(tg_ σ x0 = 1 ∧ ((∃ mc2 ms3 : Nat, mc2 ≤ bc_ σ ∧ ms3 ≤ bs_ σ ∧ wTX1_openNode x0 x1 (bu_ σ mc2 ms3) (fun τ6 => ∀ τ₂, τ₂ = bu_ τ6 (bc_ σ - mc2) (bs_ σ - ms3) → post τ₂)) ∨ (wX1_openNode x0 x1 σ (fun r7 => (wX1_in x2 (0 : Int32) (3 : Int32) σ (fun r8 => ((∃ mc9 ms10 : Nat, mc9 ≤ bc_ σ ∧ ms10 ≤ bs_ σ ∧ wTX1_need r8 (bu_ σ mc9 ms10) (fun τ13 => ∀ τ₂, τ₂ = bu_ τ13 (bc_ σ - mc9) (bs_ σ - ms10) → post τ₂)) ∨ (wX1_need r8 σ (((¬ x2 = 0 →
  ((¬ x2 = (1 : Int32) →
   ((¬ x2 = (2 : Int32) →
    (tg_ σ r7 = 10 ∧ False)) ∧
   (x2 = (2 : Int32) →
    (tg_ σ r7 = 10 ∧ False)))) ∧
  (x2 = (1 : Int32) →
   (tg_ σ r7 = 10 ∧ (((fI_ σ 9 4 r7) = 0 →
    False) ∧
   (¬ (fI_ σ 9 4 r7) = 0 →
    False)))))) ∧
 (x2 = 0 →
  (tg_ σ r7 = 10 ∧ False))))))))))))
set_option maxHeartbeats 4000000 in
theorem sTX1_node {G : GG_} {p : Program} {l : Launch} {e : Env} {R : Room} {s : State} {m : MethodId} {args : Array Value} {below : List Frame} {meth : Method} {c : Code} {mc ms : Nat} (Y : (MX_ G p R s m args meth c cX1_node 4 RX1 (some Jvm.ClassFile.FieldType.int) 8 141 mc ms "node") ∧ l.flags = pinnedFlags ++ [noTraceFlag] ∧ ∀ c1, meth.code = some c1 → c1.exceptionTable.isEmpty = true) {post : Hp → Prop} {x0 : Nat} {x1 : Int32} {x2 : Int32} {σ : Hp} (hf : wTX1_node x0 x1 x2 σ post) : WG_ G p l e R s m args below meth c (MQT below (QT_ G post) args s mc ms (FR_ G)) (BU_ R) 4 0 [(0, rv_ x0), (1, .int x1), (2, .int x2)] [] σ := by
  have ⟨⟨X, hlk, hr, hRf, hRl, hRc, hnm⟩, hfl, ho⟩ := Y
  have ⟨⟨hx, hb, _, hown, hts⟩, _, _⟩ := X
  intro H locs cells slots ls hP hL hB hl
  unfold wTX1_node at hf
  refine p_aload_n hx hb dX1_node_0 rfl (lv_at hl 0 rfl) ?_
  refine lv_iload_n hx hb dX1_node_1 rfl (lv_at hl 1 rfl) ?_
  obtain ⟨ht1, hf⟩ := hf
  rcases hf with hf | hf
  · obtain ⟨mc2, ms3, hb4, hb5, hf⟩ := hf
    exact p_thr hL hlk ho (p_runVT X cf0_ (Pic_bu hP mc2 ms3) ht1 (metTX1_openNode l G _ _ _ _ _ _ hfl X.2.2 hf) (cwV 1 hts (lw_V q1258 q1260 qs41 q85 q1261) rfl rfl rfl (by decide +kernel) ⟨Nat.le_trans (Nat.le_of_ble_eq_true rfl) hRf, Nat.le_trans (Nat.le_of_ble_eq_true rfl) hRl⟩) rfl hl.1 rfl (by decide) dX1_node_2 (BU_call hB hb4 hb5)) (BU_callT hB hb4 hb5 hRc).1 (BU_callT hB hb4 hb5 hRc).2 (fun τ h => ⟨_, h _ rfl, fun K hK => Pic_bu hK _ _⟩)
  refine p_callr hL (p_runV X cf0_ hP ht1 (metX1_openNode l G _ _ _ _ X.2.2 hf) (cwV 1 hts (lw_V q1258 q1260 qs41 q85 q1261) rfl rfl rfl (by decide +kernel) ⟨Nat.le_trans (Nat.le_of_ble_eq_true rfl) hRf, Nat.le_trans (Nat.le_of_ble_eq_true rfl) hRl⟩) rfl hl.1 rfl (by decide) dX1_node_2 (BU_call hB (Nat.zero_le _) (Nat.zero_le _))) (fun r7 σ₁ H locs hf hP hL => ?_)
  obtain ⟨e₁, hf⟩ := hf
  rw [e₁] at hP
  have hl := lv_sub hl [2] rfl
  refine p_astore_n (i := 3) hx hb dX1_node_5 rfl hl (by decide) ⟨⟨ne_ rfl, Or.inr rfl⟩, trivial⟩ (fun ls hl => ?_)
  refine lv_iload_n hx hb dX1_node_6 rfl (lv_at hl 1 rfl) ?_
  refine lv_iconst (v := 0) hx hb dX1_node_7 (by decide) ?_
  refine lv_iconst (v := 3) hx hb dX1_node_8 (by decide) ?_
  refine p_calli hL (p_runS X hP (metX1_in l G _ _ _ _ _ X.2.2 hf) (va_cwS 3 hts (lw_S q664 q665 q85 q666) rfl rfl rfl (by decide +kernel) ⟨Nat.le_trans (Nat.le_of_ble_eq_true rfl) hRf, Nat.le_trans (Nat.le_of_ble_eq_true rfl) hRl⟩) rfl hl.1 rfl (by decide) dX1_node_9 (BU_call hB (Nat.zero_le _) (Nat.zero_le _))) (fun r8 σ₁ H locs hf hP hL => ?_)
  obtain ⟨e₁, hf⟩ := hf
  rw [e₁] at hP
  rcases hf with hf | hf
  · obtain ⟨mc9, ms10, hb11, hb12, hf⟩ := hf
    exact p_thr hL hlk ho (p_runST X (Pic_bu hP mc9 ms10) (metTX1_need l G _ _ _ _ _ hfl X.2.2 hf) (va_cwS 1 hts (lw_S q1187 q1188 q85 q1189) rfl rfl rfl (by decide +kernel) ⟨Nat.le_trans (Nat.le_of_ble_eq_true rfl) hRf, Nat.le_trans (Nat.le_of_ble_eq_true rfl) hRl⟩) rfl hl.1 rfl (by decide) dX1_node_12 (BU_call hB hb11 hb12)) (BU_callT hB hb11 hb12 hRc).1 (BU_callT hB hb11 hb12 hRc).2 (fun τ h => ⟨_, h _ rfl, fun K hK => Pic_bu hK _ _⟩)
  refine p_callv hL (p_runS X hP (metX1_need l G _ _ _ X.2.2 hf) (va_cwS 1 hts (lw_S q1187 q1188 q85 q1189) rfl rfl rfl (by decide +kernel) ⟨Nat.le_trans (Nat.le_of_ble_eq_true rfl) hRf, Nat.le_trans (Nat.le_of_ble_eq_true rfl) hRl⟩) rfl hl.1 rfl (by decide) dX1_node_12 (BU_call hB (Nat.zero_le _) (Nat.zero_le _))) (fun σ₁ H locs hf hP hL => ?_)
  obtain ⟨e₁, hf⟩ := hf
  rw [e₁] at hP
  refine lv_iload_n hx hb dX1_node_15 rfl (lv_at hl 1 rfl) ?_
  refine lv_if_ne (tgt := 26) hx hb dX1_node_16 (by decide) (fun c14 => ?_) (fun c14 => ?_)
  · have hf := hf.1 c14
    refine lv_iload_n hx hb dX1_node_26 rfl (lv_at hl 1 rfl) ?_
    refine lv_iconst (v := 1) hx hb dX1_node_27 (by decide) ?_
    refine lv_icmp_ne (tgt := 46) hx hb dX1_node_28 (by decide) (fun c15 => ?_) (fun c15 => ?_)
    · have hf := hf.1 c15
      refine lv_iload_n hx hb dX1_node_46 rfl (lv_at hl 1 rfl) ?_
      refine lv_iconst (v := 2) hx hb dX1_node_47 (by decide) ?_
      refine lv_icmp_ne (tgt := 58) hx hb dX1_node_48 (by decide) (fun c16 => ?_) (fun c16 => ?_)
      · have hf := hf.1 c16
        refine p_aload_n hx hb dX1_node_58 rfl (lv_at hl 0 rfl) ?_
        obtain ⟨ht17, hf⟩ := hf
        refine p_gI X cf9_ (k := 2) (by decide) rfl hP ht17 q1063 (fun _ h => h) dX1_node_59 ?_
        exact hf.elim
      · have hf := hf.2 c16
        refine p_aload_n hx hb dX1_node_51 rfl (lv_at hl 0 rfl) ?_
        obtain ⟨ht18, hf⟩ := hf
        refine p_gI X cf9_ (k := 3) (by decide) rfl hP ht18 q1066 (fun _ h => h) dX1_node_52 ?_
        refine lv_goto (tgt := 62) hx hb dX1_node_55 (by decide) ?_
        exact hf.elim
    · have hf := hf.2 c15
      refine p_aload_n hx hb dX1_node_31 rfl (lv_at hl 0 rfl) ?_
      obtain ⟨ht19, hf⟩ := hf
      refine p_gI X cf9_ (k := 4) (by decide) rfl hP ht19 q1068 (fun _ h => h) dX1_node_32 ?_
      refine lv_if_eq (tgt := 42) hx hb dX1_node_35 (by decide) (fun c20 => ?_) (fun c20 => ?_)
      · have hf := hf.1 c20
        refine lv_iconst (v := 1) hx hb dX1_node_42 (by decide) ?_
        refine lv_goto (tgt := 62) hx hb dX1_node_43 (by decide) ?_
        exact hf.elim
      · have hf := hf.2 c20
        refine lv_iconst (v := 0) hx hb dX1_node_38 (by decide) ?_
        refine lv_goto (tgt := 62) hx hb dX1_node_39 (by decide) ?_
        exact hf.elim
  · have hf := hf.2 c14
    refine p_aload_n hx hb dX1_node_19 rfl (lv_at hl 0 rfl) ?_
    obtain ⟨ht21, hf⟩ := hf
    refine p_gI X cf9_ (k := 0) (by decide) rfl hP ht21 q1060 (fun _ h => h) dX1_node_20 ?_
    refine lv_goto (tgt := 62) hx hb dX1_node_23 (by decide) ?_
    exact hf.elim
set_option maxHeartbeats 4000000 in
theorem metTX1_node (l : Launch) (G : GG_) (mc ms : Nat) (x0 : Nat) (x1 : Int32) (x2 : Int32) (σ : Hp) (post : Hp → Prop) (hfl : l.flags = pinnedFlags ++ [noTraceFlag]) (hG : GOK_ G) (hf : wTX1_node x0 x1 x2 (bu_ σ mc ms) post) : MetT l yX1_node (ws_ yX1_node cX1_node 4 (some Jvm.ClassFile.FieldType.int)) { frames := 8, cells := mc, slots := ms, locals := 141 } (PC_ G [rv_ x0, .int x1, .int x2] (bu_ σ mc ms)) (QT_ G post) mc ms (FR_ G) := by
  refine MetT.ofW (cc := cX1_node) (maxL := 4) (ret := (some Jvm.ClassFile.FieldType.int)) (by decide) rfl ?_
  intro p e s m args below meth c s₁ B hml hv
  obtain ⟨rfl, hP, hW⟩ := hv
  have hts0 := atoms_spec (ws := ws_ yX1_node cX1_node 4 (some Jvm.ClassFile.FieldType.int)) B.pre
  have hts : ∀ w ∈ lw_all, w.before _ s = true := fun w h => hts0 w (List.mem_cons_of_mem _ h)
  obtain ⟨meth1, c1, hm1, hc1, -, -, -, -, hemp, -⟩ := Cond.code_spec B.named (hts0 _ List.mem_cons_self)
  cases B.method.symm.trans hm1
  rw [lg_entry_eq]
  have hl := en_entry [rv_ x0, .int x1, .int x2] [1, 1, 1] (n := 4) (ca_r (ca_i (ca_i ca_n))) (by decide)
  exact sTX1_node ⟨⟨⟨⟨B.exec, B.bytes, hml, findClass_of_methodNamed B.named, hts⟩, hW, hG⟩, B.notSynchronized, B.returns, Nat.le_refl _, Nat.le_refl _, ⟨rfl, rfl⟩, (name_of_methodNamed B.named B.method).1⟩, hfl, fun c2 h2 => by rw [hc1] at h2; cases h2; exact hemp⟩ hf _ _ _ _ _ hP (LO_nil G) (BU_in ⟨rfl, rfl⟩) hl
/-- name, where it throws -/
def wTX1_name (x0 : Nat) (x1 : Int32) (σ : Hp) (post : Hp → Prop) : Prop :=
(tg_ σ x0 = 1 ∧ ((∃ mc2 ms3 : Nat, mc2 ≤ bc_ σ ∧ ms3 ≤ bs_ σ ∧ wTX1_openNode x0 x1 (bu_ σ mc2 ms3) (fun τ6 => ∀ τ₂, τ₂ = bu_ τ6 (bc_ σ - mc2) (bs_ σ - ms3) → post τ₂)) ∨ (wX1_openNode x0 x1 σ (fun r7 => (tg_ σ r7 = 10 ∧ False)))))
set_option maxHeartbeats 4000000 in
theorem sTX1_name {G : GG_} {p : Program} {l : Launch} {e : Env} {R : Room} {s : State} {m : MethodId} {args : Array Value} {below : List Frame} {meth : Method} {c : Code} {mc ms : Nat} (Y : (MX_ G p R s m args meth c cX1_name 2 RX1 (some Jvm.ClassFile.FieldType.long) 8 141 mc ms "name") ∧ l.flags = pinnedFlags ++ [noTraceFlag] ∧ ∀ c1, meth.code = some c1 → c1.exceptionTable.isEmpty = true) {post : Hp → Prop} {x0 : Nat} {x1 : Int32} {σ : Hp} (hf : wTX1_name x0 x1 σ post) : WG_ G p l e R s m args below meth c (MQT below (QT_ G post) args s mc ms (FR_ G)) (BU_ R) 2 0 [(0, rv_ x0), (1, .int x1)] [] σ := by
  have ⟨⟨X, hlk, hr, hRf, hRl, hRc, hnm⟩, hfl, ho⟩ := Y
  have ⟨⟨hx, hb, _, hown, hts⟩, _, _⟩ := X
  intro H locs cells slots ls hP hL hB hl
  unfold wTX1_name at hf
  refine p_aload_n hx hb dX1_name_0 rfl (lv_at hl 0 rfl) ?_
  refine lv_iload_n hx hb dX1_name_1 rfl (lv_at hl 1 rfl) ?_
  obtain ⟨ht1, hf⟩ := hf
  rcases hf with hf | hf
  · obtain ⟨mc2, ms3, hb4, hb5, hf⟩ := hf
    exact p_thr hL hlk ho (p_runVT X cf0_ (Pic_bu hP mc2 ms3) ht1 (metTX1_openNode l G _ _ _ _ _ _ hfl X.2.2 hf) (cwV 1 hts (lw_V q1258 q1260 qs41 q85 q1261) rfl rfl rfl (by decide +kernel) ⟨Nat.le_trans (Nat.le_of_ble_eq_true rfl) hRf, Nat.le_trans (Nat.le_of_ble_eq_true rfl) hRl⟩) rfl hl.1 rfl (by decide) dX1_name_2 (BU_call hB hb4 hb5)) (BU_callT hB hb4 hb5 hRc).1 (BU_callT hB hb4 hb5 hRc).2 (fun τ h => ⟨_, h _ rfl, fun K hK => Pic_bu hK _ _⟩)
  refine p_callr hL (p_runV X cf0_ hP ht1 (metX1_openNode l G _ _ _ _ X.2.2 hf) (cwV 1 hts (lw_V q1258 q1260 qs41 q85 q1261) rfl rfl rfl (by decide +kernel) ⟨Nat.le_trans (Nat.le_of_ble_eq_true rfl) hRf, Nat.le_trans (Nat.le_of_ble_eq_true rfl) hRl⟩) rfl hl.1 rfl (by decide) dX1_name_2 (BU_call hB (Nat.zero_le _) (Nat.zero_le _))) (fun r7 σ₁ H locs hf hP hL => ?_)
  obtain ⟨e₁, hf⟩ := hf
  rw [e₁] at hP
  obtain ⟨ht8, hf⟩ := hf
  refine p_gL X cf9_ (k := 5) (by decide) rfl hP ht8 q1070 (fun _ h => h) dX1_name_5 ?_
  exact hf.elim
set_option maxHeartbeats 4000000 in
theorem metTX1_name (l : Launch) (G : GG_) (mc ms : Nat) (x0 : Nat) (x1 : Int32) (σ : Hp) (post : Hp → Prop) (hfl : l.flags = pinnedFlags ++ [noTraceFlag]) (hG : GOK_ G) (hf : wTX1_name x0 x1 (bu_ σ mc ms) post) : MetT l yX1_name (ws_ yX1_name cX1_name 2 (some Jvm.ClassFile.FieldType.long)) { frames := 8, cells := mc, slots := ms, locals := 141 } (PC_ G [rv_ x0, .int x1] (bu_ σ mc ms)) (QT_ G post) mc ms (FR_ G) := by
  refine MetT.ofW (cc := cX1_name) (maxL := 2) (ret := (some Jvm.ClassFile.FieldType.long)) (by decide) rfl ?_
  intro p e s m args below meth c s₁ B hml hv
  obtain ⟨rfl, hP, hW⟩ := hv
  have hts0 := atoms_spec (ws := ws_ yX1_name cX1_name 2 (some Jvm.ClassFile.FieldType.long)) B.pre
  have hts : ∀ w ∈ lw_all, w.before _ s = true := fun w h => hts0 w (List.mem_cons_of_mem _ h)
  obtain ⟨meth1, c1, hm1, hc1, -, -, -, -, hemp, -⟩ := Cond.code_spec B.named (hts0 _ List.mem_cons_self)
  cases B.method.symm.trans hm1
  rw [lg_entry_eq]
  have hl := en_entry [rv_ x0, .int x1] [1, 1] (n := 2) (ca_r (ca_i ca_n)) (by decide)
  exact sTX1_name ⟨⟨⟨⟨B.exec, B.bytes, hml, findClass_of_methodNamed B.named, hts⟩, hW, hG⟩, B.notSynchronized, B.returns, Nat.le_refl _, Nat.le_refl _, ⟨rfl, rfl⟩, (name_of_methodNamed B.named B.method).1⟩, hfl, fun c2 h2 => by rw [hc1] at h2; cases h2; exact hemp⟩ hf _ _ _ _ _ hP (LO_nil G) (BU_in ⟨rfl, rfl⟩) hl
/-- read, where it throws -/
def wTX1_read_L32 (post : Hp → Prop) (x0 : Nat) (x2 : Int32) (x3 : Nat) (s0 : Int32) (σ : Hp) : Prop :=
((∃ mc1 ms2 : Nat, mc1 ≤ bc_ σ ∧ ms2 ≤ bs_ σ ∧ wTX1_need s0 (bu_ σ mc1 ms2) (fun τ5 => ∀ τ₂, τ₂ = bu_ τ5 (bc_ σ - mc1) (bs_ σ - ms2) → post τ₂)) ∨ (wX1_need s0 σ ((tg_ σ x0 = 1 ∧ (tg_ σ x3 = 10 ∧ (tg_ σ (fR_ σ 0 2 x0) = 7 ∧ (wX7_at (fR_ σ 0 2 x0) ((((fI_ σ 9 2 x3)).toInt64 * (2048 : Int64)) + (x2).toInt64) σ (fun r9 => False))))))))
def wTX1_read_L31 (post : Hp → Prop) (x0 : Nat) (x2 : Int32) (x3 : Nat) (σ : Hp) : Prop :=
wTX1_read_L32 post x0 x2 x3 (0 : Int32) σ
def wTX1_read (x0 : Nat) (x1 : Int32) (x2 : Int32) (σ : Hp) (post : Hp → Prop) : Prop :=
(tg_ σ x0 = 1 ∧ ((∃ mc11 ms12 : Nat, mc11 ≤ bc_ σ ∧ ms12 ≤ bs_ σ ∧ wTX1_openNode x0 x1 (bu_ σ mc11 ms12) (fun τ15 => ∀ τ₂, τ₂ = bu_ τ15 (bc_ σ - mc11) (bs_ σ - ms12) → post τ₂)) ∨ (wX1_openNode x0 x1 σ (fun r16 => (tg_ σ r16 = 10 ∧ ((¬ (fI_ σ 9 4 r16) = 0 →
  wTX1_read_L31 post x0 x2 r16 σ) ∧
 ((fI_ σ 9 4 r16) = 0 →
  (wX1_in x2 (0 : Int32) ((fI_ σ 9 3 r16) - (1 : Int32)) σ (fun r19 => ((r19 = 0 →
   wTX1_read_L31 post x0 x2 r16 σ) ∧
  (¬ r19 = 0 →
   wTX1_read_L32 post x0 x2 r16 (1 : Int32) σ)))))))))))
set_option maxHeartbeats 4000000 in
theorem sTX1_read_L32 {G : GG_} {p : Program} {l : Launch} {e : Env} {R : Room} {s : State} {m : MethodId} {args : Array Value} {below : List Frame} {meth : Method} {c : Code} {mc ms : Nat} (Y : (MX_ G p R s m args meth c cX1_read 4 RX1 (some Jvm.ClassFile.FieldType.int) 8 141 mc ms "read") ∧ l.flags = pinnedFlags ++ [noTraceFlag] ∧ ∀ c1, meth.code = some c1 → c1.exceptionTable.isEmpty = true) {post : Hp → Prop} {x0 : Nat} {x2 : Int32} {x3 : Nat} {s0 : Int32} {σ : Hp} (hf : wTX1_read_L32 post x0 x2 x3 s0 σ) : WG_ G p l e R s m args below meth c (MQT below (QT_ G post) args s mc ms (FR_ G)) (BU_ R) 4 32 [(0, rv_ x0), (2, .int x2), (3, rv_ x3)] [.int s0] σ := by
  have ⟨⟨X, hlk, hr, hRf, hRl, hRc, hnm⟩, hfl, ho⟩ := Y
  have ⟨⟨hx, hb, _, hown, hts⟩, _, _⟩ := X
  intro H locs cells slots ls hP hL hB hl
  unfold wTX1_read_L32 at hf
  rcases hf with hf | hf
  · obtain ⟨mc1, ms2, hb3, hb4, hf⟩ := hf
    exact p_thr hL hlk ho (p_runST X (Pic_bu hP mc1 ms2) (metTX1_need l G _ _ _ _ _ hfl X.2.2 hf) (va_cwS 1 hts (lw_S q1187 q1188 q85 q1189) rfl rfl rfl (by decide +kernel) ⟨Nat.le_trans (Nat.le_of_ble_eq_true rfl) hRf, Nat.le_trans (Nat.le_of_ble_eq_true rfl) hRl⟩) rfl hl.1 rfl (by decide) dX1_read_32 (BU_call hB hb3 hb4)) (BU_callT hB hb3 hb4 hRc).1 (BU_callT hB hb3 hb4 hRc).2 (fun τ h => ⟨_, h _ rfl, fun K hK => Pic_bu hK _ _⟩)
  refine p_callv hL (p_runS X hP (metX1_need l G _ _ _ X.2.2 hf) (va_cwS 1 hts (lw_S q1187 q1188 q85 q1189) rfl rfl rfl (by decide +kernel) ⟨Nat.le_trans (Nat.le_of_ble_eq_true rfl) hRf, Nat.le_trans (Nat.le_of_ble_eq_true rfl) hRl⟩) rfl hl.1 rfl (by decide) dX1_read_32 (BU_call hB (Nat.zero_le _) (Nat.zero_le _))) (fun σ₁ H locs hf hP hL => ?_)
  obtain ⟨e₁, hf⟩ := hf
  rw [e₁] at hP
  refine p_aload_n hx hb dX1_read_35 rfl (lv_at hl 0 rfl) ?_
  obtain ⟨ht6, hf⟩ := hf
  refine p_gR X cf0_ (k := 2) (by decide) rfl hP ht6 q628 (fun _ h => h) dX1_read_36 ?_
  refine p_aload_n hx hb dX1_read_39 rfl (lv_at hl 2 rfl) ?_
  obtain ⟨ht7, hf⟩ := hf
  refine p_gI X cf9_ (k := 2) (by decide) rfl hP ht7 q1063 (fun _ h => h) dX1_read_40 ?_
  refine lv_i2l hx hb dX1_read_43 rfl ?_
  refine lv_ldc2 hx hb hown (hts _ q959) dX1_read_44 ?_
  refine lv_lmul hx hb dX1_read_47 ?_
  refine lv_iload_n hx hb dX1_read_48 rfl (lv_at hl 1 rfl) ?_
  refine lv_i2l hx hb dX1_read_49 rfl ?_
  refine lv_ladd hx hb dX1_read_50 ?_
  obtain ⟨ht8, hf⟩ := hf
  refine p_calli hL (p_runV X cf6_ hP ht8 (metX7_at l G _ _ _ _ X.2.2 hf) (cwV 1 hts (lw_V q1158 q967 q968 q104 q969) rfl rfl rfl (by decide +kernel) ⟨Nat.le_trans (Nat.le_of_ble_eq_true rfl) hRf, Nat.le_trans (Nat.le_of_ble_eq_true rfl) hRl⟩) rfl hl.1 rfl (by decide) dX1_read_51 (BU_call hB (Nat.zero_le _) (Nat.zero_le _))) (fun r9 σ₁ H locs hf hP hL => ?_)
  obtain ⟨e₁, hf⟩ := hf
  rw [e₁] at hP
  exact hf.elim
set_option maxHeartbeats 4000000 in
theorem sTX1_read_L31 {G : GG_} {p : Program} {l : Launch} {e : Env} {R : Room} {s : State} {m : MethodId} {args : Array Value} {below : List Frame} {meth : Method} {c : Code} {mc ms : Nat} (Y : (MX_ G p R s m args meth c cX1_read 4 RX1 (some Jvm.ClassFile.FieldType.int) 8 141 mc ms "read") ∧ l.flags = pinnedFlags ++ [noTraceFlag] ∧ ∀ c1, meth.code = some c1 → c1.exceptionTable.isEmpty = true) {post : Hp → Prop} {x0 : Nat} {x2 : Int32} {x3 : Nat} {σ : Hp} (hf : wTX1_read_L31 post x0 x2 x3 σ) : WG_ G p l e R s m args below meth c (MQT below (QT_ G post) args s mc ms (FR_ G)) (BU_ R) 4 31 [(0, rv_ x0), (2, .int x2), (3, rv_ x3)] [] σ := by
  have ⟨⟨X, hlk, hr, hRf, hRl, hRc, hnm⟩, hfl, ho⟩ := Y
  have ⟨⟨hx, hb, _, hown, hts⟩, _, _⟩ := X
  intro H locs cells slots ls hP hL hB hl
  unfold wTX1_read_L31 at hf
  refine lv_iconst (v := 0) hx hb dX1_read_31 (by decide) ?_
  exact sTX1_read_L32 Y hf _ _ _ _ _ hP hL hB (lv_sub hl [0, 1, 2] rfl)
set_option maxHeartbeats 4000000 in
theorem sTX1_read {G : GG_} {p : Program} {l : Launch} {e : Env} {R : Room} {s : State} {m : MethodId} {args : Array Value} {below : List Frame} {meth : Method} {c : Code} {mc ms : Nat} (Y : (MX_ G p R s m args meth c cX1_read 4 RX1 (some Jvm.ClassFile.FieldType.int) 8 141 mc ms "read") ∧ l.flags = pinnedFlags ++ [noTraceFlag] ∧ ∀ c1, meth.code = some c1 → c1.exceptionTable.isEmpty = true) {post : Hp → Prop} {x0 : Nat} {x1 : Int32} {x2 : Int32} {σ : Hp} (hf : wTX1_read x0 x1 x2 σ post) : WG_ G p l e R s m args below meth c (MQT below (QT_ G post) args s mc ms (FR_ G)) (BU_ R) 4 0 [(0, rv_ x0), (1, .int x1), (2, .int x2)] [] σ := by
  have ⟨⟨X, hlk, hr, hRf, hRl, hRc, hnm⟩, hfl, ho⟩ := Y
  have ⟨⟨hx, hb, _, hown, hts⟩, _, _⟩ := X
  intro H locs cells slots ls hP hL hB hl
  unfold wTX1_read at hf
  refine p_aload_n hx hb dX1_read_0 rfl (lv_at hl 0 rfl) ?_
  refine lv_iload_n hx hb dX1_read_1 rfl (lv_at hl 1 rfl) ?_
  obtain ⟨ht10, hf⟩ := hf
  rcases hf with hf | hf
  · obtain ⟨mc11, ms12, hb13, hb14, hf⟩ := hf
    exact p_thr hL hlk ho (p_runVT X cf0_ (Pic_bu hP mc11 ms12) ht10 (metTX1_openNode l G _ _ _ _ _ _ hfl X.2.2 hf) (cwV 1 hts (lw_V q1258 q1260 qs41 q85 q1261) rfl rfl rfl (by decide +kernel) ⟨Nat.le_trans (Nat.le_of_ble_eq_true rfl) hRf, Nat.le_trans (Nat.le_of_ble_eq_true rfl) hRl⟩) rfl hl.1 rfl (by decide) dX1_read_2 (BU_call hB hb13 hb14)) (BU_callT hB hb13 hb14 hRc).1 (BU_callT hB hb13 hb14 hRc).2 (fun τ h => ⟨_, h _ rfl, fun K hK => Pic_bu hK _ _⟩)
  refine p_callr hL (p_runV X cf0_ hP ht10 (metX1_openNode l G _ _ _ _ X.2.2 hf) (cwV 1 hts (lw_V q1258 q1260 qs41 q85 q1261) rfl rfl rfl (by decide +kernel) ⟨Nat.le_trans (Nat.le_of_ble_eq_true rfl) hRf, Nat.le_trans (Nat.le_of_ble_eq_true rfl) hRl⟩) rfl hl.1 rfl (by decide) dX1_read_2 (BU_call hB (Nat.zero_le _) (Nat.zero_le _))) (fun r16 σ₁ H locs hf hP hL => ?_)
  obtain ⟨e₁, hf⟩ := hf
  rw [e₁] at hP
  have hl := lv_sub hl [0, 2] rfl
  refine p_astore_n (i := 3) hx hb dX1_read_5 rfl hl (by decide) ⟨⟨ne_ rfl, Or.inl (ne_ rfl)⟩, ⟨⟨ne_ rfl, Or.inr rfl⟩, trivial⟩⟩ (fun ls hl => ?_)
  refine p_aload_n hx hb dX1_read_6 rfl (lv_at hl 0 rfl) ?_
  obtain ⟨ht17, hf⟩ := hf
  refine p_gI X cf9_ (k := 4) (by decide) rfl hP ht17 q1068 (fun _ h => h) dX1_read_7 ?_
  refine lv_if_ne (tgt := 31) hx hb dX1_read_10 (by decide) (fun c18 => ?_) (fun c18 => ?_)
  · have hf := hf.1 c18
    exact sTX1_read_L31 Y hf _ _ _ _ _ hP hL hB (lv_sub hl [1, 2, 0] rfl)
  · have hf := hf.2 c18
    refine lv_iload_n hx hb dX1_read_13 rfl (lv_at hl 2 rfl) ?_
    refine lv_iconst (v := 0) hx hb dX1_read_14 (by decide) ?_
    refine p_aload_n hx hb dX1_read_15 rfl (lv_at hl 0 rfl) ?_
    refine p_gI X cf9_ (k := 3) (by decide) rfl hP ht17 q1066 (fun _ h => h) dX1_read_16 ?_
    refine lv_iconst (v := 1) hx hb dX1_read_19 (by decide) ?_
    refine lv_isub hx hb dX1_read_20 ?_
    refine p_calli hL (p_runS X hP (metX1_in l G _ _ _ _ _ X.2.2 hf) (va_cwS 3 hts (lw_S q664 q665 q85 q666) rfl rfl rfl (by decide +kernel) ⟨Nat.le_trans (Nat.le_of_ble_eq_true rfl) hRf, Nat.le_trans (Nat.le_of_ble_eq_true rfl) hRl⟩) rfl hl.1 rfl (by decide) dX1_read_21 (BU_call hB (Nat.zero_le _) (Nat.zero_le _))) (fun r19 σ₁ H locs hf hP hL => ?_)
    obtain ⟨e₁, hf⟩ := hf
    rw [e₁] at hP
    refine lv_if_eq (tgt := 31) hx hb dX1_read_24 (by decide) (fun c20 => ?_) (fun c20 => ?_)
    · have hf := hf.1 c20
      exact sTX1_read_L31 Y hf _ _ _ _ _ hP hL hB (lv_sub hl [1, 2, 0] rfl)
    · have hf := hf.2 c20
      refine lv_iconst (v := 1) hx hb dX1_read_27 (by decide) ?_
      refine lv_goto (tgt := 32) hx hb dX1_read_28 (by decide) ?_
      exact sTX1_read_L32 Y hf _ _ _ _ _ hP hL hB (lv_sub hl [1, 2, 0] rfl)
set_option maxHeartbeats 4000000 in
theorem metTX1_read (l : Launch) (G : GG_) (mc ms : Nat) (x0 : Nat) (x1 : Int32) (x2 : Int32) (σ : Hp) (post : Hp → Prop) (hfl : l.flags = pinnedFlags ++ [noTraceFlag]) (hG : GOK_ G) (hf : wTX1_read x0 x1 x2 (bu_ σ mc ms) post) : MetT l yX1_read (ws_ yX1_read cX1_read 4 (some Jvm.ClassFile.FieldType.int)) { frames := 8, cells := mc, slots := ms, locals := 141 } (PC_ G [rv_ x0, .int x1, .int x2] (bu_ σ mc ms)) (QT_ G post) mc ms (FR_ G) := by
  refine MetT.ofW (cc := cX1_read) (maxL := 4) (ret := (some Jvm.ClassFile.FieldType.int)) (by decide) rfl ?_
  intro p e s m args below meth c s₁ B hml hv
  obtain ⟨rfl, hP, hW⟩ := hv
  have hts0 := atoms_spec (ws := ws_ yX1_read cX1_read 4 (some Jvm.ClassFile.FieldType.int)) B.pre
  have hts : ∀ w ∈ lw_all, w.before _ s = true := fun w h => hts0 w (List.mem_cons_of_mem _ h)
  obtain ⟨meth1, c1, hm1, hc1, -, -, -, -, hemp, -⟩ := Cond.code_spec B.named (hts0 _ List.mem_cons_self)
  cases B.method.symm.trans hm1
  rw [lg_entry_eq]
  have hl := en_entry [rv_ x0, .int x1, .int x2] [1, 1, 1] (n := 4) (ca_r (ca_i (ca_i ca_n))) (by decide)
  exact sTX1_read ⟨⟨⟨⟨B.exec, B.bytes, hml, findClass_of_methodNamed B.named, hts⟩, hW, hG⟩, B.notSynchronized, B.returns, Nat.le_refl _, Nat.le_refl _, ⟨rfl, rfl⟩, (name_of_methodNamed B.named B.method).1⟩, hfl, fun c2 h2 => by rw [hc1] at h2; cases h2; exact hemp⟩ hf _ _ _ _ _ hP (LO_nil G) (BU_in ⟨rfl, rfl⟩) hl
/-- tree, where it throws -/
def wTX1_tree_L27 (post : Hp → Prop) (x2 : Int32) (x3 : Nat) (s0 : Int32) (σ : Hp) : Prop :=
((∃ mc1 ms2 : Nat, mc1 ≤ bc_ σ ∧ ms2 ≤ bs_ σ ∧ wTX1_need s0 (bu_ σ mc1 ms2) (fun τ5 => ∀ τ₂, τ₂ = bu_ τ5 (bc_ σ - mc1) (bs_ σ - ms2) → post τ₂)) ∨ (wX1_need s0 σ (((¬ x2 = 0 →
  ((¬ x2 = (1 : Int32) →
   ((¬ x2 = (2 : Int32) →
    ((¬ x2 = (3 : Int32) →
     (tg_ σ x3 = 6 ∧ (((fI_ σ 5 3 x3) ≤ 0 →
      False) ∧
     (¬ (fI_ σ 5 3 x3) ≤ 0 →
      False)))) ∧
    (x2 = (3 : Int32) →
     (tg_ σ x3 = 6 ∧ False)))) ∧
   (x2 = (2 : Int32) →
    (tg_ σ x3 = 6 ∧ False)))) ∧
  (x2 = (1 : Int32) →
   (tg_ σ x3 = 6 ∧ (((fI_ σ 5 1 x3) = 0 →
    False) ∧
   (¬ (fI_ σ 5 1 x3) = 0 →
    False)))))) ∧
 (x2 = 0 →
  (tg_ σ x3 = 6 ∧ False))))))
def wTX1_tree_L26 (post : Hp → Prop) (x2 : Int32) (x3 : Nat) (σ : Hp) : Prop :=
wTX1_tree_L27 post x2 x3 (0 : Int32) σ
def wTX1_tree (x0 : Nat) (x1 : Int32) (x2 : Int32) (σ : Hp) (post : Hp → Prop) : Prop :=
(tg_ σ x0 = 1 ∧ (tg_ σ (fR_ σ 0 4 x0) = 5 ∧ (wX5_find (fR_ σ 0 4 x0) x1 σ (fun r19 => ((r19 = 0 →
  wTX1_tree_L26 post x2 r19 σ) ∧
 (¬ r19 = 0 →
  (wX1_in x2 (0 : Int32) (4 : Int32) σ (fun r21 => ((r21 = 0 →
   wTX1_tree_L26 post x2 r19 σ) ∧
  (¬ r21 = 0 →
   wTX1_tree_L27 post x2 r19 (1 : Int32) σ))))))))))
set_option maxHeartbeats 4000000 in
theorem sTX1_tree_L27 {G : GG_} {p : Program} {l : Launch} {e : Env} {R : Room} {s : State} {m : MethodId} {args : Array Value} {below : List Frame} {meth : Method} {c : Code} {mc ms : Nat} (Y : (MX_ G p R s m args meth c cX1_tree 4 RX1 (some Jvm.ClassFile.FieldType.int) 7 120 mc ms "tree") ∧ l.flags = pinnedFlags ++ [noTraceFlag] ∧ ∀ c1, meth.code = some c1 → c1.exceptionTable.isEmpty = true) {post : Hp → Prop} {x2 : Int32} {x3 : Nat} {s0 : Int32} {σ : Hp} (hf : wTX1_tree_L27 post x2 x3 s0 σ) : WG_ G p l e R s m args below meth c (MQT below (QT_ G post) args s mc ms (FR_ G)) (BU_ R) 4 27 [(2, .int x2), (3, rv_ x3)] [.int s0] σ := by
  have ⟨⟨X, hlk, hr, hRf, hRl, hRc, hnm⟩, hfl, ho⟩ := Y
  have ⟨⟨hx, hb, _, hown, hts⟩, _, _⟩ := X
  intro H locs cells slots ls hP hL hB hl
  unfold wTX1_tree_L27 at hf
  rcases hf with hf | hf
  · obtain ⟨mc1, ms2, hb3, hb4, hf⟩ := hf
    exact p_thr hL hlk ho (p_runST X (Pic_bu hP mc1 ms2) (metTX1_need l G _ _ _ _ _ hfl X.2.2 hf) (va_cwS 1 hts (lw_S q1187 q1188 q85 q1189) rfl rfl rfl (by decide +kernel) ⟨Nat.le_trans (Nat.le_of_ble_eq_true rfl) hRf, Nat.le_trans (Nat.le_of_ble_eq_true rfl) hRl⟩) rfl hl.1 rfl (by decide) dX1_tree_27 (BU_call hB hb3 hb4)) (BU_callT hB hb3 hb4 hRc).1 (BU_callT hB hb3 hb4 hRc).2 (fun τ h => ⟨_, h _ rfl, fun K hK => Pic_bu hK _ _⟩)
  refine p_callv hL (p_runS X hP (metX1_need l G _ _ _ X.2.2 hf) (va_cwS 1 hts (lw_S q1187 q1188 q85 q1189) rfl rfl rfl (by decide +kernel) ⟨Nat.le_trans (Nat.le_of_ble_eq_true rfl) hRf, Nat.le_trans (Nat.le_of_ble_eq_true rfl) hRl⟩) rfl hl.1 rfl (by decide) dX1_tree_27 (BU_call hB (Nat.zero_le _) (Nat.zero_le _))) (fun σ₁ H locs hf hP hL => ?_)
  obtain ⟨e₁, hf⟩ := hf
  rw [e₁] at hP
  refine lv_iload_n hx hb dX1_tree_30 rfl (lv_at hl 0 rfl) ?_
  refine lv_if_ne (tgt := 41) hx hb dX1_tree_31 (by decide) (fun c6 => ?_) (fun c6 => ?_)
  · have hf := hf.1 c6
    refine lv_iload_n hx hb dX1_tree_41 rfl (lv_at hl 0 rfl) ?_
    refine lv_iconst (v := 1) hx hb dX1_tree_42 (by decide) ?_
    refine lv_icmp_ne (tgt := 61) hx hb dX1_tree_43 (by decide) (fun c7 => ?_) (fun c7 => ?_)
    · have hf := hf.1 c7
      refine lv_iload_n hx hb dX1_tree_61 rfl (lv_at hl 0 rfl) ?_
      refine lv_iconst (v := 2) hx hb dX1_tree_62 (by decide) ?_
      refine lv_icmp_ne (tgt := 73) hx hb dX1_tree_63 (by decide) (fun c8 => ?_) (fun c8 => ?_)
      · have hf := hf.1 c8
        refine lv_iload_n hx hb dX1_tree_73 rfl (lv_at hl 0 rfl) ?_
        refine lv_iconst (v := 3) hx hb dX1_tree_74 (by decide) ?_
        refine lv_icmp_ne (tgt := 85) hx hb dX1_tree_75 (by decide) (fun c9 => ?_) (fun c9 => ?_)
        · have hf := hf.1 c9
          refine p_aload_n hx hb dX1_tree_85 rfl (lv_at hl 1 rfl) ?_
          obtain ⟨ht10, hf⟩ := hf
          refine p_gI X cf5_ (k := 3) (by decide) rfl hP ht10 q449 (fun _ h => h) dX1_tree_86 ?_
          refine lv_if_le (tgt := 99) hx hb dX1_tree_89 (by decide) (fun c11 => ?_) (fun c11 => ?_)
          · have hf := hf.1 c11
            refine lv_iconst (v := 0) hx hb dX1_tree_99 (by decide) ?_
            exact hf.elim
          · have hf := hf.2 c11
            refine p_aload_n hx hb dX1_tree_92 rfl (lv_at hl 1 rfl) ?_
            refine p_gI X cf5_ (k := 5) (by decide) rfl hP ht10 q453 (fun _ h => h) dX1_tree_93 ?_
            refine lv_goto (tgt := 100) hx hb dX1_tree_96 (by decide) ?_
            exact hf.elim
        · have hf := hf.2 c9
          refine p_aload_n hx hb dX1_tree_78 rfl (lv_at hl 1 rfl) ?_
          obtain ⟨ht12, hf⟩ := hf
          refine p_gI X cf5_ (k := 4) (by decide) rfl hP ht12 q451 (fun _ h => h) dX1_tree_79 ?_
          refine lv_goto (tgt := 100) hx hb dX1_tree_82 (by decide) ?_
          exact hf.elim
      · have hf := hf.2 c8
        refine p_aload_n hx hb dX1_tree_66 rfl (lv_at hl 1 rfl) ?_
        obtain ⟨ht13, hf⟩ := hf
        refine p_gI X cf5_ (k := 3) (by decide) rfl hP ht13 q449 (fun _ h => h) dX1_tree_67 ?_
        refine lv_goto (tgt := 100) hx hb dX1_tree_70 (by decide) ?_
        exact hf.elim
    · have hf := hf.2 c7
      refine p_aload_n hx hb dX1_tree_46 rfl (lv_at hl 1 rfl) ?_
      obtain ⟨ht14, hf⟩ := hf
      refine p_gI X cf5_ (k := 1) (by decide) rfl hP ht14 q441 (fun _ h => h) dX1_tree_47 ?_
      refine lv_if_eq (tgt := 57) hx hb dX1_tree_50 (by decide) (fun c15 => ?_) (fun c15 => ?_)
      · have hf := hf.1 c15
        refine lv_iconst (v := 1) hx hb dX1_tree_57 (by decide) ?_
        refine lv_goto (tgt := 100) hx hb dX1_tree_58 (by decide) ?_
        exact hf.elim
      · have hf := hf.2 c15
        refine lv_iconst (v := 0) hx hb dX1_tree_53 (by decide) ?_
        refine lv_goto (tgt := 100) hx hb dX1_tree_54 (by decide) ?_
        exact hf.elim
  · have hf := hf.2 c6
    refine p_aload_n hx hb dX1_tree_34 rfl (lv_at hl 1 rfl) ?_
    obtain ⟨ht16, hf⟩ := hf
    refine p_gI X cf5_ (k := 2) (by decide) rfl hP ht16 q446 (fun _ h => h) dX1_tree_35 ?_
    refine lv_goto (tgt := 100) hx hb dX1_tree_38 (by decide) ?_
    exact hf.elim
set_option maxHeartbeats 4000000 in
theorem sTX1_tree_L26 {G : GG_} {p : Program} {l : Launch} {e : Env} {R : Room} {s : State} {m : MethodId} {args : Array Value} {below : List Frame} {meth : Method} {c : Code} {mc ms : Nat} (Y : (MX_ G p R s m args meth c cX1_tree 4 RX1 (some Jvm.ClassFile.FieldType.int) 7 120 mc ms "tree") ∧ l.flags = pinnedFlags ++ [noTraceFlag] ∧ ∀ c1, meth.code = some c1 → c1.exceptionTable.isEmpty = true) {post : Hp → Prop} {x2 : Int32} {x3 : Nat} {σ : Hp} (hf : wTX1_tree_L26 post x2 x3 σ) : WG_ G p l e R s m args below meth c (MQT below (QT_ G post) args s mc ms (FR_ G)) (BU_ R) 4 26 [(2, .int x2), (3, rv_ x3)] [] σ := by
  have ⟨⟨X, hlk, hr, hRf, hRl, hRc, hnm⟩, hfl, ho⟩ := Y
  have ⟨⟨hx, hb, _, hown, hts⟩, _, _⟩ := X
  intro H locs cells slots ls hP hL hB hl
  unfold wTX1_tree_L26 at hf
  refine lv_iconst (v := 0) hx hb dX1_tree_26 (by decide) ?_
  exact sTX1_tree_L27 Y hf _ _ _ _ _ hP hL hB (lv_sub hl [0, 1] rfl)
set_option maxHeartbeats 4000000 in
theorem sTX1_tree {G : GG_} {p : Program} {l : Launch} {e : Env} {R : Room} {s : State} {m : MethodId} {args : Array Value} {below : List Frame} {meth : Method} {c : Code} {mc ms : Nat} (Y : (MX_ G p R s m args meth c cX1_tree 4 RX1 (some Jvm.ClassFile.FieldType.int) 7 120 mc ms "tree") ∧ l.flags = pinnedFlags ++ [noTraceFlag] ∧ ∀ c1, meth.code = some c1 → c1.exceptionTable.isEmpty = true) {post : Hp → Prop} {x0 : Nat} {x1 : Int32} {x2 : Int32} {σ : Hp} (hf : wTX1_tree x0 x1 x2 σ post) : WG_ G p l e R s m args below meth c (MQT below (QT_ G post) args s mc ms (FR_ G)) (BU_ R) 4 0 [(0, rv_ x0), (1, .int x1), (2, .int x2)] [] σ := by
  have ⟨⟨X, hlk, hr, hRf, hRl, hRc, hnm⟩, hfl, ho⟩ := Y
  have ⟨⟨hx, hb, _, hown, hts⟩, _, _⟩ := X
  intro H locs cells slots ls hP hL hB hl
  unfold wTX1_tree at hf
  refine p_aload_n hx hb dX1_tree_0 rfl (lv_at hl 0 rfl) ?_
  obtain ⟨ht17, hf⟩ := hf
  refine p_gR X cf0_ (k := 4) (by decide) rfl hP ht17 q630 (fun _ h => h) dX1_tree_1 ?_
  refine lv_iload_n hx hb dX1_tree_4 rfl (lv_at hl 1 rfl) ?_
  obtain ⟨ht18, hf⟩ := hf
  refine p_callr hL (p_runV X cf4_ hP ht18 (metX5_find l G _ _ _ _ X.2.2 hf) (cwV 1 hts (lw_V q715 q716 q717 q92 q718) rfl rfl rfl (by decide +kernel) ⟨Nat.le_trans (Nat.le_of_ble_eq_true rfl) hRf, Nat.le_trans (Nat.le_of_ble_eq_true rfl) hRl⟩) rfl hl.1 rfl (by decide) dX1_tree_5 (BU_call hB (Nat.zero_le _) (Nat.zero_le _))) (fun r19 σ₁ H locs hf hP hL => ?_)
  obtain ⟨e₁, hf⟩ := hf
  rw [e₁] at hP
  have hl := lv_sub hl [2] rfl
  refine p_astore_n (i := 3) hx hb dX1_tree_8 rfl hl (by decide) ⟨⟨ne_ rfl, Or.inr rfl⟩, trivial⟩ (fun ls hl => ?_)
  refine p_aload_n hx hb dX1_tree_9 rfl (lv_at hl 0 rfl) ?_
  refine p_ifnull (tgt := 26) hx hb dX1_tree_10 (by decide) (fun c20 => ?_) (fun c20 => ?_)
  · have hf := hf.1 c20
    exact sTX1_tree_L26 Y hf _ _ _ _ _ hP hL hB (lv_sub hl [1, 0] rfl)
  · have hf := hf.2 c20
    refine lv_iload_n hx hb dX1_tree_13 rfl (lv_at hl 1 rfl) ?_
    refine lv_iconst (v := 0) hx hb dX1_tree_14 (by decide) ?_
    refine lv_iconst (v := 4) hx hb dX1_tree_15 (by decide) ?_
    refine p_calli hL (p_runS X hP (metX1_in l G _ _ _ _ _ X.2.2 hf) (va_cwS 3 hts (lw_S q664 q665 q85 q666) rfl rfl rfl (by decide +kernel) ⟨Nat.le_trans (Nat.le_of_ble_eq_true rfl) hRf, Nat.le_trans (Nat.le_of_ble_eq_true rfl) hRl⟩) rfl hl.1 rfl (by decide) dX1_tree_16 (BU_call hB (Nat.zero_le _) (Nat.zero_le _))) (fun r21 σ₁ H locs hf hP hL => ?_)
    obtain ⟨e₁, hf⟩ := hf
    rw [e₁] at hP
    refine lv_if_eq (tgt := 26) hx hb dX1_tree_19 (by decide) (fun c22 => ?_) (fun c22 => ?_)
    · have hf := hf.1 c22
      exact sTX1_tree_L26 Y hf _ _ _ _ _ hP hL hB (lv_sub hl [1, 0] rfl)
    · have hf := hf.2 c22
      refine lv_iconst (v := 1) hx hb dX1_tree_22 (by decide) ?_
      refine lv_goto (tgt := 27) hx hb dX1_tree_23 (by decide) ?_
      exact sTX1_tree_L27 Y hf _ _ _ _ _ hP hL hB (lv_sub hl [1, 0] rfl)
set_option maxHeartbeats 4000000 in
theorem metTX1_tree (l : Launch) (G : GG_) (mc ms : Nat) (x0 : Nat) (x1 : Int32) (x2 : Int32) (σ : Hp) (post : Hp → Prop) (hfl : l.flags = pinnedFlags ++ [noTraceFlag]) (hG : GOK_ G) (hf : wTX1_tree x0 x1 x2 (bu_ σ mc ms) post) : MetT l yX1_tree (ws_ yX1_tree cX1_tree 4 (some Jvm.ClassFile.FieldType.int)) { frames := 7, cells := mc, slots := ms, locals := 120 } (PC_ G [rv_ x0, .int x1, .int x2] (bu_ σ mc ms)) (QT_ G post) mc ms (FR_ G) := by
  refine MetT.ofW (cc := cX1_tree) (maxL := 4) (ret := (some Jvm.ClassFile.FieldType.int)) (by decide) rfl ?_
  intro p e s m args below meth c s₁ B hml hv
  obtain ⟨rfl, hP, hW⟩ := hv
  have hts0 := atoms_spec (ws := ws_ yX1_tree cX1_tree 4 (some Jvm.ClassFile.FieldType.int)) B.pre
  have hts : ∀ w ∈ lw_all, w.before _ s = true := fun w h => hts0 w (List.mem_cons_of_mem _ h)
  obtain ⟨meth1, c1, hm1, hc1, -, -, -, -, hemp, -⟩ := Cond.code_spec B.named (hts0 _ List.mem_cons_self)
  cases B.method.symm.trans hm1
  rw [lg_entry_eq]
  have hl := en_entry [rv_ x0, .int x1, .int x2] [1, 1, 1] (n := 4) (ca_r (ca_i (ca_i ca_n))) (by decide)
  exact sTX1_tree ⟨⟨⟨⟨B.exec, B.bytes, hml, findClass_of_methodNamed B.named, hts⟩, hW, hG⟩, B.notSynchronized, B.returns, Nat.le_refl _, Nat.le_refl _, ⟨rfl, rfl⟩, (name_of_methodNamed B.named B.method).1⟩, hfl, fun c2 h2 => by rw [hc1] at h2; cases h2; exact hemp⟩ hf _ _ _ _ _ hP (LO_nil G) (BU_in ⟨rfl, rfl⟩) hl
