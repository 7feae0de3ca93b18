set_option maxRecDepth 100000
abbrev cX0_mark : ByteArray := method_3_code
def yX0_mark : MethodName := ⟨RX0, "mark", "(LWriteOnceDisc;II[J)I"⟩
theorem dX0_mark_0 : decode cX0_mark 0 = .ok (.aload_n 3, 1) := by decide +kernel
theorem dX0_mark_1 : decode cX0_mark 1 = .ok (.iconst 0, 1) := by decide +kernel
theorem dX0_mark_2 : decode cX0_mark 2 = .ok (.aload_n 0, 1) := by decide +kernel
theorem dX0_mark_3 : decode cX0_mark 3 = .ok (.iload_n 1, 1) := by decide +kernel
theorem dX0_mark_4 : decode cX0_mark 4 = .ok (.iload_n 2, 1) := by decide +kernel
theorem dX0_mark_5 : decode cX0_mark 5 = .ok (.invokevirtual 7, 3) := by decide +kernel
theorem dX0_mark_8 : decode cX0_mark 8 = .ok (.i2l, 1) := by decide +kernel
theorem dX0_mark_9 : decode cX0_mark 9 = .ok (.lastore, 1) := by decide +kernel
theorem dX0_mark_10 : decode cX0_mark 10 = .ok (.goto 7, 3) := by decide +kernel
theorem dX0_mark_13 : decode cX0_mark 13 = .ok (.astore 4, 2) := by decide +kernel
theorem dX0_mark_15 : decode cX0_mark 15 = .ok (.iconst 1, 1) := by decide +kernel
theorem dX0_mark_16 : decode cX0_mark 16 = .ok (.ireturn, 1) := by decide +kernel
theorem dX0_mark_17 : decode cX0_mark 17 = .ok (.iconst 0, 1) := by decide +kernel
theorem dX0_mark_18 : decode cX0_mark 18 = .ok (.ireturn, 1) := by decide +kernel
/-- the law: mark -/
def wX0_mark (x0 : Nat) (x1 : Int32) (x2 : Int32) (x3 : Nat) (σ : Hp) (post : Int32 → Hp → Prop) : Prop :=
(tg_ σ x0 = 1 ∧ (∃ mc2 ms3 : Nat, (mc2 ≤ bc_ σ ∧ (ms3 ≤ bs_ σ ∧ ((∃ mc6 ms7 : Nat, mc6 ≤ bc_ σ ∧ ms7 ≤ bs_ σ ∧ wTX1_mark x0 x1 x2 (bu_ σ mc6 ms7) (fun τ10 => ∀ σ12, σ12 = bu_ τ10 (bc_ σ - mc6) (bs_ σ - ms7) → post (1 : Int32) σ12)) ∨ (wX1_mark x0 x1 x2 (bu_ σ mc2 ms3) (fun r13 σ14 => (∀ σ15, σ15 = bu_ σ14 (bc_ σ - mc2) (bs_ σ - ms3) → (tg_ σ15 x3 = 103 ∧ (vp_in (0 : Int32) (ln_ σ15 x3) ∧ (∀ σ18, σ18 = wL_ σ15 x3 ((0 : Int32)).toNatClampNeg (r13).toInt64 → post (0 : Int32) σ18)))))))))))
set_option maxHeartbeats 4000000 in
theorem sX0_mark {G : GG_} {p : Program} {l : Launch} {e : Env} {R : Room} {s : State} {m : MethodId} {args : Array Value} {below : List Frame} {meth : Method} {c : Code} {mc ms : Nat} (Y : (MX_ G p R s m args meth c cX0_mark 5 RX0 (some Jvm.ClassFile.FieldType.int) 12 302 mc ms "mark") ∧ l.flags = pinnedFlags ++ [noTraceFlag] ∧ ∀ c1, meth.code = some c1 → c1.exceptionTable.toList.map (fun h => (h.startPc, h.endPc, h.handlerPc, h.catchType)) = [((0 : Nat), (10 : Nat), (13 : Nat), (13 : Nat))]) {post : Int32 → Hp → Prop} {x0 : Nat} {x1 : Int32} {x2 : Int32} {x3 : Nat} {σ : Hp} (hf : wX0_mark x0 x1 x2 x3 σ post) : WG_ G p l e R s m args below meth c (MQ below (QI_ G post) args s mc ms (FR_ G)) (BU_ R) 5 0 [(0, rv_ x0), (1, .int x1), (2, .int x2), (3, rv_ x3)] [] σ := by
  have ⟨⟨X, hlk, hr, hRf, hRl, hRc, hnm⟩, hfl, ho⟩ := Y
  have ⟨⟨hx, hb, _, hown, hts⟩, _, _⟩ := X
  intro H locs cells slots ls hP hL hB hl
  unfold wX0_mark at hf
  refine p_aload_n hx hb dX0_mark_0 rfl (lv_at hl 3 rfl) ?_
  refine lv_iconst (v := 0) hx hb dX0_mark_1 (by decide) ?_
  refine p_aload_n hx hb dX0_mark_2 rfl (lv_at hl 0 rfl) ?_
  refine lv_iload_n hx hb dX0_mark_3 rfl (lv_at hl 1 rfl) ?_
  refine lv_iload_n hx hb dX0_mark_4 rfl (lv_at hl 2 rfl) ?_
  obtain ⟨ht1, hf⟩ := hf
  obtain ⟨mc2, ms3, hf⟩ := hf
  obtain ⟨hb4, hf⟩ := hf
  obtain ⟨hb5, hf⟩ := hf
  rcases hf with hf | hf
  · obtain ⟨mc6, ms7, hb8, hb9, hf⟩ := hf
    refine p_caught X hL ho (p_runVT X cf0_ (Pic_bu hP mc6 ms7) ht1 (metTX1_mark l G _ _ _ _ _ _ _ hfl X.2.2 hf) (cwV 2 hts (lw_V q1183 q1184 q1185 q85 q1186) rfl rfl rfl (by decide +kernel) ⟨Nat.le_trans (Nat.le_of_ble_eq_true rfl) hRf, Nat.le_trans (Nat.le_of_ble_eq_true rfl) hRl⟩) rfl hl.1 rfl (by rw [(ca_i (ca_r ca_n))]; decide) dX0_mark_5 (BU_call hB hb8 hb9)) (by decide) (by decide) (by decide) q1182 q1192 (fun xv11 τ10 H locs hf hP hL => ?_)
    have hB := BU_back (τ := τ10) hB hb8 hb9
    have hP := Pic_bu hP (bc_ σ - mc6) (bs_ σ - ms7)
    refine p_nmPB hP hB (fun σ12 hσ12 hP hB => ?_)
    have hf := hf σ12 hσ12
    have hl := lv_sub hl [] rfl
    refine p_astore (i := 4) hx hb dX0_mark_13 hl (by decide) trivial (fun ls hl => ?_)
    refine lv_iconst (v := 1) hx hb dX0_mark_15 (by decide) ?_
    exact p_iret X hlk hP hL (BU_le hB hRc).1 (BU_le hB hRc).2 hr dX0_mark_16 hf
  refine p_calli hL (p_runV X cf0_ (Pic_bu hP mc2 ms3) ht1 (metX1_mark l G _ _ _ _ _ _ _ X.2.2 hf) (cwV 2 hts (lw_V q1183 q1184 q1185 q85 q1186) rfl rfl rfl (by decide +kernel) ⟨Nat.le_trans (Nat.le_of_ble_eq_true rfl) hRf, Nat.le_trans (Nat.le_of_ble_eq_true rfl) hRl⟩) rfl hl.1 rfl (by rw [(ca_i (ca_r ca_n))]; decide) dX0_mark_5 (BU_call hB hb4 hb5)) (fun r13 σ14 H locs hf hP hL => ?_)
  have hB := BU_back (τ := σ14) hB hb4 hb5
  have hP := Pic_bu hP (bc_ σ - mc2) (bs_ σ - ms3)
  refine p_nmPB hP hB (fun σ15 hσ15 hP hB => ?_)
  have hf := hf σ15 hσ15
  refine lv_i2l hx hb dX0_mark_8 rfl ?_
  obtain ⟨ht16, hf⟩ := hf
  obtain ⟨hi17, hf⟩ := hf
  refine p_last X hP hL ht16 (p_ow hP ht16 rfl) hi17 dX0_mark_9 (fun H locs hP hL => ?_)
  refine p_nmPB hP hB (fun σ18 hσ18 hP hB => ?_)
  have hf := hf σ18 hσ18
  have ht16 : tg_ σ18 x3 = 103 := by rw [hσ18]; exact ht16
  refine lv_goto (tgt := 17) hx hb dX0_mark_10 (by decide) ?_
  refine lv_iconst (v := 0) hx hb dX0_mark_17 (by decide) ?_
  exact p_iret X hlk hP hL (BU_le hB hRc).1 (BU_le hB hRc).2 hr dX0_mark_18 hf
set_option maxHeartbeats 4000000 in
theorem metX0_mark (l : Launch) (G : GG_) (mc ms : Nat) (x0 : Nat) (x1 : Int32) (x2 : Int32) (x3 : Nat) (σ : Hp) (post : Int32 → Hp → Prop) (hfl : l.flags = pinnedFlags ++ [noTraceFlag]) (hG : GOK_ G) (hf : wX0_mark x0 x1 x2 x3 (bu_ σ mc ms) post) : Met l yX0_mark (wsW_ yX0_mark cX0_mark 5 (some Jvm.ClassFile.FieldType.int) [((0 : Nat), (10 : Nat), (13 : Nat), (13 : Nat))]) { frames := 12, cells := mc, slots := ms, locals := 302 } (PC_ G [rv_ x0, .int x1, .int x2, rv_ x3] (bu_ σ mc ms)) (QI_ G post) mc ms (FR_ G) := by
  refine va_MetW (hh := [((0 : Nat), (10 : Nat), (13 : Nat), (13 : Nat))]) (cc := cX0_mark) (maxL := 5) (ret := (some Jvm.ClassFile.FieldType.int)) (by decide) rfl ?_
  intro p e s m args below meth c s₁ B hml hv
  obtain ⟨rfl, hP, hW⟩ := hv
  have hts0 := atoms_spec (ws := wsW_ yX0_mark cX0_mark 5 (some Jvm.ClassFile.FieldType.int) [((0 : Nat), (10 : Nat), (13 : Nat), (13 : Nat))]) B.pre
  have hts : ∀ w ∈ lw_all, w.before _ s = true := fun w h => hts0 w (List.mem_cons_of_mem _ h)
  obtain ⟨m1, meth1, c1, hn1, hm1, hc1, -, -, hemp, -⟩ := Cond.codeWith_spec (hts0 _ List.mem_cons_self)
  cases B.named.symm.trans hn1
  cases B.method.symm.trans hm1
  rw [lg_entry_eq]
  have hl := en_entry [rv_ x0, .int x1, .int x2, rv_ x3] [1, 1, 1, 1] (n := 5) (ca_r (ca_i (ca_i (ca_r ca_n)))) (by decide)
  exact sX0_mark ⟨⟨⟨⟨B.exec, B.bytes, hml, findClass_of_methodNamed B.named, hts⟩, hW, hG⟩, B.notSynchronized, B.returns, Nat.le_refl _, Nat.le_refl _, ⟨rfl, rfl⟩, (name_of_methodNamed B.named B.method).1⟩, hfl, fun c2 h2 => by rw [hc1] at h2; cases h2; exact hemp⟩ hf _ _ _ _ _ hP (LO_nil G) (BU_in ⟨rfl, rfl⟩) hl
abbrev cX0_node : ByteArray := method_4_code
def yX0_node : MethodName := ⟨RX0, "node", "(LWriteOnceDisc;II[J)I"⟩
theorem dX0_node_0 : decode cX0_node 0 = .ok (.aload_n 3, 1) := by decide +kernel
theorem dX0_node_1 : decode cX0_node 1 = .ok (.iconst 0, 1) := by decide +kernel
theorem dX0_node_2 : decode cX0_node 2 = .ok (.aload_n 0, 1) := by decide +kernel
theorem dX0_node_3 : decode cX0_node 3 = .ok (.iload_n 1, 1) := by decide +kernel
theorem dX0_node_4 : decode cX0_node 4 = .ok (.iload_n 2, 1) := by decide +kernel
theorem dX0_node_5 : decode cX0_node 5 = .ok (.invokevirtual 15, 3) := by decide +kernel
theorem dX0_node_8 : decode cX0_node 8 = .ok (.i2l, 1) := by decide +kernel
theorem dX0_node_9 : decode cX0_node 9 = .ok (.lastore, 1) := by decide +kernel
theorem dX0_node_10 : decode cX0_node 10 = .ok (.goto 7, 3) := by decide +kernel
theorem dX0_node_13 : decode cX0_node 13 = .ok (.astore 4, 2) := by decide +kernel
theorem dX0_node_15 : decode cX0_node 15 = .ok (.iconst 1, 1) := by decide +kernel
theorem dX0_node_16 : decode cX0_node 16 = .ok (.ireturn, 1) := by decide +kernel
theorem dX0_node_17 : decode cX0_node 17 = .ok (.iconst 0, 1) := by decide +kernel
theorem dX0_node_18 : decode cX0_node 18 = .ok (.ireturn, 1) := by decide +kernel
/-- the law: node -/
def wX0_node (x0 : Nat) (x1 : Int32) (x2 : Int32) (x3 : Nat) (σ : Hp) (post : Int32 → Hp → Prop) : Prop :=
(tg_ σ x0 = 1 ∧ ((∃ mc2 ms3 : Nat, mc2 ≤ bc_ σ ∧ ms3 ≤ bs_ σ ∧ wTX1_node x0 x1 x2 (bu_ σ mc2 ms3) (fun τ6 => ∀ σ8, σ8 = bu_ τ6 (bc_ σ - mc2) (bs_ σ - ms3) → post (1 : Int32) σ8)) ∨ (wX1_node x0 x1 x2 σ (fun r9 => (tg_ σ x3 = 103 ∧ (vp_in (0 : Int32) (ln_ σ x3) ∧ (∀ σ12, σ12 = wL_ σ x3 ((0 : Int32)).toNatClampNeg (r9).toInt64 → post (0 : Int32) σ12)))))))
set_option maxHeartbeats 4000000 in
theorem sX0_node {G : GG_} {p : Program} {l : Launch} {e : Env} {R : Room} {s : State} {m : MethodId} {args : Array Value} {below : List Frame} {meth : Method} {c : Code} {mc ms : Nat} (Y : (MX_ G p R s m args meth c cX0_node 5 RX0 (some Jvm.ClassFile.FieldType.int) 9 164 mc ms "node") ∧ l.flags = pinnedFlags ++ [noTraceFlag] ∧ ∀ c1, meth.code = some c1 → c1.exceptionTable.toList.map (fun h => (h.startPc, h.endPc, h.handlerPc, h.catchType)) = [((0 : Nat), (10 : Nat), (13 : Nat), (13 : Nat))]) {post : Int32 → Hp → Prop} {x0 : Nat} {x1 : Int32} {x2 : Int32} {x3 : Nat} {σ : Hp} (hf : wX0_node x0 x1 x2 x3 σ post) : WG_ G p l e R s m args below meth c (MQ below (QI_ G post) args s mc ms (FR_ G)) (BU_ R) 5 0 [(0, rv_ x0), (1, .int x1), (2, .int x2), (3, rv_ x3)] [] σ := by
  have ⟨⟨X, hlk, hr, hRf, hRl, hRc, hnm⟩, hfl, ho⟩ := Y
  have ⟨⟨hx, hb, _, hown, hts⟩, _, _⟩ := X
  intro H locs cells slots ls hP hL hB hl
  unfold wX0_node at hf
  refine p_aload_n hx hb dX0_node_0 rfl (lv_at hl 3 rfl) ?_
  refine lv_iconst (v := 0) hx hb dX0_node_1 (by decide) ?_
  refine p_aload_n hx hb dX0_node_2 rfl (lv_at hl 0 rfl) ?_
  refine lv_iload_n hx hb dX0_node_3 rfl (lv_at hl 1 rfl) ?_
  refine lv_iload_n hx hb dX0_node_4 rfl (lv_at hl 2 rfl) ?_
  obtain ⟨ht1, hf⟩ := hf
  rcases hf with hf | hf
  · obtain ⟨mc2, ms3, hb4, hb5, hf⟩ := hf
    refine p_caught X hL ho (p_runVT X cf0_ (Pic_bu hP mc2 ms3) ht1 (metTX1_node l G _ _ _ _ _ _ _ hfl X.2.2 hf) (cwV 2 hts (lw_V q1254 q1255 q1256 q85 q1257) rfl rfl rfl (by decide +kernel) ⟨Nat.le_trans (Nat.le_of_ble_eq_true rfl) hRf, Nat.le_trans (Nat.le_of_ble_eq_true rfl) hRl⟩) rfl hl.1 rfl (by rw [(ca_i (ca_r ca_n))]; decide) dX0_node_5 (BU_call hB hb4 hb5)) (by decide) (by decide) (by decide) q1182 q1192 (fun xv7 τ6 H locs hf hP hL => ?_)
    have hB := BU_back (τ := τ6) hB hb4 hb5
    have hP := Pic_bu hP (bc_ σ - mc2) (bs_ σ - ms3)
    refine p_nmPB hP hB (fun σ8 hσ8 hP hB => ?_)
    have hf := hf σ8 hσ8
    have hl := lv_sub hl [] rfl
    refine p_astore (i := 4) hx hb dX0_node_13 hl (by decide) trivial (fun ls hl => ?_)
    refine lv_iconst (v := 1) hx hb dX0_node_15 (by decide) ?_
    exact p_iret X hlk hP hL (BU_le hB hRc).1 (BU_le hB hRc).2 hr dX0_node_16 hf
  refine p_calli hL (p_runV X cf0_ hP ht1 (metX1_node l G _ _ _ _ _ X.2.2 hf) (cwV 2 hts (lw_V q1254 q1255 q1256 q85 q1257) rfl rfl rfl (by decide +kernel) ⟨Nat.le_trans (Nat.le_of_ble_eq_true rfl) hRf, Nat.le_trans (Nat.le_of_ble_eq_true rfl) hRl⟩) rfl hl.1 rfl (by rw [(ca_i (ca_r ca_n))]; decide) dX0_node_5 (BU_call hB (Nat.zero_le _) (Nat.zero_le _))) (fun r9 σ₁ H locs hf hP hL => ?_)
  obtain ⟨e₁, hf⟩ := hf
  rw [e₁] at hP
  refine lv_i2l hx hb dX0_node_8 rfl ?_
  obtain ⟨ht10, hf⟩ := hf
  obtain ⟨hi11, hf⟩ := hf
  refine p_last X hP hL ht10 (p_ow hP ht10 rfl) hi11 dX0_node_9 (fun H locs hP hL => ?_)
  refine p_nmPB hP hB (fun σ12 hσ12 hP hB => ?_)
  have hf := hf σ12 hσ12
  have ht1 : tg_ σ12 x0 = 1 := by rw [hσ12]; exact ht1
  have ht10 : tg_ σ12 x3 = 103 := by rw [hσ12]; exact ht10
  refine lv_goto (tgt := 17) hx hb dX0_node_10 (by decide) ?_
  refine lv_iconst (v := 0) hx hb dX0_node_17 (by decide) ?_
  exact p_iret X hlk hP hL (BU_le hB hRc).1 (BU_le hB hRc).2 hr dX0_node_18 hf
set_option maxHeartbeats 4000000 in
theorem metX0_node (l : Launch) (G : GG_) (mc ms : Nat) (x0 : Nat) (x1 : Int32) (x2 : Int32) (x3 : Nat) (σ : Hp) (post : Int32 → Hp → Prop) (hfl : l.flags = pinnedFlags ++ [noTraceFlag]) (hG : GOK_ G) (hf : wX0_node x0 x1 x2 x3 (bu_ σ mc ms) post) : Met l yX0_node (wsW_ yX0_node cX0_node 5 (some Jvm.ClassFile.FieldType.int) [((0 : Nat), (10 : Nat), (13 : Nat), (13 : Nat))]) { frames := 9, cells := mc, slots := ms, locals := 164 } (PC_ G [rv_ x0, .int x1, .int x2, rv_ x3] (bu_ σ mc ms)) (QI_ G post) mc ms (FR_ G) := by
  refine va_MetW (hh := [((0 : Nat), (10 : Nat), (13 : Nat), (13 : Nat))]) (cc := cX0_node) (maxL := 5) (ret := (some Jvm.ClassFile.FieldType.int)) (by decide) rfl ?_
  intro p e s m args below meth c s₁ B hml hv
  obtain ⟨rfl, hP, hW⟩ := hv
  have hts0 := atoms_spec (ws := wsW_ yX0_node cX0_node 5 (some Jvm.ClassFile.FieldType.int) [((0 : Nat), (10 : Nat), (13 : Nat), (13 : Nat))]) B.pre
  have hts : ∀ w ∈ lw_all, w.before _ s = true := fun w h => hts0 w (List.mem_cons_of_mem _ h)
  obtain ⟨m1, meth1, c1, hn1, hm1, hc1, -, -, hemp, -⟩ := Cond.codeWith_spec (hts0 _ List.mem_cons_self)
  cases B.named.symm.trans hn1
  cases B.method.symm.trans hm1
  rw [lg_entry_eq]
  have hl := en_entry [rv_ x0, .int x1, .int x2, rv_ x3] [1, 1, 1, 1] (n := 5) (ca_r (ca_i (ca_i (ca_r ca_n)))) (by decide)
  exact sX0_node ⟨⟨⟨⟨B.exec, B.bytes, hml, findClass_of_methodNamed B.named, hts⟩, hW, hG⟩, B.notSynchronized, B.returns, Nat.le_refl _, Nat.le_refl _, ⟨rfl, rfl⟩, (name_of_methodNamed B.named B.method).1⟩, hfl, fun c2 h2 => by rw [hc1] at h2; cases h2; exact hemp⟩ hf _ _ _ _ _ hP (LO_nil G) (BU_in ⟨rfl, rfl⟩) hl
abbrev cX0_name : ByteArray := method_5_code
def yX0_name : MethodName := ⟨RX0, "name", "(LWriteOnceDisc;I[J)I"⟩
theorem dX0_name_0 : decode cX0_name 0 = .ok (.aload_n 2, 1) := by decide +kernel
theorem dX0_name_1 : decode cX0_name 1 = .ok (.iconst 0, 1) := by decide +kernel
theorem dX0_name_2 : decode cX0_name 2 = .ok (.aload_n 0, 1) := by decide +kernel
theorem dX0_name_3 : decode cX0_name 3 = .ok (.iload_n 1, 1) := by decide +kernel
theorem dX0_name_4 : decode cX0_name 4 = .ok (.invokevirtual 18, 3) := by decide +kernel
theorem dX0_name_7 : decode cX0_name 7 = .ok (.lastore, 1) := by decide +kernel
theorem dX0_name_8 : decode cX0_name 8 = .ok (.goto 6, 3) := by decide +kernel
theorem dX0_name_11 : decode cX0_name 11 = .ok (.astore_n 3, 1) := by decide +kernel
theorem dX0_name_12 : decode cX0_name 12 = .ok (.iconst 1, 1) := by decide +kernel
theorem dX0_name_13 : decode cX0_name 13 = .ok (.ireturn, 1) := by decide +kernel
theorem dX0_name_14 : decode cX0_name 14 = .ok (.iconst 0, 1) := by decide +kernel
theorem dX0_name_15 : decode cX0_name 15 = .ok (.ireturn, 1) := by decide +kernel
/-- the law: name -/
def wX0_name (x0 : Nat) (x1 : Int32) (x2 : Nat) (σ : Hp) (post : Int32 → Hp → Prop) : Prop :=
(tg_ σ x0 = 1 ∧ ((∃ mc2 ms3 : Nat, mc2 ≤ bc_ σ ∧ ms3 ≤ bs_ σ ∧ wTX1_name x0 x1 (bu_ σ mc2 ms3) (fun τ6 => ∀ σ8, σ8 = bu_ τ6 (bc_ σ - mc2) (bs_ σ - ms3) → post (1 : Int32) σ8)) ∨ (wX1_name x0 x1 σ (fun r9 => (tg_ σ x2 = 103 ∧ (vp_in (0 : Int32) (ln_ σ x2) ∧ (∀ σ12, σ12 = wL_ σ x2 ((0 : Int32)).toNatClampNeg r9 → post (0 : Int32) σ12)))))))
set_option maxHeartbeats 4000000 in
theorem sX0_name {G : GG_} {p : Program} {l : Launch} {e : Env} {R : Room} {s : State} {m : MethodId} {args : Array Value} {below : List Frame} {meth : Method} {c : Code} {mc ms : Nat} (Y : (MX_ G p R s m args meth c cX0_name 4 RX0 (some Jvm.ClassFile.FieldType.int) 9 162 mc ms "name") ∧ l.flags = pinnedFlags ++ [noTraceFlag] ∧ ∀ c1, meth.code = some c1 → c1.exceptionTable.toList.map (fun h => (h.startPc, h.endPc, h.handlerPc, h.catchType)) = [((0 : Nat), (8 : Nat), (11 : Nat), (13 : Nat))]) {post : Int32 → Hp → Prop} {x0 : Nat} {x1 : Int32} {x2 : Nat} {σ : Hp} (hf : wX0_name x0 x1 x2 σ post) : WG_ G p l e R s m args below meth c (MQ below (QI_ G post) args s mc ms (FR_ G)) (BU_ R) 4 0 [(0, rv_ x0), (1, .int x1), (2, rv_ x2)] [] σ := by
  have ⟨⟨X, hlk, hr, hRf, hRl, hRc, hnm⟩, hfl, ho⟩ := Y
  have ⟨⟨hx, hb, _, hown, hts⟩, _, _⟩ := X
  intro H locs cells slots ls hP hL hB hl
  unfold wX0_name at hf
  refine p_aload_n hx hb dX0_name_0 rfl (lv_at hl 2 rfl) ?_
  refine lv_iconst (v := 0) hx hb dX0_name_1 (by decide) ?_
  refine p_aload_n hx hb dX0_name_2 rfl (lv_at hl 0 rfl) ?_
  refine lv_iload_n hx hb dX0_name_3 rfl (lv_at hl 1 rfl) ?_
  obtain ⟨ht1, hf⟩ := hf
  rcases hf with hf | hf
  · obtain ⟨mc2, ms3, hb4, hb5, hf⟩ := hf
    refine p_caught X hL ho (p_runVT X cf0_ (Pic_bu hP mc2 ms3) ht1 (metTX1_name l G _ _ _ _ _ _ hfl X.2.2 hf) (cwV 1 hts (lw_V q1265 q1266 q1267 q85 q1268) rfl rfl rfl (by decide +kernel) ⟨Nat.le_trans (Nat.le_of_ble_eq_true rfl) hRf, Nat.le_trans (Nat.le_of_ble_eq_true rfl) hRl⟩) rfl hl.1 rfl (by rw [(ca_i (ca_r ca_n))]; decide) dX0_name_4 (BU_call hB hb4 hb5)) (by decide) (by decide) (by decide) q1182 q1192 (fun xv7 τ6 H locs hf hP hL => ?_)
    have hB := BU_back (τ := τ6) hB hb4 hb5
    have hP := Pic_bu hP (bc_ σ - mc2) (bs_ σ - ms3)
    refine p_nmPB hP hB (fun σ8 hσ8 hP hB => ?_)
    have hf := hf σ8 hσ8
    have hl := lv_sub hl [] rfl
    refine p_astore_n (i := 3) hx hb dX0_name_11 rfl hl (by decide) trivial (fun ls hl => ?_)
    refine lv_iconst (v := 1) hx hb dX0_name_12 (by decide) ?_
    exact p_iret X hlk hP hL (BU_le hB hRc).1 (BU_le hB hRc).2 hr dX0_name_13 hf
  refine p_calll hL (p_runV X cf0_ hP ht1 (metX1_name l G _ _ _ _ X.2.2 hf) (cwV 1 hts (lw_V q1265 q1266 q1267 q85 q1268) rfl rfl rfl (by decide +kernel) ⟨Nat.le_trans (Nat.le_of_ble_eq_true rfl) hRf, Nat.le_trans (Nat.le_of_ble_eq_true rfl) hRl⟩) rfl hl.1 rfl (by rw [(ca_i (ca_r ca_n))]; decide) dX0_name_4 (BU_call hB (Nat.zero_le _) (Nat.zero_le _))) (fun r9 σ₁ H locs hf hP hL => ?_)
  obtain ⟨e₁, hf⟩ := hf
  rw [e₁] at hP
  obtain ⟨ht10, hf⟩ := hf
  obtain ⟨hi11, hf⟩ := hf
  refine p_last X hP hL ht10 (p_ow hP ht10 rfl) hi11 dX0_name_7 (fun H locs hP hL => ?_)
  refine p_nmPB hP hB (fun σ12 hσ12 hP hB => ?_)
  have hf := hf σ12 hσ12
  have ht1 : tg_ σ12 x0 = 1 := by rw [hσ12]; exact ht1
  have ht10 : tg_ σ12 x2 = 103 := by rw [hσ12]; exact ht10
  refine lv_goto (tgt := 14) hx hb dX0_name_8 (by decide) ?_
  refine lv_iconst (v := 0) hx hb dX0_name_14 (by decide) ?_
  exact p_iret X hlk hP hL (BU_le hB hRc).1 (BU_le hB hRc).2 hr dX0_name_15 hf
set_option maxHeartbeats 4000000 in
theorem metX0_name (l : Launch) (G : GG_) (mc ms : Nat) (x0 : Nat) (x1 : Int32) (x2 : Nat) (σ : Hp) (post : Int32 → Hp → Prop) (hfl : l.flags = pinnedFlags ++ [noTraceFlag]) (hG : GOK_ G) (hf : wX0_name x0 x1 x2 (bu_ σ mc ms) post) : Met l yX0_name (wsW_ yX0_name cX0_name 4 (some Jvm.ClassFile.FieldType.int) [((0 : Nat), (8 : Nat), (11 : Nat), (13 : Nat))]) { frames := 9, cells := mc, slots := ms, locals := 162 } (PC_ G [rv_ x0, .int x1, rv_ x2] (bu_ σ mc ms)) (QI_ G post) mc ms (FR_ G) := by
  refine va_MetW (hh := [((0 : Nat), (8 : Nat), (11 : Nat), (13 : Nat))]) (cc := cX0_name) (maxL := 4) (ret := (some Jvm.ClassFile.FieldType.int)) (by decide) rfl ?_
  intro p e s m args below meth c s₁ B hml hv
  obtain ⟨rfl, hP, hW⟩ := hv
  have hts0 := atoms_spec (ws := wsW_ yX0_name cX0_name 4 (some Jvm.ClassFile.FieldType.int) [((0 : Nat), (8 : Nat), (11 : Nat), (13 : Nat))]) B.pre
  have hts : ∀ w ∈ lw_all, w.before _ s = true := fun w h => hts0 w (List.mem_cons_of_mem _ h)
  obtain ⟨m1, meth1, c1, hn1, hm1, hc1, -, -, hemp, -⟩ := Cond.codeWith_spec (hts0 _ List.mem_cons_self)
  cases B.named.symm.trans hn1
  cases B.method.symm.trans hm1
  rw [lg_entry_eq]
  have hl := en_entry [rv_ x0, .int x1, rv_ x2] [1, 1, 1] (n := 4) (ca_r (ca_i (ca_r ca_n))) (by decide)
  exact sX0_name ⟨⟨⟨⟨B.exec, B.bytes, hml, findClass_of_methodNamed B.named, hts⟩, hW, hG⟩, B.notSynchronized, B.returns, Nat.le_refl _, Nat.le_refl _, ⟨rfl, rfl⟩, (name_of_methodNamed B.named B.method).1⟩, hfl, fun c2 h2 => by rw [hc1] at h2; cases h2; exact hemp⟩ hf _ _ _ _ _ hP (LO_nil G) (BU_in ⟨rfl, rfl⟩) hl
abbrev cX0_read : ByteArray := method_6_code
def yX0_read : MethodName := ⟨RX0, "read", "(LWriteOnceDisc;II[J)I"⟩
theorem dX0_read_0 : decode cX0_read 0 = .ok (.aload_n 3, 1) := by decide +kernel
theorem dX0_read_1 : decode cX0_read 1 = .ok (.iconst 0, 1) := by decide +kernel
theorem dX0_read_2 : decode cX0_read 2 = .ok (.aload_n 0, 1) := by decide +kernel
theorem dX0_read_3 : decode cX0_read 3 = .ok (.iload_n 1, 1) := by decide +kernel
theorem dX0_read_4 : decode cX0_read 4 = .ok (.iload_n 2, 1) := by decide +kernel
theorem dX0_read_5 : decode cX0_read 5 = .ok (.invokevirtual 22, 3) := by decide +kernel
theorem dX0_read_8 : decode cX0_read 8 = .ok (.i2l, 1) := by decide +kernel
theorem dX0_read_9 : decode cX0_read 9 = .ok (.lastore, 1) := by decide +kernel
theorem dX0_read_10 : decode cX0_read 10 = .ok (.goto 7, 3) := by decide +kernel
theorem dX0_read_13 : decode cX0_read 13 = .ok (.astore 4, 2) := by decide +kernel
theorem dX0_read_15 : decode cX0_read 15 = .ok (.iconst 1, 1) := by decide +kernel
theorem dX0_read_16 : decode cX0_read 16 = .ok (.ireturn, 1) := by decide +kernel
theorem dX0_read_17 : decode cX0_read 17 = .ok (.iconst 0, 1) := by decide +kernel
theorem dX0_read_18 : decode cX0_read 18 = .ok (.ireturn, 1) := by decide +kernel
/-- the law: read -/
def wX0_read (x0 : Nat) (x1 : Int32) (x2 : Int32) (x3 : Nat) (σ : Hp) (post : Int32 → Hp → Prop) : Prop :=
(tg_ σ x0 = 1 ∧ ((∃ mc2 ms3 : Nat, mc2 ≤ bc_ σ ∧ ms3 ≤ bs_ σ ∧ wTX1_read x0 x1 x2 (bu_ σ mc2 ms3) (fun τ6 => ∀ σ8, σ8 = bu_ τ6 (bc_ σ - mc2) (bs_ σ - ms3) → post (1 : Int32) σ8)) ∨ (wX1_read x0 x1 x2 σ (fun r9 => (tg_ σ x3 = 103 ∧ (vp_in (0 : Int32) (ln_ σ x3) ∧ (∀ σ12, σ12 = wL_ σ x3 ((0 : Int32)).toNatClampNeg (r9).toInt64 → post (0 : Int32) σ12)))))))
set_option maxHeartbeats 4000000 in
theorem sX0_read {G : GG_} {p : Program} {l : Launch} {e : Env} {R : Room} {s : State} {m : MethodId} {args : Array Value} {below : List Frame} {meth : Method} {c : Code} {mc ms : Nat} (Y : (MX_ G p R s m args meth c cX0_read 5 RX0 (some Jvm.ClassFile.FieldType.int) 9 164 mc ms "read") ∧ l.flags = pinnedFlags ++ [noTraceFlag] ∧ ∀ c1, meth.code = some c1 → c1.exceptionTable.toList.map (fun h => (h.startPc, h.endPc, h.handlerPc, h.catchType)) = [((0 : Nat), (10 : Nat), (13 : Nat), (13 : Nat))]) {post : Int32 → Hp → Prop} {x0 : Nat} {x1 : Int32} {x2 : Int32} {x3 : Nat} {σ : Hp} (hf : wX0_read x0 x1 x2 x3 σ post) : WG_ G p l e R s m args below meth c (MQ below (QI_ G post) args s mc ms (FR_ G)) (BU_ R) 5 0 [(0, rv_ x0), (1, .int x1), (2, .int x2), (3, rv_ x3)] [] σ := by
  have ⟨⟨X, hlk, hr, hRf, hRl, hRc, hnm⟩, hfl, ho⟩ := Y
  have ⟨⟨hx, hb, _, hown, hts⟩, _, _⟩ := X
  intro H locs cells slots ls hP hL hB hl
  unfold wX0_read at hf
  refine p_aload_n hx hb dX0_read_0 rfl (lv_at hl 3 rfl) ?_
  refine lv_iconst (v := 0) hx hb dX0_read_1 (by decide) ?_
  refine p_aload_n hx hb dX0_read_2 rfl (lv_at hl 0 rfl) ?_
  refine lv_iload_n hx hb dX0_read_3 rfl (lv_at hl 1 rfl) ?_
  refine lv_iload_n hx hb dX0_read_4 rfl (lv_at hl 2 rfl) ?_
  obtain ⟨ht1, hf⟩ := hf
  rcases hf with hf | hf
  · obtain ⟨mc2, ms3, hb4, hb5, hf⟩ := hf
    refine p_caught X hL ho (p_runVT X cf0_ (Pic_bu hP mc2 ms3) ht1 (metTX1_read l G _ _ _ _ _ _ _ hfl X.2.2 hf) (cwV 2 hts (lw_V q1272 q1273 q1274 q85 q1275) rfl rfl rfl (by decide +kernel) ⟨Nat.le_trans (Nat.le_of_ble_eq_true rfl) hRf, Nat.le_trans (Nat.le_of_ble_eq_true rfl) hRl⟩) rfl hl.1 rfl (by rw [(ca_i (ca_r ca_n))]; decide) dX0_read_5 (BU_call hB hb4 hb5)) (by decide) (by decide) (by decide) q1182 q1192 (fun xv7 τ6 H locs hf hP hL => ?_)
    have hB := BU_back (τ := τ6) hB hb4 hb5
    have hP := Pic_bu hP (bc_ σ - mc2) (bs_ σ - ms3)
    refine p_nmPB hP hB (fun σ8 hσ8 hP hB => ?_)
    have hf := hf σ8 hσ8
    have hl := lv_sub hl [] rfl
    refine p_astore (i := 4) hx hb dX0_read_13 hl (by decide) trivial (fun ls hl => ?_)
    refine lv_iconst (v := 1) hx hb dX0_read_15 (by decide) ?_
    exact p_iret X hlk hP hL (BU_le hB hRc).1 (BU_le hB hRc).2 hr dX0_read_16 hf
  refine p_calli hL (p_runV X cf0_ hP ht1 (metX1_read l G _ _ _ _ _ X.2.2 hf) (cwV 2 hts (lw_V q1272 q1273 q1274 q85 q1275) rfl rfl rfl (by decide +kernel) ⟨Nat.le_trans (Nat.le_of_ble_eq_true rfl) hRf, Nat.le_trans (Nat.le_of_ble_eq_true rfl) hRl⟩) rfl hl.1 rfl (by rw [(ca_i (ca_r ca_n))]; decide) dX0_read_5 (BU_call hB (Nat.zero_le _) (Nat.zero_le _))) (fun r9 σ₁ H locs hf hP hL => ?_)
  obtain ⟨e₁, hf⟩ := hf
  rw [e₁] at hP
  refine lv_i2l hx hb dX0_read_8 rfl ?_
  obtain ⟨ht10, hf⟩ := hf
  obtain ⟨hi11, hf⟩ := hf
  refine p_last X hP hL ht10 (p_ow hP ht10 rfl) hi11 dX0_read_9 (fun H locs hP hL => ?_)
  refine p_nmPB hP hB (fun σ12 hσ12 hP hB => ?_)
  have hf := hf σ12 hσ12
  have ht1 : tg_ σ12 x0 = 1 := by rw [hσ12]; exact ht1
  have ht10 : tg_ σ12 x3 = 103 := by rw [hσ12]; exact ht10
  refine lv_goto (tgt := 17) hx hb dX0_read_10 (by decide) ?_
  refine lv_iconst (v := 0) hx hb dX0_read_17 (by decide) ?_
  exact p_iret X hlk hP hL (BU_le hB hRc).1 (BU_le hB hRc).2 hr dX0_read_18 hf
set_option maxHeartbeats 4000000 in
theorem metX0_read (l : Launch) (G : GG_) (mc ms : Nat) (x0 : Nat) (x1 : Int32) (x2 : Int32) (x3 : Nat) (σ : Hp) (post : Int32 → Hp → Prop) (hfl : l.flags = pinnedFlags ++ [noTraceFlag]) (hG : GOK_ G) (hf : wX0_read x0 x1 x2 x3 (bu_ σ mc ms) post) : Met l yX0_read (wsW_ yX0_read cX0_read 5 (some Jvm.ClassFile.FieldType.int) [((0 : Nat), (10 : Nat), (13 : Nat), (13 : Nat))]) { frames := 9, cells := mc, slots := ms, locals := 164 } (PC_ G [rv_ x0, .int x1, .int x2, rv_ x3] (bu_ σ mc ms)) (QI_ G post) mc ms (FR_ G) := by
  refine va_MetW (hh := [((0 : Nat), (10 : Nat), (13 : Nat), (13 : Nat))]) (cc := cX0_read) (maxL := 5) (ret := (some Jvm.ClassFile.FieldType.int)) (by decide) rfl ?_
  intro p e s m args below meth c s₁ B hml hv
  obtain ⟨rfl, hP, hW⟩ := hv
  have hts0 := atoms_spec (ws := wsW_ yX0_read cX0_read 5 (some Jvm.ClassFile.FieldType.int) [((0 : Nat), (10 : Nat), (13 : Nat), (13 : Nat))]) B.pre
  have hts : ∀ w ∈ lw_all, w.before _ s = true := fun w h => hts0 w (List.mem_cons_of_mem _ h)
  obtain ⟨m1, meth1, c1, hn1, hm1, hc1, -, -, hemp, -⟩ := Cond.codeWith_spec (hts0 _ List.mem_cons_self)
  cases B.named.symm.trans hn1
  cases B.method.symm.trans hm1
  rw [lg_entry_eq]
  have hl := en_entry [rv_ x0, .int x1, .int x2, rv_ x3] [1, 1, 1, 1] (n := 5) (ca_r (ca_i (ca_i (ca_r ca_n)))) (by decide)
  exact sX0_read ⟨⟨⟨⟨B.exec, B.bytes, hml, findClass_of_methodNamed B.named, hts⟩, hW, hG⟩, B.notSynchronized, B.returns, Nat.le_refl _, Nat.le_refl _, ⟨rfl, rfl⟩, (name_of_methodNamed B.named B.method).1⟩, hfl, fun c2 h2 => by rw [hc1] at h2; cases h2; exact hemp⟩ hf _ _ _ _ _ hP (LO_nil G) (BU_in ⟨rfl, rfl⟩) hl
abbrev cX0_tree : ByteArray := method_7_code
def yX0_tree : MethodName := ⟨RX0, "tree", "(LWriteOnceDisc;II[J)I"⟩
theorem dX0_tree_0 : decode cX0_tree 0 = .ok (.aload_n 3, 1) := by decide +kernel
theorem dX0_tree_1 : decode cX0_tree 1 = .ok (.iconst 0, 1) := by decide +kernel
theorem dX0_tree_2 : decode cX0_tree 2 = .ok (.aload_n 0, 1) := by decide +kernel
theorem dX0_tree_3 : decode cX0_tree 3 = .ok (.iload_n 1, 1) := by decide +kernel
theorem dX0_tree_4 : decode cX0_tree 4 = .ok (.iload_n 2, 1) := by decide +kernel
theorem dX0_tree_5 : decode cX0_tree 5 = .ok (.invokevirtual 25, 3) := by decide +kernel
theorem dX0_tree_8 : decode cX0_tree 8 = .ok (.i2l, 1) := by decide +kernel
theorem dX0_tree_9 : decode cX0_tree 9 = .ok (.lastore, 1) := by decide +kernel
theorem dX0_tree_10 : decode cX0_tree 10 = .ok (.goto 7, 3) := by decide +kernel
theorem dX0_tree_13 : decode cX0_tree 13 = .ok (.astore 4, 2) := by decide +kernel
theorem dX0_tree_15 : decode cX0_tree 15 = .ok (.iconst 1, 1) := by decide +kernel
theorem dX0_tree_16 : decode cX0_tree 16 = .ok (.ireturn, 1) := by decide +kernel
theorem dX0_tree_17 : decode cX0_tree 17 = .ok (.iconst 0, 1) := by decide +kernel
theorem dX0_tree_18 : decode cX0_tree 18 = .ok (.ireturn, 1) := by decide +kernel
/-- the law: tree -/
def wX0_tree (x0 : Nat) (x1 : Int32) (x2 : Int32) (x3 : Nat) (σ : Hp) (post : Int32 → Hp → Prop) : Prop :=
(tg_ σ x0 = 1 ∧ ((∃ mc2 ms3 : Nat, mc2 ≤ bc_ σ ∧ ms3 ≤ bs_ σ ∧ wTX1_tree x0 x1 x2 (bu_ σ mc2 ms3) (fun τ6 => ∀ σ8, σ8 = bu_ τ6 (bc_ σ - mc2) (bs_ σ - ms3) → post (1 : Int32) σ8)) ∨ (wX1_tree x0 x1 x2 σ (fun r9 => (tg_ σ x3 = 103 ∧ (vp_in (0 : Int32) (ln_ σ x3) ∧ (∀ σ12, σ12 = wL_ σ x3 ((0 : Int32)).toNatClampNeg (r9).toInt64 → post (0 : Int32) σ12)))))))
set_option maxHeartbeats 4000000 in
theorem sX0_tree {G : GG_} {p : Program} {l : Launch} {e : Env} {R : Room} {s : State} {m : MethodId} {args : Array Value} {below : List Frame} {meth : Method} {c : Code} {mc ms : Nat} (Y : (MX_ G p R s m args meth c cX0_tree 5 RX0 (some Jvm.ClassFile.FieldType.int) 8 143 mc ms "tree") ∧ l.flags = pinnedFlags ++ [noTraceFlag] ∧ ∀ c1, meth.code = some c1 → c1.exceptionTable.toList.map (fun h => (h.startPc, h.endPc, h.handlerPc, h.catchType)) = [((0 : Nat), (10 : Nat), (13 : Nat), (13 : Nat))]) {post : Int32 → Hp → Prop} {x0 : Nat} {x1 : Int32} {x2 : Int32} {x3 : Nat} {σ : Hp} (hf : wX0_tree x0 x1 x2 x3 σ post) : WG_ G p l e R s m args below meth c (MQ below (QI_ G post) args s mc ms (FR_ G)) (BU_ R) 5 0 [(0, rv_ x0), (1, .int x1), (2, .int x2), (3, rv_ x3)] [] σ := by
  have ⟨⟨X, hlk, hr, hRf, hRl, hRc, hnm⟩, hfl, ho⟩ := Y
  have ⟨⟨hx, hb, _, hown, hts⟩, _, _⟩ := X
  intro H locs cells slots ls hP hL hB hl
  unfold wX0_tree at hf
  refine p_aload_n hx hb dX0_tree_0 rfl (lv_at hl 3 rfl) ?_
  refine lv_iconst (v := 0) hx hb dX0_tree_1 (by decide) ?_
  refine p_aload_n hx hb dX0_tree_2 rfl (lv_at hl 0 rfl) ?_
  refine lv_iload_n hx hb dX0_tree_3 rfl (lv_at hl 1 rfl) ?_
  refine lv_iload_n hx hb dX0_tree_4 rfl (lv_at hl 2 rfl) ?_
  obtain ⟨ht1, hf⟩ := hf
  rcases hf with hf | hf
  · obtain ⟨mc2, ms3, hb4, hb5, hf⟩ := hf
    refine p_caught X hL ho (p_runVT X cf0_ (Pic_bu hP mc2 ms3) ht1 (metTX1_tree l G _ _ _ _ _ _ _ hfl X.2.2 hf) (cwV 2 hts (lw_V q1279 q1280 q1281 q85 q1282) rfl rfl rfl (by decide +kernel) ⟨Nat.le_trans (Nat.le_of_ble_eq_true rfl) hRf, Nat.le_trans (Nat.le_of_ble_eq_true rfl) hRl⟩) rfl hl.1 rfl (by rw [(ca_i (ca_r ca_n))]; decide) dX0_tree_5 (BU_call hB hb4 hb5)) (by decide) (by decide) (by decide) q1182 q1192 (fun xv7 τ6 H locs hf hP hL => ?_)
    have hB := BU_back (τ := τ6) hB hb4 hb5
    have hP := Pic_bu hP (bc_ σ - mc2) (bs_ σ - ms3)
    refine p_nmPB hP hB (fun σ8 hσ8 hP hB => ?_)
    have hf := hf σ8 hσ8
    have hl := lv_sub hl [] rfl
    refine p_astore (i := 4) hx hb dX0_tree_13 hl (by decide) trivial (fun ls hl => ?_)
    refine lv_iconst (v := 1) hx hb dX0_tree_15 (by decide) ?_
    exact p_iret X hlk hP hL (BU_le hB hRc).1 (BU_le hB hRc).2 hr dX0_tree_16 hf
  refine p_calli hL (p_runV X cf0_ hP ht1 (metX1_tree l G _ _ _ _ _ X.2.2 hf) (cwV 2 hts (lw_V q1279 q1280 q1281 q85 q1282) rfl rfl rfl (by decide +kernel) ⟨Nat.le_trans (Nat.le_of_ble_eq_true rfl) hRf, Nat.le_trans (Nat.le_of_ble_eq_true rfl) hRl⟩) rfl hl.1 rfl (by rw [(ca_i (ca_r ca_n))]; decide) dX0_tree_5 (BU_call hB (Nat.zero_le _) (Nat.zero_le _))) (fun r9 σ₁ H locs hf hP hL => ?_)
  obtain ⟨e₁, hf⟩ := hf
  rw [e₁] at hP
  refine lv_i2l hx hb dX0_tree_8 rfl ?_
  obtain ⟨ht10, hf⟩ := hf
  obtain ⟨hi11, hf⟩ := hf
  refine p_last X hP hL ht10 (p_ow hP ht10 rfl) hi11 dX0_tree_9 (fun H locs hP hL => ?_)
  refine p_nmPB hP hB (fun σ12 hσ12 hP hB => ?_)
  have hf := hf σ12 hσ12
  have ht1 : tg_ σ12 x0 = 1 := by rw [hσ12]; exact ht1
  have ht10 : tg_ σ12 x3 = 103 := by rw [hσ12]; exact ht10
  refine lv_goto (tgt := 17) hx hb dX0_tree_10 (by decide) ?_
  refine lv_iconst (v := 0) hx hb dX0_tree_17 (by decide) ?_
  exact p_iret X hlk hP hL (BU_le hB hRc).1 (BU_le hB hRc).2 hr dX0_tree_18 hf
set_option maxHeartbeats 4000000 in
theorem metX0_tree (l : Launch) (G : GG_) (mc ms : Nat) (x0 : Nat) (x1 : Int32) (x2 : Int32) (x3 : Nat) (σ : Hp) (post : Int32 → Hp → Prop) (hfl : l.flags = pinnedFlags ++ [noTraceFlag]) (hG : GOK_ G) (hf : wX0_tree x0 x1 x2 x3 (bu_ σ mc ms) post) : Met l yX0_tree (wsW_ yX0_tree cX0_tree 5 (some Jvm.ClassFile.FieldType.int) [((0 : Nat), (10 : Nat), (13 : Nat), (13 : Nat))]) { frames := 8, cells := mc, slots := ms, locals := 143 } (PC_ G [rv_ x0, .int x1, .int x2, rv_ x3] (bu_ σ mc ms)) (QI_ G post) mc ms (FR_ G) := by
  refine va_MetW (hh := [((0 : Nat), (10 : Nat), (13 : Nat), (13 : Nat))]) (cc := cX0_tree) (maxL := 5) (ret := (some Jvm.ClassFile.FieldType.int)) (by decide) rfl ?_
  intro p e s m args below meth c s₁ B hml hv
  obtain ⟨rfl, hP, hW⟩ := hv
  have hts0 := atoms_spec (ws := wsW_ yX0_tree cX0_tree 5 (some Jvm.ClassFile.FieldType.int) [((0 : Nat), (10 : Nat), (13 : Nat), (13 : Nat))]) B.pre
  have hts : ∀ w ∈ lw_all, w.before _ s = true := fun w h => hts0 w (List.mem_cons_of_mem _ h)
  obtain ⟨m1, meth1, c1, hn1, hm1, hc1, -, -, hemp, -⟩ := Cond.codeWith_spec (hts0 _ List.mem_cons_self)
  cases B.named.symm.trans hn1
  cases B.method.symm.trans hm1
  rw [lg_entry_eq]
  have hl := en_entry [rv_ x0, .int x1, .int x2, rv_ x3] [1, 1, 1, 1] (n := 5) (ca_r (ca_i (ca_i (ca_r ca_n)))) (by decide)
  exact sX0_tree ⟨⟨⟨⟨B.exec, B.bytes, hml, findClass_of_methodNamed B.named, hts⟩, hW, hG⟩, B.notSynchronized, B.returns, Nat.le_refl _, Nat.le_refl _, ⟨rfl, rfl⟩, (name_of_methodNamed B.named B.method).1⟩, hfl, fun c2 h2 => by rw [hc1] at h2; cases h2; exact hemp⟩ hf _ _ _ _ _ hP (LO_nil G) (BU_in ⟨rfl, rfl⟩) hl
