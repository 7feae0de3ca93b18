set_option maxRecDepth 100000
abbrev cX9_add : ByteArray := prog_11_method_17_code
def yX9_add : MethodName := ⟨RX9, "add", "(IJZIIZ)I"⟩
theorem dX9_add_0 : decode cX9_add 0 = .ok (.aload_n 0, 1) := by decide +kernel
theorem dX9_add_1 : decode cX9_add 1 = .ok (.getfield 125, 3) := by decide +kernel
theorem dX9_add_4 : decode cX9_add 4 = .ok (.ifCond .eq 6, 3) := by decide +kernel
theorem dX9_add_7 : decode cX9_add 7 = .ok (.bipush (-4), 2) := by decide +kernel
theorem dX9_add_9 : decode cX9_add 9 = .ok (.ireturn, 1) := by decide +kernel
theorem dX9_add_10 : decode cX9_add 10 = .ok (.lload_n 2, 1) := by decide +kernel
theorem dX9_add_11 : decode cX9_add 11 = .ok (.invokestatic 135, 3) := by decide +kernel
theorem dX9_add_14 : decode cX9_add 14 = .ok (.lstore 8, 2) := by decide +kernel
theorem dX9_add_16 : decode cX9_add 16 = .ok (.iload 7, 2) := by decide +kernel
theorem dX9_add_18 : decode cX9_add 18 = .ok (.ifCond .eq 44, 3) := by decide +kernel
theorem dX9_add_21 : decode cX9_add 21 = .ok (.aload_n 0, 1) := by decide +kernel
theorem dX9_add_22 : decode cX9_add 22 = .ok (.iload_n 1, 1) := by decide +kernel
theorem dX9_add_23 : decode cX9_add 23 = .ok (.invokevirtual 139, 3) := by decide +kernel
theorem dX9_add_26 : decode cX9_add 26 = .ok (.ifCond .eq 36, 3) := by decide +kernel
theorem dX9_add_29 : decode cX9_add 29 = .ok (.aload_n 0, 1) := by decide +kernel
theorem dX9_add_30 : decode cX9_add 30 = .ok (.getfield 27, 3) := by decide +kernel
theorem dX9_add_33 : decode cX9_add 33 = .ok (.iload_n 1, 1) := by decide +kernel
theorem dX9_add_34 : decode cX9_add 34 = .ok (.baload, 1) := by decide +kernel
theorem dX9_add_35 : decode cX9_add 35 = .ok (.ifCond .eq 27, 3) := by decide +kernel
theorem dX9_add_38 : decode cX9_add 38 = .ok (.lload 8, 2) := by decide +kernel
theorem dX9_add_40 : decode cX9_add 40 = .ok (.lconst 0, 1) := by decide +kernel
theorem dX9_add_41 : decode cX9_add 41 = .ok (.lcmp, 1) := by decide +kernel
theorem dX9_add_42 : decode cX9_add 42 = .ok (.ifCond .eq 20, 3) := by decide +kernel
theorem dX9_add_45 : decode cX9_add 45 = .ok (.iload 4, 2) := by decide +kernel
theorem dX9_add_47 : decode cX9_add 47 = .ok (.ifCond .eq 18, 3) := by decide +kernel
theorem dX9_add_50 : decode cX9_add 50 = .ok (.aload_n 0, 1) := by decide +kernel
theorem dX9_add_51 : decode cX9_add 51 = .ok (.iload_n 1, 1) := by decide +kernel
theorem dX9_add_52 : decode cX9_add 52 = .ok (.invokevirtual 142, 3) := by decide +kernel
theorem dX9_add_55 : decode cX9_add 55 = .ok (.iconst 1, 1) := by decide +kernel
theorem dX9_add_56 : decode cX9_add 56 = .ok (.iadd, 1) := by decide +kernel
theorem dX9_add_57 : decode cX9_add 57 = .ok (.bipush 6, 2) := by decide +kernel
theorem dX9_add_59 : decode cX9_add 59 = .ok (.if_icmp .le 6, 3) := by decide +kernel
theorem dX9_add_62 : decode cX9_add 62 = .ok (.bipush (-2), 2) := by decide +kernel
theorem dX9_add_64 : decode cX9_add 64 = .ok (.ireturn, 1) := by decide +kernel
theorem dX9_add_65 : decode cX9_add 65 = .ok (.aload_n 0, 1) := by decide +kernel
theorem dX9_add_66 : decode cX9_add 66 = .ok (.iload_n 1, 1) := by decide +kernel
theorem dX9_add_67 : decode cX9_add 67 = .ok (.lload 8, 2) := by decide +kernel
theorem dX9_add_69 : decode cX9_add 69 = .ok (.invokevirtual 146, 3) := by decide +kernel
theorem dX9_add_72 : decode cX9_add 72 = .ok (.ifCond .lt 6, 3) := by decide +kernel
theorem dX9_add_75 : decode cX9_add 75 = .ok (.bipush (-5), 2) := by decide +kernel
theorem dX9_add_77 : decode cX9_add 77 = .ok (.ireturn, 1) := by decide +kernel
theorem dX9_add_78 : decode cX9_add 78 = .ok (.aload_n 0, 1) := by decide +kernel
theorem dX9_add_79 : decode cX9_add 79 = .ok (.invokevirtual 150, 3) := by decide +kernel
theorem dX9_add_82 : decode cX9_add 82 = .ok (.bipush 30, 2) := by decide +kernel
theorem dX9_add_84 : decode cX9_add 84 = .ok (.if_icmp .ne 6, 3) := by decide +kernel
theorem dX9_add_87 : decode cX9_add 87 = .ok (.bipush (-3), 2) := by decide +kernel
theorem dX9_add_89 : decode cX9_add 89 = .ok (.ireturn, 1) := by decide +kernel
theorem dX9_add_90 : decode cX9_add 90 = .ok (.aload_n 0, 1) := by decide +kernel
theorem dX9_add_91 : decode cX9_add 91 = .ok (.getfield 112, 3) := by decide +kernel
theorem dX9_add_94 : decode cX9_add 94 = .ok (.istore 10, 2) := by decide +kernel
theorem dX9_add_96 : decode cX9_add 96 = .ok (.aload_n 0, 1) := by decide +kernel
theorem dX9_add_97 : decode cX9_add 97 = .ok (.dup, 1) := by decide +kernel
theorem dX9_add_98 : decode cX9_add 98 = .ok (.getfield 112, 3) := by decide +kernel
theorem dX9_add_101 : decode cX9_add 101 = .ok (.iconst 1, 1) := by decide +kernel
theorem dX9_add_102 : decode cX9_add 102 = .ok (.iadd, 1) := by decide +kernel
theorem dX9_add_103 : decode cX9_add 103 = .ok (.putfield 112, 3) := by decide +kernel
theorem dX9_add_106 : decode cX9_add 106 = .ok (.aload_n 0, 1) := by decide +kernel
theorem dX9_add_107 : decode cX9_add 107 = .ok (.getfield 24, 3) := by decide +kernel
theorem dX9_add_110 : decode cX9_add 110 = .ok (.iload 10, 2) := by decide +kernel
theorem dX9_add_112 : decode cX9_add 112 = .ok (.iconst 1, 1) := by decide +kernel
theorem dX9_add_113 : decode cX9_add 113 = .ok (.bastore, 1) := by decide +kernel
theorem dX9_add_114 : decode cX9_add 114 = .ok (.aload_n 0, 1) := by decide +kernel
theorem dX9_add_115 : decode cX9_add 115 = .ok (.getfield 27, 3) := by decide +kernel
theorem dX9_add_118 : decode cX9_add 118 = .ok (.iload 10, 2) := by decide +kernel
theorem dX9_add_120 : decode cX9_add 120 = .ok (.iload 4, 2) := by decide +kernel
theorem dX9_add_122 : decode cX9_add 122 = .ok (.bastore, 1) := by decide +kernel
theorem dX9_add_123 : decode cX9_add 123 = .ok (.aload_n 0, 1) := by decide +kernel
theorem dX9_add_124 : decode cX9_add 124 = .ok (.getfield 30, 3) := by decide +kernel
theorem dX9_add_127 : decode cX9_add 127 = .ok (.iload 10, 2) := by decide +kernel
theorem dX9_add_129 : decode cX9_add 129 = .ok (.iload_n 1, 1) := by decide +kernel
theorem dX9_add_130 : decode cX9_add 130 = .ok (.iastore, 1) := by decide +kernel
theorem dX9_add_131 : decode cX9_add 131 = .ok (.aload_n 0, 1) := by decide +kernel
theorem dX9_add_132 : decode cX9_add 132 = .ok (.getfield 34, 3) := by decide +kernel
theorem dX9_add_135 : decode cX9_add 135 = .ok (.iload 10, 2) := by decide +kernel
theorem dX9_add_137 : decode cX9_add 137 = .ok (.lload 8, 2) := by decide +kernel
theorem dX9_add_139 : decode cX9_add 139 = .ok (.lastore, 1) := by decide +kernel
theorem dX9_add_140 : decode cX9_add 140 = .ok (.aload_n 0, 1) := by decide +kernel
theorem dX9_add_141 : decode cX9_add 141 = .ok (.getfield 38, 3) := by decide +kernel
theorem dX9_add_144 : decode cX9_add 144 = .ok (.iload 10, 2) := by decide +kernel
theorem dX9_add_146 : decode cX9_add 146 = .ok (.iload 5, 2) := by decide +kernel
theorem dX9_add_148 : decode cX9_add 148 = .ok (.iastore, 1) := by decide +kernel
theorem dX9_add_149 : decode cX9_add 149 = .ok (.aload_n 0, 1) := by decide +kernel
theorem dX9_add_150 : decode cX9_add 150 = .ok (.getfield 41, 3) := by decide +kernel
theorem dX9_add_153 : decode cX9_add 153 = .ok (.iload 10, 2) := by decide +kernel
theorem dX9_add_155 : decode cX9_add 155 = .ok (.iload 6, 2) := by decide +kernel
theorem dX9_add_157 : decode cX9_add 157 = .ok (.iastore, 1) := by decide +kernel
theorem dX9_add_158 : decode cX9_add 158 = .ok (.aload_n 0, 1) := by decide +kernel
theorem dX9_add_159 : decode cX9_add 159 = .ok (.getfield 44, 3) := by decide +kernel
theorem dX9_add_162 : decode cX9_add 162 = .ok (.iload 10, 2) := by decide +kernel
theorem dX9_add_164 : decode cX9_add 164 = .ok (.iconst 0, 1) := by decide +kernel
theorem dX9_add_165 : decode cX9_add 165 = .ok (.bastore, 1) := by decide +kernel
theorem dX9_add_166 : decode cX9_add 166 = .ok (.aload_n 0, 1) := by decide +kernel
theorem dX9_add_167 : decode cX9_add 167 = .ok (.getfield 47, 3) := by decide +kernel
theorem dX9_add_170 : decode cX9_add 170 = .ok (.iload 10, 2) := by decide +kernel
theorem dX9_add_172 : decode cX9_add 172 = .ok (.iconst 0, 1) := by decide +kernel
theorem dX9_add_173 : decode cX9_add 173 = .ok (.iastore, 1) := by decide +kernel
theorem dX9_add_174 : decode cX9_add 174 = .ok (.iload 10, 2) := by decide +kernel
theorem dX9_add_176 : decode cX9_add 176 = .ok (.ireturn, 1) := by decide +kernel
/-- WriteOnceDiscModel.add(IJZIIZ)I -/
def wX9_add_L65 (post : Int32 → Hp → Prop) (x0 : Nat) (x1 : Int32) (x4 : Int32) (x5 : Int32) (x6 : Int32) (x8 : Int64) (σ : Hp) : Prop :=
(tg_ σ x0 = 9 ∧ (wX9_namedIn x0 x1 x8 σ (fun r2 => ((r2 < 0 →
  (wX9_alive x0  σ (fun r4 => ((¬ r4 = (30 : Int32) →
   (∀ y6 : Int32, y6 = (fI_ σ 8 10 x0) → (∀ σ7, σ7 = sI_ σ 8 10 x0 ((fI_ σ 8 10 x0) + (1 : Int32)) → (tg_ σ7 (fR_ σ7 8 11 x0) = 101 ∧ (vp_in y6 (ln_ σ7 (fR_ σ7 8 11 x0)) ∧ (∀ σ10, σ10 = wI_ σ7 (fR_ σ7 8 11 x0) (y6).toNatClampNeg (vp_nar .boolean (1 : Int32)) → (tg_ σ10 (fR_ σ10 8 12 x0) = 101 ∧ (vp_in y6 (ln_ σ10 (fR_ σ10 8 12 x0)) ∧ (∀ σ13, σ13 = wI_ σ10 (fR_ σ10 8 12 x0) (y6).toNatClampNeg (vp_nar .boolean x4) → (tg_ σ13 (fR_ σ13 8 13 x0) = 102 ∧ (lo_ σ13 < (fR_ σ13 8 13 x0) ∧ (vp_in y6 (ln_ σ13 (fR_ σ13 8 13 x0)) ∧ (∀ σ17, σ17 = wI_ σ13 (fR_ σ13 8 13 x0) (y6).toNatClampNeg x1 → (tg_ σ17 (fR_ σ17 8 14 x0) = 103 ∧ (vp_in y6 (ln_ σ17 (fR_ σ17 8 14 x0)) ∧ (∀ σ20, σ20 = wL_ σ17 (fR_ σ17 8 14 x0) (y6).toNatClampNeg x8 → (tg_ σ20 (fR_ σ20 8 15 x0) = 102 ∧ (lo_ σ20 < (fR_ σ20 8 15 x0) ∧ (vp_in y6 (ln_ σ20 (fR_ σ20 8 15 x0)) ∧ (∀ σ24, σ24 = wI_ σ20 (fR_ σ20 8 15 x0) (y6).toNatClampNeg x5 → (tg_ σ24 (fR_ σ24 8 16 x0) = 102 ∧ (lo_ σ24 < (fR_ σ24 8 16 x0) ∧ (vp_in y6 (ln_ σ24 (fR_ σ24 8 16 x0)) ∧ (∀ σ28, σ28 = wI_ σ24 (fR_ σ24 8 16 x0) (y6).toNatClampNeg x6 → (tg_ σ28 (fR_ σ28 8 17 x0) = 101 ∧ (vp_in y6 (ln_ σ28 (fR_ σ28 8 17 x0)) ∧ (∀ σ31, σ31 = wI_ σ28 (fR_ σ28 8 17 x0) (y6).toNatClampNeg (vp_nar .boolean (0 : Int32)) → (tg_ σ31 (fR_ σ31 8 18 x0) = 102 ∧ (lo_ σ31 < (fR_ σ31 8 18 x0) ∧ (vp_in y6 (ln_ σ31 (fR_ σ31 8 18 x0)) ∧ (∀ σ35, σ35 = wI_ σ31 (fR_ σ31 8 18 x0) (y6).toNatClampNeg (0 : Int32) → post y6 σ35))))))))))))))))))))))))))))))) ∧
  (r4 = (30 : Int32) →
   post (-3 : Int32) σ))))) ∧
 (¬ r2 < 0 →
  post (-5 : Int32) σ)))))
def wX9_add (x0 : Nat) (x1 : Int32) (x2 : Int64) (x4 : Int32) (x5 : Int32) (x6 : Int32) (x7 : Int32) (σ : Hp) (post : Int32 → Hp → Prop) : Prop :=
(tg_ σ x0 = 9 ∧ (((fI_ σ 8 6 x0) = 0 →
  (wX9_told x2 σ (fun r38 => ((x7 = 0 →
   post (-2 : Int32) σ) ∧
  (¬ x7 = 0 →
   (wX9_isNode x0 x1 σ (fun r40 => ((r40 = 0 →
    post (-2 : Int32) σ) ∧
   (¬ r40 = 0 →
    (tg_ σ (fR_ σ 8 12 x0) = 101 ∧ (vp_in x1 (ln_ σ (fR_ σ 8 12 x0)) ∧ (((aI_ σ (fR_ σ 8 12 x0) (x1).toNatClampNeg) = 0 →
     post (-2 : Int32) σ) ∧
    (¬ (aI_ σ (fR_ σ 8 12 x0) (x1).toNatClampNeg) = 0 →
     (((lg_cmp r38 (0 : Int64)) = 0 →
      post (-2 : Int32) σ) ∧
     (¬ (lg_cmp r38 (0 : Int64)) = 0 →
      ((x4 = 0 →
       wX9_add_L65 post x0 x1 x4 x5 x6 r38 σ) ∧
      (¬ x4 = 0 →
       (wX9_depthOf x0 x1 σ (fun r47 => (((r47 + (1 : Int32)) ≤ (6 : Int32) →
        wX9_add_L65 post x0 x1 x4 x5 x6 r38 σ) ∧
       (¬ (r47 + (1 : Int32)) ≤ (6 : Int32) →
        post (-2 : Int32) σ))))))))))))))))))))) ∧
 (¬ (fI_ σ 8 6 x0) = 0 →
  post (-4 : Int32) σ)))
set_option maxHeartbeats 4000000 in
theorem sX9_add_L65 {G : GG_} {p : Program} {l : Launch} {e : Env} {R : Room} {s : State} {m : MethodId} {args : Array Value} {below : List Frame} {meth : Method} {c : Code} (Y : MX_ G p R s m args meth c cX9_add 11 RX9 (some Jvm.ClassFile.FieldType.int) 3 65 0 0 "add") {post : Int32 → Hp → Prop} {x0 : Nat} {x1 : Int32} {x4 : Int32} {x5 : Int32} {x6 : Int32} {x8 : Int64} {σ : Hp} (hf : wX9_add_L65 post x0 x1 x4 x5 x6 x8 σ) : WG_ G p l e R s m args below meth c (MQ below (QI_ G post) args s 0 0 (FR_ G)) BN_ 11 65 [(0, rv_ x0), (1, .int x1), (4, .int x4), (5, .int x5), (6, .int x6), (8, .long x8)] [] σ := by
  have ⟨X, hlk, hr, hRf, hRl, hRc, hnm⟩ := Y
  have ⟨⟨hx, hb, _, hown, hts⟩, _, _⟩ := X
  intro H locs cells slots ls hP hL hB hl
  obtain ⟨rfl, rfl⟩ := hB
  unfold wX9_add_L65 at hf
  refine p_aload_n hx hb dX9_add_65 rfl (lv_at hl 0 rfl) ?_
  refine lv_iload_n hx hb dX9_add_66 rfl (lv_at hl 1 rfl) ?_
  refine lv_lload hx hb dX9_add_67 (lv_at hl 5 rfl) ?_
  obtain ⟨ht1, hf⟩ := hf
  refine p_calli hL (p_runV X cf8_ hP ht1 (metX9_namedIn l G _ _ _ _ _ X.2.2 hf) (cwV 2 hts (lw_V q1457 q1459 qs46 q106 q1460) rfl rfl rfl (by decide +kernel) ⟨Nat.le_trans (Nat.le_of_ble_eq_true rfl) hRf, Nat.le_trans (Nat.le_of_ble_eq_true rfl) hRl⟩) rfl hl.1 rfl (by decide) dX9_add_69 ⟨Nat.zero_le _, Nat.zero_le _⟩) (fun r2 σ₁ H locs hf hP hL => ?_)
  obtain ⟨e₁, hf⟩ := hf
  rw [e₁] at hP
  refine lv_if_lt (tgt := 78) hx hb dX9_add_72 (by decide) (fun c3 => ?_) (fun c3 => ?_)
  · have hf := hf.1 c3
    refine p_aload_n hx hb dX9_add_78 rfl (lv_at hl 0 rfl) ?_
    refine p_calli hL (p_runV X cf8_ hP ht1 (metX9_alive l G _ _ _ X.2.2 hf) (cwV 0 hts (lw_V q1461 q1463 qs47 q106 q1464) rfl rfl rfl (by decide +kernel) ⟨Nat.le_trans (Nat.le_of_ble_eq_true rfl) hRf, Nat.le_trans (Nat.le_of_ble_eq_true rfl) hRl⟩) rfl hl.1 rfl (by decide) dX9_add_79 ⟨Nat.zero_le _, Nat.zero_le _⟩) (fun r4 σ₁ H locs hf hP hL => ?_)
    obtain ⟨e₁, hf⟩ := hf
    rw [e₁] at hP
    refine lv_bipush (v := 30) hx hb dX9_add_82 (by decide) ?_
    refine lv_icmp_ne (tgt := 90) hx hb dX9_add_84 (by decide) (fun c5 => ?_) (fun c5 => ?_)
    · have hf := hf.1 c5
      refine p_aload_n hx hb dX9_add_90 rfl (lv_at hl 0 rfl) ?_
      refine p_gI X cf8_ (k := 10) (by decide) rfl hP ht1 q1305 (fun _ h => h) dX9_add_91 ?_
      refine lv_topi (fun y6 hy6 => ?_)
      have hf := hf y6 hy6
      refine p_istore (i := 10) hx hb dX9_add_94 hl (by decide) ⟨⟨ne_ rfl, Or.inl (ne_ rfl)⟩, ⟨⟨ne_ rfl, Or.inl (ne_ rfl)⟩, ⟨⟨ne_ rfl, Or.inl (ne_ rfl)⟩, ⟨⟨ne_ rfl, Or.inl (ne_ rfl)⟩, ⟨⟨ne_ rfl, Or.inl (ne_ rfl)⟩, ⟨⟨ne_ rfl, Or.inl (ne_ rfl)⟩, trivial⟩⟩⟩⟩⟩⟩ (fun ls hl => ?_)
      refine p_aload_n hx hb dX9_add_96 rfl (lv_at hl 1 rfl) ?_
      refine lv_dup hx hb dX9_add_97 (rv_cat _) ?_
      refine p_gI X cf8_ (k := 10) (by decide) rfl hP ht1 q1305 (fun _ h => h) dX9_add_98 ?_
      refine lv_iconst (v := 1) hx hb dX9_add_101 (by decide) ?_
      refine lv_iadd hx hb dX9_add_102 ?_
      refine p_pI X cf8_ (k := 10) (by decide) rfl hP hL ht1 (p_ow hP ht1 rfl) q1305 (fun _ h => h) (Or.inl rfl) rfl rfl dX9_add_103 (fun H locs hP hL => ?_)
      refine p_nmP hP (fun σ7 hσ7 hP => ?_)
      have hf := hf σ7 hσ7
      have ht1 : tg_ σ7 x0 = 9 := by rw [hσ7]; exact ht1
      refine p_aload_n hx hb dX9_add_106 rfl (lv_at hl 1 rfl) ?_
      refine p_gR X cf8_ (k := 11) (by decide) rfl hP ht1 q1306 (fun _ h => h) dX9_add_107 ?_
      refine lv_iload hx hb dX9_add_110 (lv_at hl 0 rfl) ?_
      refine lv_iconst (v := 1) hx hb dX9_add_112 (by decide) ?_
      obtain ⟨ht8, hf⟩ := hf
      obtain ⟨hi9, hf⟩ := hf
      refine p_zast X hP hL ht8 (p_ow hP ht8 rfl) hi9 dX9_add_113 (fun H locs hP hL => ?_)
      refine p_nmP hP (fun σ10 hσ10 hP => ?_)
      have hf := hf σ10 hσ10
      have ht1 : tg_ σ10 x0 = 9 := by rw [hσ10]; exact ht1
      refine p_aload_n hx hb dX9_add_114 rfl (lv_at hl 1 rfl) ?_
      refine p_gR X cf8_ (k := 12) (by decide) rfl hP ht1 q1307 (fun _ h => h) dX9_add_115 ?_
      refine lv_iload hx hb dX9_add_118 (lv_at hl 0 rfl) ?_
      refine lv_iload hx hb dX9_add_120 (lv_at hl 3 rfl) ?_
      obtain ⟨ht11, hf⟩ := hf
      obtain ⟨hi12, hf⟩ := hf
      refine p_zast X hP hL ht11 (p_ow hP ht11 rfl) hi12 dX9_add_122 (fun H locs hP hL => ?_)
      refine p_nmP hP (fun σ13 hσ13 hP => ?_)
      have hf := hf σ13 hσ13
      have ht1 : tg_ σ13 x0 = 9 := by rw [hσ13]; exact ht1
      refine p_aload_n hx hb dX9_add_123 rfl (lv_at hl 1 rfl) ?_
      refine p_gR X cf8_ (k := 13) (by decide) rfl hP ht1 q1308 (fun _ h => h) dX9_add_124 ?_
      refine lv_iload hx hb dX9_add_127 (lv_at hl 0 rfl) ?_
      refine lv_iload_n hx hb dX9_add_129 rfl (lv_at hl 2 rfl) ?_
      obtain ⟨ht14, hf⟩ := hf
      obtain ⟨hlo15, hf⟩ := hf
      obtain ⟨hi16, hf⟩ := hf
      refine p_iast X hP hL ht14 hlo15 hi16 dX9_add_130 (fun H locs hP hL => ?_)
      refine p_nmP hP (fun σ17 hσ17 hP => ?_)
      have hf := hf σ17 hσ17
      have ht1 : tg_ σ17 x0 = 9 := by rw [hσ17]; exact ht1
      refine p_aload_n hx hb dX9_add_131 rfl (lv_at hl 1 rfl) ?_
      refine p_gR X cf8_ (k := 14) (by decide) rfl hP ht1 q1309 (fun _ h => h) dX9_add_132 ?_
      refine lv_iload hx hb dX9_add_135 (lv_at hl 0 rfl) ?_
      refine lv_lload hx hb dX9_add_137 (lv_at hl 6 rfl) ?_
      obtain ⟨ht18, hf⟩ := hf
      obtain ⟨hi19, hf⟩ := hf
      refine p_last X hP hL ht18 (p_ow hP ht18 rfl) hi19 dX9_add_139 (fun H locs hP hL => ?_)
      refine p_nmP hP (fun σ20 hσ20 hP => ?_)
      have hf := hf σ20 hσ20
      have ht1 : tg_ σ20 x0 = 9 := by rw [hσ20]; exact ht1
      refine p_aload_n hx hb dX9_add_140 rfl (lv_at hl 1 rfl) ?_
      refine p_gR X cf8_ (k := 15) (by decide) rfl hP ht1 q1310 (fun _ h => h) dX9_add_141 ?_
      refine lv_iload hx hb dX9_add_144 (lv_at hl 0 rfl) ?_
      refine lv_iload hx hb dX9_add_146 (lv_at hl 4 rfl) ?_
      obtain ⟨ht21, hf⟩ := hf
      obtain ⟨hlo22, hf⟩ := hf
      obtain ⟨hi23, hf⟩ := hf
      refine p_iast X hP hL ht21 hlo22 hi23 dX9_add_148 (fun H locs hP hL => ?_)
      refine p_nmP hP (fun σ24 hσ24 hP => ?_)
      have hf := hf σ24 hσ24
      have ht1 : tg_ σ24 x0 = 9 := by rw [hσ24]; exact ht1
      refine p_aload_n hx hb dX9_add_149 rfl (lv_at hl 1 rfl) ?_
      refine p_gR X cf8_ (k := 16) (by decide) rfl hP ht1 q1311 (fun _ h => h) dX9_add_150 ?_
      refine lv_iload hx hb dX9_add_153 (lv_at hl 0 rfl) ?_
      refine lv_iload hx hb dX9_add_155 (lv_at hl 5 rfl) ?_
      obtain ⟨ht25, hf⟩ := hf
      obtain ⟨hlo26, hf⟩ := hf
      obtain ⟨hi27, hf⟩ := hf
      refine p_iast X hP hL ht25 hlo26 hi27 dX9_add_157 (fun H locs hP hL => ?_)
      refine p_nmP hP (fun σ28 hσ28 hP => ?_)
      have hf := hf σ28 hσ28
      have ht1 : tg_ σ28 x0 = 9 := by rw [hσ28]; exact ht1
      refine p_aload_n hx hb dX9_add_158 rfl (lv_at hl 1 rfl) ?_
      refine p_gR X cf8_ (k := 17) (by decide) rfl hP ht1 q1312 (fun _ h => h) dX9_add_159 ?_
      refine lv_iload hx hb dX9_add_162 (lv_at hl 0 rfl) ?_
      refine lv_iconst (v := 0) hx hb dX9_add_164 (by decide) ?_
      obtain ⟨ht29, hf⟩ := hf
      obtain ⟨hi30, hf⟩ := hf
      refine p_zast X hP hL ht29 (p_ow hP ht29 rfl) hi30 dX9_add_165 (fun H locs hP hL => ?_)
      refine p_nmP hP (fun σ31 hσ31 hP => ?_)
      have hf := hf σ31 hσ31
      have ht1 : tg_ σ31 x0 = 9 := by rw [hσ31]; exact ht1
      refine p_aload_n hx hb dX9_add_166 rfl (lv_at hl 1 rfl) ?_
      refine p_gR X cf8_ (k := 18) (by decide) rfl hP ht1 q1313 (fun _ h => h) dX9_add_167 ?_
      refine lv_iload hx hb dX9_add_170 (lv_at hl 0 rfl) ?_
      refine lv_iconst (v := 0) hx hb dX9_add_172 (by decide) ?_
      obtain ⟨ht32, hf⟩ := hf
      obtain ⟨hlo33, hf⟩ := hf
      obtain ⟨hi34, hf⟩ := hf
      refine p_iast X hP hL ht32 hlo33 hi34 dX9_add_173 (fun H locs hP hL => ?_)
      refine p_nmP hP (fun σ35 hσ35 hP => ?_)
      have hf := hf σ35 hσ35
      have ht1 : tg_ σ35 x0 = 9 := by rw [hσ35]; exact ht1
      refine lv_iload hx hb dX9_add_174 (lv_at hl 0 rfl) ?_
      exact p_iret X hlk hP hL (Nat.le_refl _) (Nat.le_refl _) hr dX9_add_176 hf
    · have hf := hf.2 c5
      refine lv_bipush (v := (-3)) hx hb dX9_add_87 (by decide) ?_
      exact p_iret X hlk hP hL (Nat.le_refl _) (Nat.le_refl _) hr dX9_add_89 hf
  · have hf := hf.2 c3
    refine lv_bipush (v := (-5)) hx hb dX9_add_75 (by decide) ?_
    exact p_iret X hlk hP hL (Nat.le_refl _) (Nat.le_refl _) hr dX9_add_77 hf
set_option maxHeartbeats 4000000 in
theorem sX9_add {G : GG_} {p : Program} {l : Launch} {e : Env} {R : Room} {s : State} {m : MethodId} {args : Array Value} {below : List Frame} {meth : Method} {c : Code} (Y : MX_ G p R s m args meth c cX9_add 11 RX9 (some Jvm.ClassFile.FieldType.int) 3 65 0 0 "add") {post : Int32 → Hp → Prop} {x0 : Nat} {x1 : Int32} {x2 : Int64} {x4 : Int32} {x5 : Int32} {x6 : Int32} {x7 : Int32} {σ : Hp} (hf : wX9_add x0 x1 x2 x4 x5 x6 x7 σ post) : WG_ G p l e R s m args below meth c (MQ below (QI_ G post) args s 0 0 (FR_ G)) BN_ 11 0 [(0, rv_ x0), (1, .int x1), (2, .long x2), (4, .int x4), (5, .int x5), (6, .int x6), (7, .int x7)] [] σ := by
  have ⟨X, hlk, hr, hRf, hRl, hRc, hnm⟩ := Y
  have ⟨⟨hx, hb, _, hown, hts⟩, _, _⟩ := X
  intro H locs cells slots ls hP hL hB hl
  obtain ⟨rfl, rfl⟩ := hB
  unfold wX9_add at hf
  refine p_aload_n hx hb dX9_add_0 rfl (lv_at hl 0 rfl) ?_
  obtain ⟨ht36, hf⟩ := hf
  refine p_gI X cf8_ (k := 6) (by decide) rfl hP ht36 q1301 (fun _ h => h) dX9_add_1 ?_
  refine lv_if_eq (tgt := 10) hx hb dX9_add_4 (by decide) (fun c37 => ?_) (fun c37 => ?_)
  · have hf := hf.1 c37
    refine lv_lload_n hx hb dX9_add_10 rfl (lv_at hl 2 rfl) ?_
    refine p_calll hL (p_runS X hP (metX9_told l G _ _ _ X.2.2 hf) (va_cwS 1 hts (lw_S q1442 q1443 q106 q1444) rfl rfl rfl (by decide +kernel) ⟨Nat.le_trans (Nat.le_of_ble_eq_true rfl) hRf, Nat.le_trans (Nat.le_of_ble_eq_true rfl) hRl⟩) rfl hl.1 rfl (by decide) dX9_add_11 ⟨Nat.zero_le _, Nat.zero_le _⟩) (fun r38 σ₁ H locs hf hP hL => ?_)
    obtain ⟨e₁, hf⟩ := hf
    rw [e₁] at hP
    have hl := lv_sub hl [0, 1, 3, 4, 5, 6] rfl
    refine p_lstore (i := 8) hx hb dX9_add_14 hl (by decide) ⟨⟨ne_ rfl, ne_ rfl, Or.inl (ne_ rfl)⟩, ⟨⟨ne_ rfl, ne_ rfl, Or.inl (ne_ rfl)⟩, ⟨⟨ne_ rfl, ne_ rfl, Or.inl (ne_ rfl)⟩, ⟨⟨ne_ rfl, ne_ rfl, Or.inl (ne_ rfl)⟩, ⟨⟨ne_ rfl, ne_ rfl, Or.inl (ne_ rfl)⟩, ⟨⟨ne_ rfl, ne_ rfl, Or.inr rfl⟩, trivial⟩⟩⟩⟩⟩⟩ (fun ls hl => ?_)
    refine lv_iload hx hb dX9_add_16 (lv_at hl 6 rfl) ?_
    refine lv_if_eq (tgt := 62) hx hb dX9_add_18 (by decide) (fun c39 => ?_) (fun c39 => ?_)
    · have hf := hf.1 c39
      refine lv_bipush (v := (-2)) hx hb dX9_add_62 (by decide) ?_
      exact p_iret X hlk hP hL (Nat.le_refl _) (Nat.le_refl _) hr dX9_add_64 hf
    · have hf := hf.2 c39
      refine p_aload_n hx hb dX9_add_21 rfl (lv_at hl 1 rfl) ?_
      refine lv_iload_n hx hb dX9_add_22 rfl (lv_at hl 2 rfl) ?_
      refine p_calli hL (p_runV X cf8_ hP ht36 (metX9_isNode l G _ _ _ _ X.2.2 hf) (cwV 1 hts (lw_V q1449 q1451 qs44 q106 q1452) rfl rfl rfl (by decide +kernel) ⟨Nat.le_trans (Nat.le_of_ble_eq_true rfl) hRf, Nat.le_trans (Nat.le_of_ble_eq_true rfl) hRl⟩) rfl hl.1 rfl (by decide) dX9_add_23 ⟨Nat.zero_le _, Nat.zero_le _⟩) (fun r40 σ₁ H locs hf hP hL => ?_)
      obtain ⟨e₁, hf⟩ := hf
      rw [e₁] at hP
      refine lv_if_eq (tgt := 62) hx hb dX9_add_26 (by decide) (fun c41 => ?_) (fun c41 => ?_)
      · have hf := hf.1 c41
        refine lv_bipush (v := (-2)) hx hb dX9_add_62 (by decide) ?_
        exact p_iret X hlk hP hL (Nat.le_refl _) (Nat.le_refl _) hr dX9_add_64 hf
      · have hf := hf.2 c41
        refine p_aload_n hx hb dX9_add_29 rfl (lv_at hl 1 rfl) ?_
        refine p_gR X cf8_ (k := 12) (by decide) rfl hP ht36 q1307 (fun _ h => h) dX9_add_30 ?_
        refine lv_iload_n hx hb dX9_add_33 rfl (lv_at hl 2 rfl) ?_
        obtain ⟨ht42, hf⟩ := hf
        obtain ⟨hi43, hf⟩ := hf
        refine p_zald X hP ht42 hi43 dX9_add_34 ?_
        refine lv_if_eq (tgt := 62) hx hb dX9_add_35 (by decide) (fun c44 => ?_) (fun c44 => ?_)
        · have hf := hf.1 c44
          refine lv_bipush (v := (-2)) hx hb dX9_add_62 (by decide) ?_
          exact p_iret X hlk hP hL (Nat.le_refl _) (Nat.le_refl _) hr dX9_add_64 hf
        · have hf := hf.2 c44
          refine lv_lload hx hb dX9_add_38 (lv_at hl 0 rfl) ?_
          refine lv_lconst (v := 0) hx hb dX9_add_40 (by decide) ?_
          refine W.lcmp hx hb dX9_add_41 ?_
          refine lv_if_eq (tgt := 62) hx hb dX9_add_42 (by decide) (fun c45 => ?_) (fun c45 => ?_)
          · have hf := hf.1 c45
            refine lv_bipush (v := (-2)) hx hb dX9_add_62 (by decide) ?_
            exact p_iret X hlk hP hL (Nat.le_refl _) (Nat.le_refl _) hr dX9_add_64 hf
          · have hf := hf.2 c45
            refine lv_iload hx hb dX9_add_45 (lv_at hl 3 rfl) ?_
            refine lv_if_eq (tgt := 65) hx hb dX9_add_47 (by decide) (fun c46 => ?_) (fun c46 => ?_)
            · have hf := hf.1 c46
              exact sX9_add_L65 Y hf _ _ _ _ _ hP hL ⟨rfl, rfl⟩ (lv_sub hl [1, 2, 3, 4, 5, 0] rfl)
            · have hf := hf.2 c46
              refine p_aload_n hx hb dX9_add_50 rfl (lv_at hl 1 rfl) ?_
              refine lv_iload_n hx hb dX9_add_51 rfl (lv_at hl 2 rfl) ?_
              refine p_calli hL (p_runV X cf8_ hP ht36 (metX9_depthOf l G _ _ _ _ X.2.2 hf) (cwV 1 hts (lw_V q1453 q1455 qs45 q106 q1456) rfl rfl rfl (by decide +kernel) ⟨Nat.le_trans (Nat.le_of_ble_eq_true rfl) hRf, Nat.le_trans (Nat.le_of_ble_eq_true rfl) hRl⟩) rfl hl.1 rfl (by decide) dX9_add_52 ⟨Nat.zero_le _, Nat.zero_le _⟩) (fun r47 σ₁ H locs hf hP hL => ?_)
              obtain ⟨e₁, hf⟩ := hf
              rw [e₁] at hP
              refine lv_iconst (v := 1) hx hb dX9_add_55 (by decide) ?_
              refine lv_iadd hx hb dX9_add_56 ?_
              refine lv_bipush (v := 6) hx hb dX9_add_57 (by decide) ?_
              refine lv_icmp_le (tgt := 65) hx hb dX9_add_59 (by decide) (fun c48 => ?_) (fun c48 => ?_)
              · have hf := hf.1 c48
                exact sX9_add_L65 Y hf _ _ _ _ _ hP hL ⟨rfl, rfl⟩ (lv_sub hl [1, 2, 3, 4, 5, 0] rfl)
              · have hf := hf.2 c48
                refine lv_bipush (v := (-2)) hx hb dX9_add_62 (by decide) ?_
                exact p_iret X hlk hP hL (Nat.le_refl _) (Nat.le_refl _) hr dX9_add_64 hf
  · have hf := hf.2 c37
    refine lv_bipush (v := (-4)) hx hb dX9_add_7 (by decide) ?_
    exact p_iret X hlk hP hL (Nat.le_refl _) (Nat.le_refl _) hr dX9_add_9 hf
set_option maxHeartbeats 4000000 in
theorem metX9_add (l : Launch) (G : GG_) (x0 : Nat) (x1 : Int32) (x2 : Int64) (x4 : Int32) (x5 : Int32) (x6 : Int32) (x7 : Int32) (σ : Hp) (post : Int32 → Hp → Prop) (hG : GOK_ G) (hf : wX9_add x0 x1 x2 x4 x5 x6 x7 σ post) : Met l yX9_add (ws_ yX9_add cX9_add 11 (some Jvm.ClassFile.FieldType.int)) { frames := 3, cells := 0, slots := 0, locals := 65 } (PC_ G [rv_ x0, .int x1, .long x2, .int x4, .int x5, .int x6, .int x7] σ) (QI_ G post) 0 0 (FR_ G) := by
  refine Met.ofW (cc := cX9_add) (maxL := 11) (ret := (some Jvm.ClassFile.FieldType.int)) (by decide) rfl ?_
  intro p e s m args below meth c s₁ B hml hv
  obtain ⟨rfl, hP, hW⟩ := hv
  have hts := atoms_spec (ws := ws_ yX9_add cX9_add 11 (some Jvm.ClassFile.FieldType.int)) B.pre
  have hts : ∀ w ∈ lw_all, w.before _ s = true := fun w h => hts w (List.mem_cons_of_mem _ h)
  rw [lg_entry_eq]
  have hl := en_entry [rv_ x0, .int x1, .long x2, .int x4, .int x5, .int x6, .int x7] [1, 1, 2, 1, 1, 1, 1] (n := 11) (ca_r (ca_i (ca_l (ca_i (ca_i (ca_i (ca_i ca_n))))))) (by decide)
  exact sX9_add ⟨⟨⟨B.exec, B.bytes, hml, findClass_of_methodNamed B.named, hts⟩, hW, hG⟩, B.notSynchronized, B.returns, Nat.le_refl _, Nat.le_refl _, ⟨rfl, rfl⟩, (name_of_methodNamed B.named B.method).1⟩ hf _ _ _ _ _ hP (LO_nil G) ⟨rfl, rfl⟩ hl
abbrev cX9_directory : ByteArray := prog_11_method_18_code
def yX9_directory : MethodName := ⟨RX9, "directory", "(IJ)I"⟩
theorem dX9_directory_0 : decode cX9_directory 0 = .ok (.aload_n 0, 1) := by decide +kernel
theorem dX9_directory_1 : decode cX9_directory 1 = .ok (.iconst 0, 1) := by decide +kernel
theorem dX9_directory_2 : decode cX9_directory 2 = .ok (.putfield 109, 3) := by decide +kernel
theorem dX9_directory_5 : decode cX9_directory 5 = .ok (.aload_n 0, 1) := by decide +kernel
theorem dX9_directory_6 : decode cX9_directory 6 = .ok (.iload_n 1, 1) := by decide +kernel
theorem dX9_directory_7 : decode cX9_directory 7 = .ok (.lload_n 2, 1) := by decide +kernel
theorem dX9_directory_8 : decode cX9_directory 8 = .ok (.iconst 1, 1) := by decide +kernel
theorem dX9_directory_9 : decode cX9_directory 9 = .ok (.iconst 0, 1) := by decide +kernel
theorem dX9_directory_10 : decode cX9_directory 10 = .ok (.iconst 0, 1) := by decide +kernel
theorem dX9_directory_11 : decode cX9_directory 11 = .ok (.iconst 1, 1) := by decide +kernel
theorem dX9_directory_12 : decode cX9_directory 12 = .ok (.invokevirtual 154, 3) := by decide +kernel
theorem dX9_directory_15 : decode cX9_directory 15 = .ok (.ireturn, 1) := by decide +kernel
/-- WriteOnceDiscModel.directory(IJ)I -/
def wX9_directory (x0 : Nat) (x1 : Int32) (x2 : Int64) (σ : Hp) (post : Int32 → Hp → Prop) : Prop :=
(tg_ σ x0 = 9 ∧ (∀ σ2, σ2 = sI_ σ 8 0 x0 (0 : Int32) → (wX9_add x0 x1 x2 (1 : Int32) (0 : Int32) (0 : Int32) (1 : Int32) σ2 (fun r3 σ4 => post r3 σ4))))
set_option maxHeartbeats 4000000 in
theorem sX9_directory {G : GG_} {p : Program} {l : Launch} {e : Env} {R : Room} {s : State} {m : MethodId} {args : Array Value} {below : List Frame} {meth : Method} {c : Code} (Y : MX_ G p R s m args meth c cX9_directory 4 RX9 (some Jvm.ClassFile.FieldType.int) 4 95 0 0 "directory") {post : Int32 → Hp → Prop} {x0 : Nat} {x1 : Int32} {x2 : Int64} {σ : Hp} (hf : wX9_directory x0 x1 x2 σ post) : WG_ G p l e R s m args below meth c (MQ below (QI_ G post) args s 0 0 (FR_ G)) BN_ 4 0 [(0, rv_ x0), (1, .int x1), (2, .long x2)] [] σ := by
  have ⟨X, hlk, hr, hRf, hRl, hRc, hnm⟩ := Y
  have ⟨⟨hx, hb, _, hown, hts⟩, _, _⟩ := X
  intro H locs cells slots ls hP hL hB hl
  obtain ⟨rfl, rfl⟩ := hB
  unfold wX9_directory at hf
  refine p_aload_n hx hb dX9_directory_0 rfl (lv_at hl 0 rfl) ?_
  refine lv_iconst (v := 0) hx hb dX9_directory_1 (by decide) ?_
  obtain ⟨ht1, hf⟩ := hf
  refine p_pI X cf8_ (k := 0) (by decide) rfl hP hL ht1 (p_ow hP ht1 rfl) q1295 (fun _ h => h) (Or.inl rfl) rfl rfl dX9_directory_2 (fun H locs hP hL => ?_)
  refine p_nmP hP (fun σ2 hσ2 hP => ?_)
  have hf := hf σ2 hσ2
  have ht1 : tg_ σ2 x0 = 9 := by rw [hσ2]; exact ht1
  refine p_aload_n hx hb dX9_directory_5 rfl (lv_at hl 0 rfl) ?_
  refine lv_iload_n hx hb dX9_directory_6 rfl (lv_at hl 1 rfl) ?_
  refine lv_lload_n hx hb dX9_directory_7 rfl (lv_at hl 2 rfl) ?_
  refine lv_iconst (v := 1) hx hb dX9_directory_8 (by decide) ?_
  refine lv_iconst (v := 0) hx hb dX9_directory_9 (by decide) ?_
  refine lv_iconst (v := 0) hx hb dX9_directory_10 (by decide) ?_
  refine lv_iconst (v := 1) hx hb dX9_directory_11 (by decide) ?_
  refine p_calli hL (p_runV X cf8_ hP ht1 (metX9_add l G _ _ _ _ _ _ _ _ _ X.2.2 hf) (cwV 6 hts (lw_V q1438 q1440 qs43 q106 q1441) rfl rfl rfl (by decide +kernel) ⟨Nat.le_trans (Nat.le_of_ble_eq_true rfl) hRf, Nat.le_trans (Nat.le_of_ble_eq_true rfl) hRl⟩) rfl hl.1 rfl (by decide) dX9_directory_12 ⟨Nat.zero_le _, Nat.zero_le _⟩) (fun r3 σ4 H locs hf hP hL => ?_)
  exact p_iret X hlk hP hL (Nat.le_refl _) (Nat.le_refl _) hr dX9_directory_15 hf
set_option maxHeartbeats 4000000 in
theorem metX9_directory (l : Launch) (G : GG_) (x0 : Nat) (x1 : Int32) (x2 : Int64) (σ : Hp) (post : Int32 → Hp → Prop) (hG : GOK_ G) (hf : wX9_directory x0 x1 x2 σ post) : Met l yX9_directory (ws_ yX9_directory cX9_directory 4 (some Jvm.ClassFile.FieldType.int)) { frames := 4, cells := 0, slots := 0, locals := 95 } (PC_ G [rv_ x0, .int x1, .long x2] σ) (QI_ G post) 0 0 (FR_ G) := by
  refine Met.ofW (cc := cX9_directory) (maxL := 4) (ret := (some Jvm.ClassFile.FieldType.int)) (by decide) rfl ?_
  intro p e s m args below meth c s₁ B hml hv
  obtain ⟨rfl, hP, hW⟩ := hv
  have hts := atoms_spec (ws := ws_ yX9_directory cX9_directory 4 (some Jvm.ClassFile.FieldType.int)) B.pre
  have hts : ∀ w ∈ lw_all, w.before _ s = true := fun w h => hts w (List.mem_cons_of_mem _ h)
  rw [lg_entry_eq]
  have hl := en_entry [rv_ x0, .int x1, .long x2] [1, 1, 2] (n := 4) (ca_r (ca_i (ca_l ca_n))) (by decide)
  exact sX9_directory ⟨⟨⟨B.exec, B.bytes, hml, findClass_of_methodNamed B.named, hts⟩, hW, hG⟩, B.notSynchronized, B.returns, Nat.le_refl _, Nat.le_refl _, ⟨rfl, rfl⟩, (name_of_methodNamed B.named B.method).1⟩ hf _ _ _ _ _ hP (LO_nil G) ⟨rfl, rfl⟩ hl
abbrev cX9_isContent : ByteArray := prog_11_method_19_code
def yX9_isContent : MethodName := ⟨RX9, "isContent", "(II)Z"⟩
theorem dX9_isContent_0 : decode cX9_isContent 0 = .ok (.iload_n 0, 1) := by decide +kernel
theorem dX9_isContent_1 : decode cX9_isContent 1 = .ok (.iconst 0, 1) := by decide +kernel
theorem dX9_isContent_2 : decode cX9_isContent 2 = .ok (.sipush 6000, 3) := by decide +kernel
theorem dX9_isContent_5 : decode cX9_isContent 5 = .ok (.invokestatic 118, 3) := by decide +kernel
theorem dX9_isContent_8 : decode cX9_isContent 8 = .ok (.ifCond .eq 18, 3) := by decide +kernel
theorem dX9_isContent_11 : decode cX9_isContent 11 = .ok (.iload_n 1, 1) := by decide +kernel
theorem dX9_isContent_12 : decode cX9_isContent 12 = .ok (.iconst 0, 1) := by decide +kernel
theorem dX9_isContent_13 : decode cX9_isContent 13 = .ok (.sipush 255, 3) := by decide +kernel
theorem dX9_isContent_16 : decode cX9_isContent 16 = .ok (.invokestatic 118, 3) := by decide +kernel
theorem dX9_isContent_19 : decode cX9_isContent 19 = .ok (.ifCond .eq 7, 3) := by decide +kernel
theorem dX9_isContent_22 : decode cX9_isContent 22 = .ok (.iconst 1, 1) := by decide +kernel
theorem dX9_isContent_23 : decode cX9_isContent 23 = .ok (.goto 4, 3) := by decide +kernel
theorem dX9_isContent_26 : decode cX9_isContent 26 = .ok (.iconst 0, 1) := by decide +kernel
theorem dX9_isContent_27 : decode cX9_isContent 27 = .ok (.ireturn, 1) := by decide +kernel
/-- WriteOnceDiscModel.isContent(II)Z -/
def wX9_isContent (x0 : Int32) (x1 : Int32) (σ : Hp) (post : Int32 → Prop) : Prop :=
(wX9_in x0 (0 : Int32) (6000 : Int32) σ (fun r1 => ((r1 = 0 →
  post (0 : Int32)) ∧
 (¬ r1 = 0 →
  (wX9_in x1 (0 : Int32) (255 : Int32) σ (fun r3 => ((r3 = 0 →
   post (0 : Int32)) ∧
  (¬ r3 = 0 →
   post (1 : Int32)))))))))
set_option maxHeartbeats 4000000 in
theorem sX9_isContent {G : GG_} {p : Program} {l : Launch} {e : Env} {R : Room} {s : State} {m : MethodId} {args : Array Value} {below : List Frame} {meth : Method} {c : Code} (Y : MX_ G p R s m args meth c cX9_isContent 2 RX9 (some Jvm.ClassFile.FieldType.boolean) 2 42 0 0 "isContent") {post : Int32 → Prop} {x0 : Int32} {x1 : Int32} {σ : Hp} (hf : wX9_isContent x0 x1 σ post) : WG_ G p l e R s m args below meth c (MQ below (QI_ G (fun r τ => τ = σ ∧ post r)) args s 0 0 (FR_ G)) BN_ 2 0 [(0, .int x0), (1, .int x1)] [] σ := by
  have ⟨X, hlk, hr, hRf, hRl, hRc, hnm⟩ := Y
  have ⟨⟨hx, hb, _, hown, hts⟩, _, _⟩ := X
  intro H locs cells slots ls hP hL hB hl
  obtain ⟨rfl, rfl⟩ := hB
  unfold wX9_isContent at hf
  refine lv_iload_n hx hb dX9_isContent_0 rfl (lv_at hl 0 rfl) ?_
  refine lv_iconst (v := 0) hx hb dX9_isContent_1 (by decide) ?_
  refine lv_sipush (v := 6000) hx hb dX9_isContent_2 (by decide) ?_
  refine p_calli hL (p_runS X hP (metX9_in l G _ _ _ _ _ X.2.2 hf) (va_cwS 3 hts (lw_S q1427 q1428 q106 q1429) rfl rfl rfl (by decide +kernel) ⟨Nat.le_trans (Nat.le_of_ble_eq_true rfl) hRf, Nat.le_trans (Nat.le_of_ble_eq_true rfl) hRl⟩) rfl hl.1 rfl (by decide) dX9_isContent_5 ⟨Nat.zero_le _, Nat.zero_le _⟩) (fun r1 σ₁ H locs hf hP hL => ?_)
  obtain ⟨e₁, hf⟩ := hf
  rw [e₁] at hP
  refine lv_if_eq (tgt := 26) hx hb dX9_isContent_8 (by decide) (fun c2 => ?_) (fun c2 => ?_)
  · have hf := hf.1 c2
    refine lv_iconst (v := 0) hx hb dX9_isContent_26 (by decide) ?_
    exact p_zret X hlk hP hL (Nat.le_refl _) (Nat.le_refl _) hr nr_0 dX9_isContent_27 ⟨rfl, hf⟩
  · have hf := hf.2 c2
    refine lv_iload_n hx hb dX9_isContent_11 rfl (lv_at hl 1 rfl) ?_
    refine lv_iconst (v := 0) hx hb dX9_isContent_12 (by decide) ?_
    refine lv_sipush (v := 255) hx hb dX9_isContent_13 (by decide) ?_
    refine p_calli hL (p_runS X hP (metX9_in l G _ _ _ _ _ X.2.2 hf) (va_cwS 3 hts (lw_S q1427 q1428 q106 q1429) rfl rfl rfl (by decide +kernel) ⟨Nat.le_trans (Nat.le_of_ble_eq_true rfl) hRf, Nat.le_trans (Nat.le_of_ble_eq_true rfl) hRl⟩) rfl hl.1 rfl (by decide) dX9_isContent_16 ⟨Nat.zero_le _, Nat.zero_le _⟩) (fun r3 σ₁ H locs hf hP hL => ?_)
    obtain ⟨e₁, hf⟩ := hf
    rw [e₁] at hP
    refine lv_if_eq (tgt := 26) hx hb dX9_isContent_19 (by decide) (fun c4 => ?_) (fun c4 => ?_)
    · have hf := hf.1 c4
      refine lv_iconst (v := 0) hx hb dX9_isContent_26 (by decide) ?_
      exact p_zret X hlk hP hL (Nat.le_refl _) (Nat.le_refl _) hr nr_0 dX9_isContent_27 ⟨rfl, hf⟩
    · have hf := hf.2 c4
      refine lv_iconst (v := 1) hx hb dX9_isContent_22 (by decide) ?_
      refine lv_goto (tgt := 27) hx hb dX9_isContent_23 (by decide) ?_
      exact p_zret X hlk hP hL (Nat.le_refl _) (Nat.le_refl _) hr nr_1 dX9_isContent_27 ⟨rfl, hf⟩
set_option maxHeartbeats 4000000 in
theorem metX9_isContent (l : Launch) (G : GG_) (x0 : Int32) (x1 : Int32) (σ : Hp) (post : Int32 → Prop) (hG : GOK_ G) (hf : wX9_isContent x0 x1 σ post) : Met l yX9_isContent (ws_ yX9_isContent cX9_isContent 2 (some Jvm.ClassFile.FieldType.boolean)) { frames := 2, cells := 0, slots := 0, locals := 42 } (PC_ G [.int x0, .int x1] σ) (QI_ G (fun r τ => τ = σ ∧ post r)) 0 0 (FR_ G) := by
  refine Met.ofW (cc := cX9_isContent) (maxL := 2) (ret := (some Jvm.ClassFile.FieldType.boolean)) (by decide) rfl ?_
  intro p e s m args below meth c s₁ B hml hv
  obtain ⟨rfl, hP, hW⟩ := hv
  have hts := atoms_spec (ws := ws_ yX9_isContent cX9_isContent 2 (some Jvm.ClassFile.FieldType.boolean)) B.pre
  have hts : ∀ w ∈ lw_all, w.before _ s = true := fun w h => hts w (List.mem_cons_of_mem _ h)
  rw [lg_entry_eq]
  have hl := en_entry [.int x0, .int x1] [1, 1] (n := 2) (ca_i (ca_i ca_n)) (by decide)
  exact sX9_isContent ⟨⟨⟨B.exec, B.bytes, hml, findClass_of_methodNamed B.named, hts⟩, hW, hG⟩, B.notSynchronized, B.returns, Nat.le_refl _, Nat.le_refl _, ⟨rfl, rfl⟩, (name_of_methodNamed B.named B.method).1⟩ hf _ _ _ _ _ hP (LO_nil G) ⟨rfl, rfl⟩ hl
abbrev cX9_file : ByteArray := prog_11_method_20_code
def yX9_file : MethodName := ⟨RX9, "file", "(IJII)I"⟩
theorem dX9_file_0 : decode cX9_file 0 = .ok (.aload_n 0, 1) := by decide +kernel
theorem dX9_file_1 : decode cX9_file 1 = .ok (.iconst 0, 1) := by decide +kernel
theorem dX9_file_2 : decode cX9_file 2 = .ok (.putfield 109, 3) := by decide +kernel
theorem dX9_file_5 : decode cX9_file 5 = .ok (.aload_n 0, 1) := by decide +kernel
theorem dX9_file_6 : decode cX9_file 6 = .ok (.iload_n 1, 1) := by decide +kernel
theorem dX9_file_7 : decode cX9_file 7 = .ok (.lload_n 2, 1) := by decide +kernel
theorem dX9_file_8 : decode cX9_file 8 = .ok (.iconst 0, 1) := by decide +kernel
theorem dX9_file_9 : decode cX9_file 9 = .ok (.iload 4, 2) := by decide +kernel
theorem dX9_file_11 : decode cX9_file 11 = .ok (.iload 5, 2) := by decide +kernel
theorem dX9_file_13 : decode cX9_file 13 = .ok (.iload 4, 2) := by decide +kernel
theorem dX9_file_15 : decode cX9_file 15 = .ok (.iload 5, 2) := by decide +kernel
theorem dX9_file_17 : decode cX9_file 17 = .ok (.invokestatic 158, 3) := by decide +kernel
theorem dX9_file_20 : decode cX9_file 20 = .ok (.invokevirtual 154, 3) := by decide +kernel
theorem dX9_file_23 : decode cX9_file 23 = .ok (.ireturn, 1) := by decide +kernel
/-- WriteOnceDiscModel.file(IJII)I -/
def wX9_file (x0 : Nat) (x1 : Int32) (x2 : Int64) (x4 : Int32) (x5 : Int32) (σ : Hp) (post : Int32 → Hp → Prop) : Prop :=
(tg_ σ x0 = 9 ∧ (∀ σ2, σ2 = sI_ σ 8 0 x0 (0 : Int32) → (wX9_isContent x4 x5 σ2 (fun r3 => (wX9_add x0 x1 x2 (0 : Int32) x4 x5 r3 σ2 (fun r4 σ5 => post r4 σ5))))))
set_option maxHeartbeats 4000000 in
theorem sX9_file {G : GG_} {p : Program} {l : Launch} {e : Env} {R : Room} {s : State} {m : MethodId} {args : Array Value} {below : List Frame} {meth : Method} {c : Code} (Y : MX_ G p R s m args meth c cX9_file 6 RX9 (some Jvm.ClassFile.FieldType.int) 4 95 0 0 "file") {post : Int32 → Hp → Prop} {x0 : Nat} {x1 : Int32} {x2 : Int64} {x4 : Int32} {x5 : Int32} {σ : Hp} (hf : wX9_file x0 x1 x2 x4 x5 σ post) : WG_ G p l e R s m args below meth c (MQ below (QI_ G post) args s 0 0 (FR_ G)) BN_ 6 0 [(0, rv_ x0), (1, .int x1), (2, .long x2), (4, .int x4), (5, .int x5)] [] σ := by
  have ⟨X, hlk, hr, hRf, hRl, hRc, hnm⟩ := Y
  have ⟨⟨hx, hb, _, hown, hts⟩, _, _⟩ := X
  intro H locs cells slots ls hP hL hB hl
  obtain ⟨rfl, rfl⟩ := hB
  unfold wX9_file at hf
  refine p_aload_n hx hb dX9_file_0 rfl (lv_at hl 0 rfl) ?_
  refine lv_iconst (v := 0) hx hb dX9_file_1 (by decide) ?_
  obtain ⟨ht1, hf⟩ := hf
  refine p_pI X cf8_ (k := 0) (by decide) rfl hP hL ht1 (p_ow hP ht1 rfl) q1295 (fun _ h => h) (Or.inl rfl) rfl rfl dX9_file_2 (fun H locs hP hL => ?_)
  refine p_nmP hP (fun σ2 hσ2 hP => ?_)
  have hf := hf σ2 hσ2
  have ht1 : tg_ σ2 x0 = 9 := by rw [hσ2]; exact ht1
  refine p_aload_n hx hb dX9_file_5 rfl (lv_at hl 0 rfl) ?_
  refine lv_iload_n hx hb dX9_file_6 rfl (lv_at hl 1 rfl) ?_
  refine lv_lload_n hx hb dX9_file_7 rfl (lv_at hl 2 rfl) ?_
  refine lv_iconst (v := 0) hx hb dX9_file_8 (by decide) ?_
  refine lv_iload hx hb dX9_file_9 (lv_at hl 3 rfl) ?_
  refine lv_iload hx hb dX9_file_11 (lv_at hl 4 rfl) ?_
  refine lv_iload hx hb dX9_file_13 (lv_at hl 3 rfl) ?_
  refine lv_iload hx hb dX9_file_15 (lv_at hl 4 rfl) ?_
  refine p_calli hL (p_runS X hP (metX9_isContent l G _ _ _ _ X.2.2 hf) (va_cwS 2 hts (lw_S q1469 q1470 q106 q1471) rfl rfl rfl (by decide +kernel) ⟨Nat.le_trans (Nat.le_of_ble_eq_true rfl) hRf, Nat.le_trans (Nat.le_of_ble_eq_true rfl) hRl⟩) rfl hl.1 rfl (by rw [(ca_i (ca_i (ca_i (ca_l (ca_i (ca_r ca_n))))))]; decide) dX9_file_17 ⟨Nat.zero_le _, Nat.zero_le _⟩) (fun r3 σ₁ H locs hf hP hL => ?_)
  obtain ⟨e₁, hf⟩ := hf
  rw [e₁] at hP
  refine p_calli hL (p_runV X cf8_ hP ht1 (metX9_add l G _ _ _ _ _ _ _ _ _ X.2.2 hf) (cwV 6 hts (lw_V q1438 q1440 qs43 q106 q1441) rfl rfl rfl (by decide +kernel) ⟨Nat.le_trans (Nat.le_of_ble_eq_true rfl) hRf, Nat.le_trans (Nat.le_of_ble_eq_true rfl) hRl⟩) rfl hl.1 rfl (by decide) dX9_file_20 ⟨Nat.zero_le _, Nat.zero_le _⟩) (fun r4 σ5 H locs hf hP hL => ?_)
  exact p_iret X hlk hP hL (Nat.le_refl _) (Nat.le_refl _) hr dX9_file_23 hf
set_option maxHeartbeats 4000000 in
theorem metX9_file (l : Launch) (G : GG_) (x0 : Nat) (x1 : Int32) (x2 : Int64) (x4 : Int32) (x5 : Int32) (σ : Hp) (post : Int32 → Hp → Prop) (hG : GOK_ G) (hf : wX9_file x0 x1 x2 x4 x5 σ post) : Met l yX9_file (ws_ yX9_file cX9_file 6 (some Jvm.ClassFile.FieldType.int)) { frames := 4, cells := 0, slots := 0, locals := 95 } (PC_ G [rv_ x0, .int x1, .long x2, .int x4, .int x5] σ) (QI_ G post) 0 0 (FR_ G) := by
  refine Met.ofW (cc := cX9_file) (maxL := 6) (ret := (some Jvm.ClassFile.FieldType.int)) (by decide) rfl ?_
  intro p e s m args below meth c s₁ B hml hv
  obtain ⟨rfl, hP, hW⟩ := hv
  have hts := atoms_spec (ws := ws_ yX9_file cX9_file 6 (some Jvm.ClassFile.FieldType.int)) B.pre
  have hts : ∀ w ∈ lw_all, w.before _ s = true := fun w h => hts w (List.mem_cons_of_mem _ h)
  rw [lg_entry_eq]
  have hl := en_entry [rv_ x0, .int x1, .long x2, .int x4, .int x5] [1, 1, 2, 1, 1] (n := 6) (ca_r (ca_i (ca_l (ca_i (ca_i ca_n))))) (by decide)
  exact sX9_file ⟨⟨⟨B.exec, B.bytes, hml, findClass_of_methodNamed B.named, hts⟩, hW, hG⟩, B.notSynchronized, B.returns, Nat.le_refl _, Nat.le_refl _, ⟨rfl, rfl⟩, (name_of_methodNamed B.named B.method).1⟩ hf _ _ _ _ _ hP (LO_nil G) ⟨rfl, rfl⟩ hl
abbrev cX9_replace : ByteArray := prog_11_method_21_code
def yX9_replace : MethodName := ⟨RX9, "replace", "(III)I"⟩
theorem dX9_replace_0 : decode cX9_replace 0 = .ok (.aload_n 0, 1) := by decide +kernel
theorem dX9_replace_1 : decode cX9_replace 1 = .ok (.iconst 0, 1) := by decide +kernel
theorem dX9_replace_2 : decode cX9_replace 2 = .ok (.putfield 109, 3) := by decide +kernel
theorem dX9_replace_5 : decode cX9_replace 5 = .ok (.aload_n 0, 1) := by decide +kernel
theorem dX9_replace_6 : decode cX9_replace 6 = .ok (.getfield 125, 3) := by decide +kernel
theorem dX9_replace_9 : decode cX9_replace 9 = .ok (.ifCond .eq 6, 3) := by decide +kernel
theorem dX9_replace_12 : decode cX9_replace 12 = .ok (.bipush (-4), 2) := by decide +kernel
theorem dX9_replace_14 : decode cX9_replace 14 = .ok (.ireturn, 1) := by decide +kernel
theorem dX9_replace_15 : decode cX9_replace 15 = .ok (.aload_n 0, 1) := by decide +kernel
theorem dX9_replace_16 : decode cX9_replace 16 = .ok (.iload_n 1, 1) := by decide +kernel
theorem dX9_replace_17 : decode cX9_replace 17 = .ok (.invokevirtual 139, 3) := by decide +kernel
theorem dX9_replace_20 : decode cX9_replace 20 = .ok (.ifCond .eq 20, 3) := by decide +kernel
theorem dX9_replace_23 : decode cX9_replace 23 = .ok (.aload_n 0, 1) := by decide +kernel
theorem dX9_replace_24 : decode cX9_replace 24 = .ok (.getfield 27, 3) := by decide +kernel
theorem dX9_replace_27 : decode cX9_replace 27 = .ok (.iload_n 1, 1) := by decide +kernel
theorem dX9_replace_28 : decode cX9_replace 28 = .ok (.baload, 1) := by decide +kernel
theorem dX9_replace_29 : decode cX9_replace 29 = .ok (.ifCond .ne 11, 3) := by decide +kernel
theorem dX9_replace_32 : decode cX9_replace 32 = .ok (.iload_n 2, 1) := by decide +kernel
theorem dX9_replace_33 : decode cX9_replace 33 = .ok (.iload_n 3, 1) := by decide +kernel
theorem dX9_replace_34 : decode cX9_replace 34 = .ok (.invokestatic 158, 3) := by decide +kernel
theorem dX9_replace_37 : decode cX9_replace 37 = .ok (.ifCond .ne 6, 3) := by decide +kernel
theorem dX9_replace_40 : decode cX9_replace 40 = .ok (.bipush (-2), 2) := by decide +kernel
theorem dX9_replace_42 : decode cX9_replace 42 = .ok (.ireturn, 1) := by decide +kernel
theorem dX9_replace_43 : decode cX9_replace 43 = .ok (.aload_n 0, 1) := by decide +kernel
theorem dX9_replace_44 : decode cX9_replace 44 = .ok (.getfield 38, 3) := by decide +kernel
theorem dX9_replace_47 : decode cX9_replace 47 = .ok (.iload_n 1, 1) := by decide +kernel
theorem dX9_replace_48 : decode cX9_replace 48 = .ok (.iload_n 2, 1) := by decide +kernel
theorem dX9_replace_49 : decode cX9_replace 49 = .ok (.iastore, 1) := by decide +kernel
theorem dX9_replace_50 : decode cX9_replace 50 = .ok (.aload_n 0, 1) := by decide +kernel
theorem dX9_replace_51 : decode cX9_replace 51 = .ok (.getfield 41, 3) := by decide +kernel
theorem dX9_replace_54 : decode cX9_replace 54 = .ok (.iload_n 1, 1) := by decide +kernel
theorem dX9_replace_55 : decode cX9_replace 55 = .ok (.iload_n 3, 1) := by decide +kernel
theorem dX9_replace_56 : decode cX9_replace 56 = .ok (.iastore, 1) := by decide +kernel
theorem dX9_replace_57 : decode cX9_replace 57 = .ok (.aload_n 0, 1) := by decide +kernel
theorem dX9_replace_58 : decode cX9_replace 58 = .ok (.getfield 44, 3) := by decide +kernel
theorem dX9_replace_61 : decode cX9_replace 61 = .ok (.iload_n 1, 1) := by decide +kernel
theorem dX9_replace_62 : decode cX9_replace 62 = .ok (.iconst 0, 1) := by decide +kernel
theorem dX9_replace_63 : decode cX9_replace 63 = .ok (.bastore, 1) := by decide +kernel
theorem dX9_replace_64 : decode cX9_replace 64 = .ok (.aload_n 0, 1) := by decide +kernel
theorem dX9_replace_65 : decode cX9_replace 65 = .ok (.getfield 47, 3) := by decide +kernel
theorem dX9_replace_68 : decode cX9_replace 68 = .ok (.iload_n 1, 1) := by decide +kernel
theorem dX9_replace_69 : decode cX9_replace 69 = .ok (.iconst 0, 1) := by decide +kernel
theorem dX9_replace_70 : decode cX9_replace 70 = .ok (.iastore, 1) := by decide +kernel
theorem dX9_replace_71 : decode cX9_replace 71 = .ok (.iconst 0, 1) := by decide +kernel
theorem dX9_replace_72 : decode cX9_replace 72 = .ok (.ireturn, 1) := by decide +kernel
/-- WriteOnceDiscModel.replace(III)I -/
def wX9_replace (x0 : Nat) (x1 : Int32) (x2 : Int32) (x3 : Int32) (σ : Hp) (post : Int32 → Hp → Prop) : Prop :=
(tg_ σ x0 = 9 ∧ (∀ σ2, σ2 = sI_ σ 8 0 x0 (0 : Int32) → (((fI_ σ2 8 6 x0) = 0 →
  (wX9_isNode x0 x1 σ2 (fun r4 => ((r4 = 0 →
   post (-2 : Int32) σ2) ∧
  (¬ r4 = 0 →
   (tg_ σ2 (fR_ σ2 8 12 x0) = 101 ∧ (vp_in x1 (ln_ σ2 (fR_ σ2 8 12 x0)) ∧ ((¬ (aI_ σ2 (fR_ σ2 8 12 x0) (x1).toNatClampNeg) = 0 →
    post (-2 : Int32) σ2) ∧
   ((aI_ σ2 (fR_ σ2 8 12 x0) (x1).toNatClampNeg) = 0 →
    (wX9_isContent x2 x3 σ2 (fun r9 => ((¬ r9 = 0 →
     (tg_ σ2 (fR_ σ2 8 15 x0) = 102 ∧ (lo_ σ2 < (fR_ σ2 8 15 x0) ∧ (vp_in x1 (ln_ σ2 (fR_ σ2 8 15 x0)) ∧ (∀ σ14, σ14 = wI_ σ2 (fR_ σ2 8 15 x0) (x1).toNatClampNeg x2 → (tg_ σ14 (fR_ σ14 8 16 x0) = 102 ∧ (lo_ σ14 < (fR_ σ14 8 16 x0) ∧ (vp_in x1 (ln_ σ14 (fR_ σ14 8 16 x0)) ∧ (∀ σ18, σ18 = wI_ σ14 (fR_ σ14 8 16 x0) (x1).toNatClampNeg x3 → (tg_ σ18 (fR_ σ18 8 17 x0) = 101 ∧ (vp_in x1 (ln_ σ18 (fR_ σ18 8 17 x0)) ∧ (∀ σ21, σ21 = wI_ σ18 (fR_ σ18 8 17 x0) (x1).toNatClampNeg (vp_nar .boolean (0 : Int32)) → (tg_ σ21 (fR_ σ21 8 18 x0) = 102 ∧ (lo_ σ21 < (fR_ σ21 8 18 x0) ∧ (vp_in x1 (ln_ σ21 (fR_ σ21 8 18 x0)) ∧ (∀ σ25, σ25 = wI_ σ21 (fR_ σ21 8 18 x0) (x1).toNatClampNeg (0 : Int32) → post (0 : Int32) σ25)))))))))))))))) ∧
    (r9 = 0 →
     post (-2 : Int32) σ2))))))))))))) ∧
 (¬ (fI_ σ2 8 6 x0) = 0 →
  post (-4 : Int32) σ2))))
set_option maxHeartbeats 4000000 in
theorem sX9_replace {G : GG_} {p : Program} {l : Launch} {e : Env} {R : Room} {s : State} {m : MethodId} {args : Array Value} {below : List Frame} {meth : Method} {c : Code} (Y : MX_ G p R s m args meth c cX9_replace 4 RX9 (some Jvm.ClassFile.FieldType.int) 3 63 0 0 "replace") {post : Int32 → Hp → Prop} {x0 : Nat} {x1 : Int32} {x2 : Int32} {x3 : Int32} {σ : Hp} (hf : wX9_replace x0 x1 x2 x3 σ post) : WG_ G p l e R s m args below meth c (MQ below (QI_ G post) args s 0 0 (FR_ G)) BN_ 4 0 [(0, rv_ x0), (1, .int x1), (2, .int x2), (3, .int x3)] [] σ := by
  have ⟨X, hlk, hr, hRf, hRl, hRc, hnm⟩ := Y
  have ⟨⟨hx, hb, _, hown, hts⟩, _, _⟩ := X
  intro H locs cells slots ls hP hL hB hl
  obtain ⟨rfl, rfl⟩ := hB
  unfold wX9_replace at hf
  refine p_aload_n hx hb dX9_replace_0 rfl (lv_at hl 0 rfl) ?_
  refine lv_iconst (v := 0) hx hb dX9_replace_1 (by decide) ?_
  obtain ⟨ht1, hf⟩ := hf
  refine p_pI X cf8_ (k := 0) (by decide) rfl hP hL ht1 (p_ow hP ht1 rfl) q1295 (fun _ h => h) (Or.inl rfl) rfl rfl dX9_replace_2 (fun H locs hP hL => ?_)
  refine p_nmP hP (fun σ2 hσ2 hP => ?_)
  have hf := hf σ2 hσ2
  have ht1 : tg_ σ2 x0 = 9 := by rw [hσ2]; exact ht1
  refine p_aload_n hx hb dX9_replace_5 rfl (lv_at hl 0 rfl) ?_
  refine p_gI X cf8_ (k := 6) (by decide) rfl hP ht1 q1301 (fun _ h => h) dX9_replace_6 ?_
  refine lv_if_eq (tgt := 15) hx hb dX9_replace_9 (by decide) (fun c3 => ?_) (fun c3 => ?_)
  · have hf := hf.1 c3
    refine p_aload_n hx hb dX9_replace_15 rfl (lv_at hl 0 rfl) ?_
    refine lv_iload_n hx hb dX9_replace_16 rfl (lv_at hl 1 rfl) ?_
    refine p_calli hL (p_runV X cf8_ hP ht1 (metX9_isNode l G _ _ _ _ X.2.2 hf) (cwV 1 hts (lw_V q1449 q1451 qs44 q106 q1452) rfl rfl rfl (by decide +kernel) ⟨Nat.le_trans (Nat.le_of_ble_eq_true rfl) hRf, Nat.le_trans (Nat.le_of_ble_eq_true rfl) hRl⟩) rfl hl.1 rfl (by decide) dX9_replace_17 ⟨Nat.zero_le _, Nat.zero_le _⟩) (fun r4 σ₁ H locs hf hP hL => ?_)
    obtain ⟨e₁, hf⟩ := hf
    rw [e₁] at hP
    refine lv_if_eq (tgt := 40) hx hb dX9_replace_20 (by decide) (fun c5 => ?_) (fun c5 => ?_)
    · have hf := hf.1 c5
      refine lv_bipush (v := (-2)) hx hb dX9_replace_40 (by decide) ?_
      exact p_iret X hlk hP hL (Nat.le_refl _) (Nat.le_refl _) hr dX9_replace_42 hf
    · have hf := hf.2 c5
      refine p_aload_n hx hb dX9_replace_23 rfl (lv_at hl 0 rfl) ?_
      refine p_gR X cf8_ (k := 12) (by decide) rfl hP ht1 q1307 (fun _ h => h) dX9_replace_24 ?_
      refine lv_iload_n hx hb dX9_replace_27 rfl (lv_at hl 1 rfl) ?_
      obtain ⟨ht6, hf⟩ := hf
      obtain ⟨hi7, hf⟩ := hf
      refine p_zald X hP ht6 hi7 dX9_replace_28 ?_
      refine lv_if_ne (tgt := 40) hx hb dX9_replace_29 (by decide) (fun c8 => ?_) (fun c8 => ?_)
      · have hf := hf.1 c8
        refine lv_bipush (v := (-2)) hx hb dX9_replace_40 (by decide) ?_
        exact p_iret X hlk hP hL (Nat.le_refl _) (Nat.le_refl _) hr dX9_replace_42 hf
      · have hf := hf.2 c8
        refine lv_iload_n hx hb dX9_replace_32 rfl (lv_at hl 2 rfl) ?_
        refine lv_iload_n hx hb dX9_replace_33 rfl (lv_at hl 3 rfl) ?_
        refine p_calli hL (p_runS X hP (metX9_isContent l G _ _ _ _ X.2.2 hf) (va_cwS 2 hts (lw_S q1469 q1470 q106 q1471) rfl rfl rfl (by decide +kernel) ⟨Nat.le_trans (Nat.le_of_ble_eq_true rfl) hRf, Nat.le_trans (Nat.le_of_ble_eq_true rfl) hRl⟩) rfl hl.1 rfl (by decide) dX9_replace_34 ⟨Nat.zero_le _, Nat.zero_le _⟩) (fun r9 σ₁ H locs hf hP hL => ?_)
        obtain ⟨e₁, hf⟩ := hf
        rw [e₁] at hP
        refine lv_if_ne (tgt := 43) hx hb dX9_replace_37 (by decide) (fun c10 => ?_) (fun c10 => ?_)
        · have hf := hf.1 c10
          refine p_aload_n hx hb dX9_replace_43 rfl (lv_at hl 0 rfl) ?_
          refine p_gR X cf8_ (k := 15) (by decide) rfl hP ht1 q1310 (fun _ h => h) dX9_replace_44 ?_
          refine lv_iload_n hx hb dX9_replace_47 rfl (lv_at hl 1 rfl) ?_
          refine lv_iload_n hx hb dX9_replace_48 rfl (lv_at hl 2 rfl) ?_
          obtain ⟨ht11, hf⟩ := hf
          obtain ⟨hlo12, hf⟩ := hf
          obtain ⟨hi13, hf⟩ := hf
          refine p_iast X hP hL ht11 hlo12 hi13 dX9_replace_49 (fun H locs hP hL => ?_)
          refine p_nmP hP (fun σ14 hσ14 hP => ?_)
          have hf := hf σ14 hσ14
          have ht1 : tg_ σ14 x0 = 9 := by rw [hσ14]; exact ht1
          refine p_aload_n hx hb dX9_replace_50 rfl (lv_at hl 0 rfl) ?_
          refine p_gR X cf8_ (k := 16) (by decide) rfl hP ht1 q1311 (fun _ h => h) dX9_replace_51 ?_
          refine lv_iload_n hx hb dX9_replace_54 rfl (lv_at hl 1 rfl) ?_
          refine lv_iload_n hx hb dX9_replace_55 rfl (lv_at hl 3 rfl) ?_
          obtain ⟨ht15, hf⟩ := hf
          obtain ⟨hlo16, hf⟩ := hf
          obtain ⟨hi17, hf⟩ := hf
          refine p_iast X hP hL ht15 hlo16 hi17 dX9_replace_56 (fun H locs hP hL => ?_)
          refine p_nmP hP (fun σ18 hσ18 hP => ?_)
          have hf := hf σ18 hσ18
          have ht1 : tg_ σ18 x0 = 9 := by rw [hσ18]; exact ht1
          refine p_aload_n hx hb dX9_replace_57 rfl (lv_at hl 0 rfl) ?_
          refine p_gR X cf8_ (k := 17) (by decide) rfl hP ht1 q1312 (fun _ h => h) dX9_replace_58 ?_
          refine lv_iload_n hx hb dX9_replace_61 rfl (lv_at hl 1 rfl) ?_
          refine lv_iconst (v := 0) hx hb dX9_replace_62 (by decide) ?_
          obtain ⟨ht19, hf⟩ := hf
          obtain ⟨hi20, hf⟩ := hf
          refine p_zast X hP hL ht19 (p_ow hP ht19 rfl) hi20 dX9_replace_63 (fun H locs hP hL => ?_)
          refine p_nmP hP (fun σ21 hσ21 hP => ?_)
          have hf := hf σ21 hσ21
          have ht1 : tg_ σ21 x0 = 9 := by rw [hσ21]; exact ht1
          refine p_aload_n hx hb dX9_replace_64 rfl (lv_at hl 0 rfl) ?_
          refine p_gR X cf8_ (k := 18) (by decide) rfl hP ht1 q1313 (fun _ h => h) dX9_replace_65 ?_
          refine lv_iload_n hx hb dX9_replace_68 rfl (lv_at hl 1 rfl) ?_
          refine lv_iconst (v := 0) hx hb dX9_replace_69 (by decide) ?_
          obtain ⟨ht22, hf⟩ := hf
          obtain ⟨hlo23, hf⟩ := hf
          obtain ⟨hi24, hf⟩ := hf
          refine p_iast X hP hL ht22 hlo23 hi24 dX9_replace_70 (fun H locs hP hL => ?_)
          refine p_nmP hP (fun σ25 hσ25 hP => ?_)
          have hf := hf σ25 hσ25
          have ht1 : tg_ σ25 x0 = 9 := by rw [hσ25]; exact ht1
          refine lv_iconst (v := 0) hx hb dX9_replace_71 (by decide) ?_
          exact p_iret X hlk hP hL (Nat.le_refl _) (Nat.le_refl _) hr dX9_replace_72 hf
        · have hf := hf.2 c10
          refine lv_bipush (v := (-2)) hx hb dX9_replace_40 (by decide) ?_
          exact p_iret X hlk hP hL (Nat.le_refl _) (Nat.le_refl _) hr dX9_replace_42 hf
  · have hf := hf.2 c3
    refine lv_bipush (v := (-4)) hx hb dX9_replace_12 (by decide) ?_
    exact p_iret X hlk hP hL (Nat.le_refl _) (Nat.le_refl _) hr dX9_replace_14 hf
set_option maxHeartbeats 4000000 in
theorem metX9_replace (l : Launch) (G : GG_) (x0 : Nat) (x1 : Int32) (x2 : Int32) (x3 : Int32) (σ : Hp) (post : Int32 → Hp → Prop) (hG : GOK_ G) (hf : wX9_replace x0 x1 x2 x3 σ post) : Met l yX9_replace (ws_ yX9_replace cX9_replace 4 (some Jvm.ClassFile.FieldType.int)) { frames := 3, cells := 0, slots := 0, locals := 63 } (PC_ G [rv_ x0, .int x1, .int x2, .int x3] σ) (QI_ G post) 0 0 (FR_ G) := by
  refine Met.ofW (cc := cX9_replace) (maxL := 4) (ret := (some Jvm.ClassFile.FieldType.int)) (by decide) rfl ?_
  intro p e s m args below meth c s₁ B hml hv
  obtain ⟨rfl, hP, hW⟩ := hv
  have hts := atoms_spec (ws := ws_ yX9_replace cX9_replace 4 (some Jvm.ClassFile.FieldType.int)) B.pre
  have hts : ∀ w ∈ lw_all, w.before _ s = true := fun w h => hts w (List.mem_cons_of_mem _ h)
  rw [lg_entry_eq]
  have hl := en_entry [rv_ x0, .int x1, .int x2, .int x3] [1, 1, 1, 1] (n := 4) (ca_r (ca_i (ca_i (ca_i ca_n)))) (by decide)
  exact sX9_replace ⟨⟨⟨B.exec, B.bytes, hml, findClass_of_methodNamed B.named, hts⟩, hW, hG⟩, B.notSynchronized, B.returns, Nat.le_refl _, Nat.le_refl _, ⟨rfl, rfl⟩, (name_of_methodNamed B.named B.method).1⟩ hf _ _ _ _ _ hP (LO_nil G) ⟨rfl, rfl⟩ hl
abbrev cX9_remove : ByteArray := prog_11_method_22_code
def yX9_remove : MethodName := ⟨RX9, "remove", "(I)I"⟩
theorem dX9_remove_0 : decode cX9_remove 0 = .ok (.aload_n 0, 1) := by decide +kernel
theorem dX9_remove_1 : decode cX9_remove 1 = .ok (.iconst 0, 1) := by decide +kernel
theorem dX9_remove_2 : decode cX9_remove 2 = .ok (.putfield 109, 3) := by decide +kernel
theorem dX9_remove_5 : decode cX9_remove 5 = .ok (.aload_n 0, 1) := by decide +kernel
theorem dX9_remove_6 : decode cX9_remove 6 = .ok (.getfield 125, 3) := by decide +kernel
theorem dX9_remove_9 : decode cX9_remove 9 = .ok (.ifCond .eq 6, 3) := by decide +kernel
theorem dX9_remove_12 : decode cX9_remove 12 = .ok (.bipush (-4), 2) := by decide +kernel
theorem dX9_remove_14 : decode cX9_remove 14 = .ok (.ireturn, 1) := by decide +kernel
theorem dX9_remove_15 : decode cX9_remove 15 = .ok (.aload_n 0, 1) := by decide +kernel
theorem dX9_remove_16 : decode cX9_remove 16 = .ok (.iload_n 1, 1) := by decide +kernel
theorem dX9_remove_17 : decode cX9_remove 17 = .ok (.invokevirtual 139, 3) := by decide +kernel
theorem dX9_remove_20 : decode cX9_remove 20 = .ok (.ifCond .eq 7, 3) := by decide +kernel
theorem dX9_remove_23 : decode cX9_remove 23 = .ok (.iload_n 1, 1) := by decide +kernel
theorem dX9_remove_24 : decode cX9_remove 24 = .ok (.ifCond .ne 6, 3) := by decide +kernel
theorem dX9_remove_27 : decode cX9_remove 27 = .ok (.bipush (-2), 2) := by decide +kernel
theorem dX9_remove_29 : decode cX9_remove 29 = .ok (.ireturn, 1) := by decide +kernel
theorem dX9_remove_30 : decode cX9_remove 30 = .ok (.iconst 1, 1) := by decide +kernel
theorem dX9_remove_31 : decode cX9_remove 31 = .ok (.istore_n 2, 1) := by decide +kernel
theorem dX9_remove_32 : decode cX9_remove 32 = .ok (.iload_n 2, 1) := by decide +kernel
theorem dX9_remove_33 : decode cX9_remove 33 = .ok (.aload_n 0, 1) := by decide +kernel
theorem dX9_remove_34 : decode cX9_remove 34 = .ok (.getfield 112, 3) := by decide +kernel
theorem dX9_remove_37 : decode cX9_remove 37 = .ok (.if_icmp .ge 31, 3) := by decide +kernel
theorem dX9_remove_40 : decode cX9_remove 40 = .ok (.aload_n 0, 1) := by decide +kernel
theorem dX9_remove_41 : decode cX9_remove 41 = .ok (.getfield 24, 3) := by decide +kernel
theorem dX9_remove_44 : decode cX9_remove 44 = .ok (.iload_n 2, 1) := by decide +kernel
theorem dX9_remove_45 : decode cX9_remove 45 = .ok (.baload, 1) := by decide +kernel
theorem dX9_remove_46 : decode cX9_remove 46 = .ok (.ifCond .eq 16, 3) := by decide +kernel
theorem dX9_remove_49 : decode cX9_remove 49 = .ok (.aload_n 0, 1) := by decide +kernel
theorem dX9_remove_50 : decode cX9_remove 50 = .ok (.getfield 30, 3) := by decide +kernel
theorem dX9_remove_53 : decode cX9_remove 53 = .ok (.iload_n 2, 1) := by decide +kernel
theorem dX9_remove_54 : decode cX9_remove 54 = .ok (.iaload, 1) := by decide +kernel
theorem dX9_remove_55 : decode cX9_remove 55 = .ok (.iload_n 1, 1) := by decide +kernel
theorem dX9_remove_56 : decode cX9_remove 56 = .ok (.if_icmp .ne 6, 3) := by decide +kernel
theorem dX9_remove_59 : decode cX9_remove 59 = .ok (.bipush (-2), 2) := by decide +kernel
theorem dX9_remove_61 : decode cX9_remove 61 = .ok (.ireturn, 1) := by decide +kernel
theorem dX9_remove_62 : decode cX9_remove 62 = .ok (.iinc 2 1, 3) := by decide +kernel
theorem dX9_remove_65 : decode cX9_remove 65 = .ok (.goto (-33), 3) := by decide +kernel
theorem dX9_remove_68 : decode cX9_remove 68 = .ok (.aload_n 0, 1) := by decide +kernel
theorem dX9_remove_69 : decode cX9_remove 69 = .ok (.getfield 24, 3) := by decide +kernel
theorem dX9_remove_72 : decode cX9_remove 72 = .ok (.iload_n 1, 1) := by decide +kernel
theorem dX9_remove_73 : decode cX9_remove 73 = .ok (.iconst 0, 1) := by decide +kernel
theorem dX9_remove_74 : decode cX9_remove 74 = .ok (.bastore, 1) := by decide +kernel
theorem dX9_remove_75 : decode cX9_remove 75 = .ok (.iconst 0, 1) := by decide +kernel
theorem dX9_remove_76 : decode cX9_remove 76 = .ok (.ireturn, 1) := by decide +kernel
/-- WriteOnceDiscModel.remove(I)I -/
def wX9_remove_L62 (post : Int32 → Hp → Prop) (rc32 : Int32 → Prop) (x0 : Nat) (x1 : Int32) (x2 : Int32) (σ : Hp) : Prop :=
(∀ y1 : Int32, y1 = x2 + 1 → rc32 y1)
def wX9_remove_B32 (post : Int32 → Hp → Prop) (rc32 : Int32 → Prop) (x0 : Nat) (x1 : Int32) (x2 : Int32) (σ : Hp) : Prop :=
(tg_ σ x0 = 9 ∧ (((fI_ σ 8 10 x0) ≤ x2 →
  (tg_ σ (fR_ σ 8 11 x0) = 101 ∧ (vp_in x1 (ln_ σ (fR_ σ 8 11 x0)) ∧ (∀ σ6, σ6 = wI_ σ (fR_ σ 8 11 x0) (x1).toNatClampNeg (vp_nar .boolean (0 : Int32)) → post (0 : Int32) σ6)))) ∧
 (¬ (fI_ σ 8 10 x0) ≤ x2 →
  (tg_ σ (fR_ σ 8 11 x0) = 101 ∧ (vp_in x2 (ln_ σ (fR_ σ 8 11 x0)) ∧ (((aI_ σ (fR_ σ 8 11 x0) (x2).toNatClampNeg) = 0 →
   wX9_remove_L62 post rc32 x0 x1 x2 σ) ∧
  (¬ (aI_ σ (fR_ σ 8 11 x0) (x2).toNatClampNeg) = 0 →
   (tg_ σ (fR_ σ 8 13 x0) = 102 ∧ (vp_in x2 (ln_ σ (fR_ σ 8 13 x0)) ∧ ((¬ (aI_ σ (fR_ σ 8 13 x0) (x2).toNatClampNeg) = x1 →
    wX9_remove_L62 post rc32 x0 x1 x2 σ) ∧
   ((aI_ σ (fR_ σ 8 13 x0) (x2).toNatClampNeg) = x1 →
    post (-2 : Int32) σ)))))))))))
def wX9_remove_L32 (post : Int32 → Hp → Prop) (x0 : Nat) (x1 : Int32) (x2 : Int32) (σ : Hp) : Prop :=
 ∃ (I : Int32 → Prop) (μ : Int32 → Nat), I x2 ∧ ∀ (x2 : Int32), I x2 → wX9_remove_B32 post (fun x2' => I x2' ∧ μ x2' < μ x2) x0 x1 x2 σ
def wX9_remove (x0 : Nat) (x1 : Int32) (σ : Hp) (post : Int32 → Hp → Prop) : Prop :=
(tg_ σ x0 = 9 ∧ (∀ σ14, σ14 = sI_ σ 8 0 x0 (0 : Int32) → (((fI_ σ14 8 6 x0) = 0 →
  (wX9_isNode x0 x1 σ14 (fun r16 => ((r16 = 0 →
   post (-2 : Int32) σ14) ∧
  (¬ r16 = 0 →
   ((¬ x1 = 0 →
    wX9_remove_L32 post x0 x1 (1 : Int32) σ14) ∧
   (x1 = 0 →
    post (-2 : Int32) σ14))))))) ∧
 (¬ (fI_ σ14 8 6 x0) = 0 →
  post (-4 : Int32) σ14))))
set_option maxHeartbeats 4000000 in
theorem sX9_remove_L62 {G : GG_} {p : Program} {l : Launch} {e : Env} {R : Room} {s : State} {m : MethodId} {args : Array Value} {below : List Frame} {meth : Method} {c : Code} (Y : MX_ G p R s m args meth c cX9_remove 3 RX9 (some Jvm.ClassFile.FieldType.int) 2 41 0 0 "remove") {post : Int32 → Hp → Prop} {rc32 : Int32 → Prop} {x0 : Nat} {x1 : Int32} {x2 : Int32} {σ : Hp} (hrc32 : ∀ (x2 : Int32), rc32 x2 → WG_ G p l e R s m args below meth c (MQ below (QI_ G post) args s 0 0 (FR_ G)) BN_ 3 32 [(0, rv_ x0), (1, .int x1), (2, .int x2)] [] σ) (hf : wX9_remove_L62 post rc32 x0 x1 x2 σ) : WG_ G p l e R s m args below meth c (MQ below (QI_ G post) args s 0 0 (FR_ G)) BN_ 3 62 [(0, rv_ x0), (1, .int x1), (2, .int x2)] [] σ := by
  have ⟨X, hlk, hr, hRf, hRl, hRc, hnm⟩ := Y
  have ⟨⟨hx, hb, _, hown, hts⟩, _, _⟩ := X
  intro H locs cells slots ls hP hL hB hl
  obtain ⟨rfl, rfl⟩ := hB
  unfold wX9_remove_L62 at hf
  have hl := lv_sub hl [2, 0, 1] rfl
  refine p_iincc (i := 2) (k := 1) hx hb (by decide) dX9_remove_62 hl (by decide) ⟨⟨ne_ rfl, Or.inl (ne_ rfl)⟩, ⟨⟨ne_ rfl, Or.inr rfl⟩, trivial⟩⟩ (fun y1 hy1 ls hl => ?_)
  have hf := hf y1 hy1
  refine lv_goto (tgt := 32) hx hb dX9_remove_65 (by decide) ?_
  exact hrc32 _ hf _ _ _ _ _ hP hL ⟨rfl, rfl⟩ (lv_sub hl [1, 2, 0] rfl)
set_option maxHeartbeats 4000000 in
theorem sX9_remove_B32 {G : GG_} {p : Program} {l : Launch} {e : Env} {R : Room} {s : State} {m : MethodId} {args : Array Value} {below : List Frame} {meth : Method} {c : Code} (Y : MX_ G p R s m args meth c cX9_remove 3 RX9 (some Jvm.ClassFile.FieldType.int) 2 41 0 0 "remove") {post : Int32 → Hp → Prop} {rc32 : Int32 → Prop} {x0 : Nat} {x1 : Int32} {x2 : Int32} {σ : Hp} (hrc32 : ∀ (x2 : Int32), rc32 x2 → WG_ G p l e R s m args below meth c (MQ below (QI_ G post) args s 0 0 (FR_ G)) BN_ 3 32 [(0, rv_ x0), (1, .int x1), (2, .int x2)] [] σ) (hf : wX9_remove_B32 post rc32 x0 x1 x2 σ) : WG_ G p l e R s m args below meth c (MQ below (QI_ G post) args s 0 0 (FR_ G)) BN_ 3 32 [(0, rv_ x0), (1, .int x1), (2, .int x2)] [] σ := by
  have ⟨X, hlk, hr, hRf, hRl, hRc, hnm⟩ := Y
  have ⟨⟨hx, hb, _, hown, hts⟩, _, _⟩ := X
  intro H locs cells slots ls hP hL hB hl
  obtain ⟨rfl, rfl⟩ := hB
  unfold wX9_remove_B32 at hf
  refine lv_iload_n hx hb dX9_remove_32 rfl (lv_at hl 2 rfl) ?_
  refine p_aload_n hx hb dX9_remove_33 rfl (lv_at hl 0 rfl) ?_
  obtain ⟨ht2, hf⟩ := hf
  refine p_gI X cf8_ (k := 10) (by decide) rfl hP ht2 q1305 (fun _ h => h) dX9_remove_34 ?_
  refine lv_icmp_ge (tgt := 68) hx hb dX9_remove_37 (by decide) (fun c3 => ?_) (fun c3 => ?_)
  · have hf := hf.1 c3
    refine p_aload_n hx hb dX9_remove_68 rfl (lv_at hl 0 rfl) ?_
    refine p_gR X cf8_ (k := 11) (by decide) rfl hP ht2 q1306 (fun _ h => h) dX9_remove_69 ?_
    refine lv_iload_n hx hb dX9_remove_72 rfl (lv_at hl 1 rfl) ?_
    refine lv_iconst (v := 0) hx hb dX9_remove_73 (by decide) ?_
    obtain ⟨ht4, hf⟩ := hf
    obtain ⟨hi5, hf⟩ := hf
    refine p_zast X hP hL ht4 (p_ow hP ht4 rfl) hi5 dX9_remove_74 (fun H locs hP hL => ?_)
    refine p_nmP hP (fun σ6 hσ6 hP => ?_)
    have hf := hf σ6 hσ6
    have ht2 : tg_ σ6 x0 = 9 := by rw [hσ6]; exact ht2
    refine lv_iconst (v := 0) hx hb dX9_remove_75 (by decide) ?_
    exact p_iret X hlk hP hL (Nat.le_refl _) (Nat.le_refl _) hr dX9_remove_76 hf
  · have hf := hf.2 c3
    refine p_aload_n hx hb dX9_remove_40 rfl (lv_at hl 0 rfl) ?_
    refine p_gR X cf8_ (k := 11) (by decide) rfl hP ht2 q1306 (fun _ h => h) dX9_remove_41 ?_
    refine lv_iload_n hx hb dX9_remove_44 rfl (lv_at hl 2 rfl) ?_
    obtain ⟨ht7, hf⟩ := hf
    obtain ⟨hi8, hf⟩ := hf
    refine p_zald X hP ht7 hi8 dX9_remove_45 ?_
    refine lv_if_eq (tgt := 62) hx hb dX9_remove_46 (by decide) (fun c9 => ?_) (fun c9 => ?_)
    · have hf := hf.1 c9
      exact sX9_remove_L62 Y hrc32 hf _ _ _ _ _ hP hL ⟨rfl, rfl⟩ (lv_sub hl [0, 1, 2] rfl)
    · have hf := hf.2 c9
      refine p_aload_n hx hb dX9_remove_49 rfl (lv_at hl 0 rfl) ?_
      refine p_gR X cf8_ (k := 13) (by decide) rfl hP ht2 q1308 (fun _ h => h) dX9_remove_50 ?_
      refine lv_iload_n hx hb dX9_remove_53 rfl (lv_at hl 2 rfl) ?_
      obtain ⟨ht10, hf⟩ := hf
      obtain ⟨hi11, hf⟩ := hf
      refine p_iald X hP ht10 hi11 dX9_remove_54 ?_
      refine lv_iload_n hx hb dX9_remove_55 rfl (lv_at hl 1 rfl) ?_
      refine lv_icmp_ne (tgt := 62) hx hb dX9_remove_56 (by decide) (fun c12 => ?_) (fun c12 => ?_)
      · have hf := hf.1 c12
        exact sX9_remove_L62 Y hrc32 hf _ _ _ _ _ hP hL ⟨rfl, rfl⟩ (lv_sub hl [0, 1, 2] rfl)
      · have hf := hf.2 c12
        refine lv_bipush (v := (-2)) hx hb dX9_remove_59 (by decide) ?_
        exact p_iret X hlk hP hL (Nat.le_refl _) (Nat.le_refl _) hr dX9_remove_61 hf
set_option maxHeartbeats 4000000 in
theorem sX9_remove_L32 {G : GG_} {p : Program} {l : Launch} {e : Env} {R : Room} {s : State} {m : MethodId} {args : Array Value} {below : List Frame} {meth : Method} {c : Code} (Y : MX_ G p R s m args meth c cX9_remove 3 RX9 (some Jvm.ClassFile.FieldType.int) 2 41 0 0 "remove") {post : Int32 → Hp → Prop} {x0 : Nat} {x1 : Int32} {x2 : Int32} {σ : Hp} (hf : wX9_remove_L32 post x0 x1 x2 σ) : WG_ G p l e R s m args below meth c (MQ below (QI_ G post) args s 0 0 (FR_ G)) BN_ 3 32 [(0, rv_ x0), (1, .int x1), (2, .int x2)] [] σ := by
  unfold wX9_remove_L32 at hf
  obtain ⟨I, μ, h0, hI⟩ := hf
  have key : ∀ (n : Nat) (x2 : Int32), I x2 → μ x2 < n → WG_ G p l e R s m args below meth c (MQ below (QI_ G post) args s 0 0 (FR_ G)) BN_ 3 32 [(0, rv_ x0), (1, .int x1), (2, .int x2)] [] σ := by
    intro n
    induction n with
    | zero => intro x2 _ h; exact absurd h (Nat.not_lt_zero _)
    | succ n ih => intro x2 hi hn; exact sX9_remove_B32 Y (fun x2' h => ih x2' h.1 (Nat.lt_of_lt_of_le h.2 (Nat.le_of_lt_succ hn))) (hI x2 hi)
  exact key _ _ h0 (Nat.lt_succ_self _)
set_option maxHeartbeats 4000000 in
theorem sX9_remove {G : GG_} {p : Program} {l : Launch} {e : Env} {R : Room} {s : State} {m : MethodId} {args : Array Value} {below : List Frame} {meth : Method} {c : Code} (Y : MX_ G p R s m args meth c cX9_remove 3 RX9 (some Jvm.ClassFile.FieldType.int) 2 41 0 0 "remove") {post : Int32 → Hp → Prop} {x0 : Nat} {x1 : Int32} {σ : Hp} (hf : wX9_remove x0 x1 σ post) : WG_ G p l e R s m args below meth c (MQ below (QI_ G post) args s 0 0 (FR_ G)) BN_ 3 0 [(0, rv_ x0), (1, .int x1)] [] σ := by
  have ⟨X, hlk, hr, hRf, hRl, hRc, hnm⟩ := Y
  have ⟨⟨hx, hb, _, hown, hts⟩, _, _⟩ := X
  intro H locs cells slots ls hP hL hB hl
  obtain ⟨rfl, rfl⟩ := hB
  unfold wX9_remove at hf
  refine p_aload_n hx hb dX9_remove_0 rfl (lv_at hl 0 rfl) ?_
  refine lv_iconst (v := 0) hx hb dX9_remove_1 (by decide) ?_
  obtain ⟨ht13, hf⟩ := hf
  refine p_pI X cf8_ (k := 0) (by decide) rfl hP hL ht13 (p_ow hP ht13 rfl) q1295 (fun _ h => h) (Or.inl rfl) rfl rfl dX9_remove_2 (fun H locs hP hL => ?_)
  refine p_nmP hP (fun σ14 hσ14 hP => ?_)
  have hf := hf σ14 hσ14
  have ht13 : tg_ σ14 x0 = 9 := by rw [hσ14]; exact ht13
  refine p_aload_n hx hb dX9_remove_5 rfl (lv_at hl 0 rfl) ?_
  refine p_gI X cf8_ (k := 6) (by decide) rfl hP ht13 q1301 (fun _ h => h) dX9_remove_6 ?_
  refine lv_if_eq (tgt := 15) hx hb dX9_remove_9 (by decide) (fun c15 => ?_) (fun c15 => ?_)
  · have hf := hf.1 c15
    refine p_aload_n hx hb dX9_remove_15 rfl (lv_at hl 0 rfl) ?_
    refine lv_iload_n hx hb dX9_remove_16 rfl (lv_at hl 1 rfl) ?_
    refine p_calli hL (p_runV X cf8_ hP ht13 (metX9_isNode l G _ _ _ _ X.2.2 hf) (cwV 1 hts (lw_V q1449 q1451 qs44 q106 q1452) rfl rfl rfl (by decide +kernel) ⟨Nat.le_trans (Nat.le_of_ble_eq_true rfl) hRf, Nat.le_trans (Nat.le_of_ble_eq_true rfl) hRl⟩) rfl hl.1 rfl (by decide) dX9_remove_17 ⟨Nat.zero_le _, Nat.zero_le _⟩) (fun r16 σ₁ H locs hf hP hL => ?_)
    obtain ⟨e₁, hf⟩ := hf
    rw [e₁] at hP
    refine lv_if_eq (tgt := 27) hx hb dX9_remove_20 (by decide) (fun c17 => ?_) (fun c17 => ?_)
    · have hf := hf.1 c17
      refine lv_bipush (v := (-2)) hx hb dX9_remove_27 (by decide) ?_
      exact p_iret X hlk hP hL (Nat.le_refl _) (Nat.le_refl _) hr dX9_remove_29 hf
    · have hf := hf.2 c17
      refine lv_iload_n hx hb dX9_remove_23 rfl (lv_at hl 1 rfl) ?_
      refine lv_if_ne (tgt := 30) hx hb dX9_remove_24 (by decide) (fun c18 => ?_) (fun c18 => ?_)
      · have hf := hf.1 c18
        refine lv_iconst (v := 1) hx hb dX9_remove_30 (by decide) ?_
        refine p_istore_n (i := 2) hx hb dX9_remove_31 rfl hl (by decide) ⟨⟨ne_ rfl, Or.inl (ne_ rfl)⟩, ⟨⟨ne_ rfl, Or.inr rfl⟩, trivial⟩⟩ (fun ls hl => ?_)
        exact sX9_remove_L32 Y hf _ _ _ _ _ hP hL ⟨rfl, rfl⟩ (lv_sub hl [1, 2, 0] rfl)
      · have hf := hf.2 c18
        refine lv_bipush (v := (-2)) hx hb dX9_remove_27 (by decide) ?_
        exact p_iret X hlk hP hL (Nat.le_refl _) (Nat.le_refl _) hr dX9_remove_29 hf
  · have hf := hf.2 c15
    refine lv_bipush (v := (-4)) hx hb dX9_remove_12 (by decide) ?_
    exact p_iret X hlk hP hL (Nat.le_refl _) (Nat.le_refl _) hr dX9_remove_14 hf
set_option maxHeartbeats 4000000 in
theorem metX9_remove (l : Launch) (G : GG_) (x0 : Nat) (x1 : Int32) (σ : Hp) (post : Int32 → Hp → Prop) (hG : GOK_ G) (hf : wX9_remove x0 x1 σ post) : Met l yX9_remove (ws_ yX9_remove cX9_remove 3 (some Jvm.ClassFile.FieldType.int)) { frames := 2, cells := 0, slots := 0, locals := 41 } (PC_ G [rv_ x0, .int x1] σ) (QI_ G post) 0 0 (FR_ G) := by
  refine Met.ofW (cc := cX9_remove) (maxL := 3) (ret := (some Jvm.ClassFile.FieldType.int)) (by decide) rfl ?_
  intro p e s m args below meth c s₁ B hml hv
  obtain ⟨rfl, hP, hW⟩ := hv
  have hts := atoms_spec (ws := ws_ yX9_remove cX9_remove 3 (some Jvm.ClassFile.FieldType.int)) B.pre
  have hts : ∀ w ∈ lw_all, w.before _ s = true := fun w h => hts w (List.mem_cons_of_mem _ h)
  rw [lg_entry_eq]
  have hl := en_entry [rv_ x0, .int x1] [1, 1] (n := 3) (ca_r (ca_i ca_n)) (by decide)
  exact sX9_remove ⟨⟨⟨B.exec, B.bytes, hml, findClass_of_methodNamed B.named, hts⟩, hW, hG⟩, B.notSynchronized, B.returns, Nat.le_refl _, Nat.le_refl _, ⟨rfl, rfl⟩, (name_of_methodNamed B.named B.method).1⟩ hf _ _ _ _ _ hP (LO_nil G) ⟨rfl, rfl⟩ hl
abbrev cX9_liesIn : ByteArray := prog_11_method_23_code
def yX9_liesIn : MethodName := ⟨RX9, "liesIn", "(II)Z"⟩
theorem dX9_liesIn_0 : decode cX9_liesIn 0 = .ok (.iload_n 1, 1) := by decide +kernel
theorem dX9_liesIn_1 : decode cX9_liesIn 1 = .ok (.istore_n 3, 1) := by decide +kernel
theorem dX9_liesIn_2 : decode cX9_liesIn 2 = .ok (.iload_n 3, 1) := by decide +kernel
theorem dX9_liesIn_3 : decode cX9_liesIn 3 = .ok (.ifCond .le 18, 3) := by decide +kernel
theorem dX9_liesIn_6 : decode cX9_liesIn 6 = .ok (.iload_n 3, 1) := by decide +kernel
theorem dX9_liesIn_7 : decode cX9_liesIn 7 = .ok (.iload_n 2, 1) := by decide +kernel
theorem dX9_liesIn_8 : decode cX9_liesIn 8 = .ok (.if_icmp .eq 13, 3) := by decide +kernel
theorem dX9_liesIn_11 : decode cX9_liesIn 11 = .ok (.aload_n 0, 1) := by decide +kernel
theorem dX9_liesIn_12 : decode cX9_liesIn 12 = .ok (.getfield 30, 3) := by decide +kernel
theorem dX9_liesIn_15 : decode cX9_liesIn 15 = .ok (.iload_n 3, 1) := by decide +kernel
theorem dX9_liesIn_16 : decode cX9_liesIn 16 = .ok (.iaload, 1) := by decide +kernel
theorem dX9_liesIn_17 : decode cX9_liesIn 17 = .ok (.istore_n 3, 1) := by decide +kernel
theorem dX9_liesIn_18 : decode cX9_liesIn 18 = .ok (.goto (-16), 3) := by decide +kernel
theorem dX9_liesIn_21 : decode cX9_liesIn 21 = .ok (.iload_n 3, 1) := by decide +kernel
theorem dX9_liesIn_22 : decode cX9_liesIn 22 = .ok (.iload_n 2, 1) := by decide +kernel
theorem dX9_liesIn_23 : decode cX9_liesIn 23 = .ok (.if_icmp .ne 7, 3) := by decide +kernel
theorem dX9_liesIn_26 : decode cX9_liesIn 26 = .ok (.iconst 1, 1) := by decide +kernel
theorem dX9_liesIn_27 : decode cX9_liesIn 27 = .ok (.goto 4, 3) := by decide +kernel
theorem dX9_liesIn_30 : decode cX9_liesIn 30 = .ok (.iconst 0, 1) := by decide +kernel
theorem dX9_liesIn_31 : decode cX9_liesIn 31 = .ok (.ireturn, 1) := by decide +kernel
/-- WriteOnceDiscModel.liesIn(II)Z -/
def wX9_liesIn_L21 (post : Int32 → Prop) (x2 : Int32) (x3 : Int32) (σ : Hp) : Prop :=
((¬ x3 = x2 →
  post (0 : Int32)) ∧
 (x3 = x2 →
  post (1 : Int32)))
def wX9_liesIn_B2 (post : Int32 → Prop) (rc2 : Int32 → Prop) (x0 : Nat) (x2 : Int32) (x3 : Int32) (σ : Hp) : Prop :=
((x3 ≤ 0 →
  wX9_liesIn_L21 post x2 x3 σ) ∧
 (¬ x3 ≤ 0 →
  ((x3 = x2 →
   wX9_liesIn_L21 post x2 x3 σ) ∧
  (¬ x3 = x2 →
   (tg_ σ x0 = 9 ∧ (tg_ σ (fR_ σ 8 13 x0) = 102 ∧ (vp_in x3 (ln_ σ (fR_ σ 8 13 x0)) ∧ (∀ y7 : Int32, y7 = (aI_ σ (fR_ σ 8 13 x0) (x3).toNatClampNeg) → rc2 y7))))))))
def wX9_liesIn_L2 (post : Int32 → Prop) (x0 : Nat) (x2 : Int32) (x3 : Int32) (σ : Hp) : Prop :=
 ∃ (I : Int32 → Prop) (μ : Int32 → Nat), I x3 ∧ ∀ (x3 : Int32), I x3 → wX9_liesIn_B2 post (fun x3' => I x3' ∧ μ x3' < μ x3) x0 x2 x3 σ
def wX9_liesIn (x0 : Nat) (x1 : Int32) (x2 : Int32) (σ : Hp) (post : Int32 → Prop) : Prop :=
wX9_liesIn_L2 post x0 x2 x1 σ
set_option maxHeartbeats 4000000 in
theorem sX9_liesIn_L21 {G : GG_} {p : Program} {l : Launch} {e : Env} {R : Room} {s : State} {m : MethodId} {args : Array Value} {below : List Frame} {meth : Method} {c : Code} (Y : MX_ G p R s m args meth c cX9_liesIn 4 RX9 (some Jvm.ClassFile.FieldType.boolean) 1 20 0 0 "liesIn") {post : Int32 → Prop} {x2 : Int32} {x3 : Int32} {σ : Hp} (hf : wX9_liesIn_L21 post x2 x3 σ) : WG_ G p l e R s m args below meth c (MQ below (QI_ G (fun r τ => τ = σ ∧ post r)) args s 0 0 (FR_ G)) BN_ 4 21 [(2, .int x2), (3, .int x3)] [] σ := by
  have ⟨X, hlk, hr, hRf, hRl, hRc, hnm⟩ := Y
  have ⟨⟨hx, hb, _, hown, hts⟩, _, _⟩ := X
  intro H locs cells slots ls hP hL hB hl
  obtain ⟨rfl, rfl⟩ := hB
  unfold wX9_liesIn_L21 at hf
  refine lv_iload_n hx hb dX9_liesIn_21 rfl (lv_at hl 1 rfl) ?_
  refine lv_iload_n hx hb dX9_liesIn_22 rfl (lv_at hl 0 rfl) ?_
  refine lv_icmp_ne (tgt := 30) hx hb dX9_liesIn_23 (by decide) (fun c1 => ?_) (fun c1 => ?_)
  · have hf := hf.1 c1
    refine lv_iconst (v := 0) hx hb dX9_liesIn_30 (by decide) ?_
    exact p_zret X hlk hP hL (Nat.le_refl _) (Nat.le_refl _) hr nr_0 dX9_liesIn_31 ⟨rfl, hf⟩
  · have hf := hf.2 c1
    refine lv_iconst (v := 1) hx hb dX9_liesIn_26 (by decide) ?_
    refine lv_goto (tgt := 31) hx hb dX9_liesIn_27 (by decide) ?_
    exact p_zret X hlk hP hL (Nat.le_refl _) (Nat.le_refl _) hr nr_1 dX9_liesIn_31 ⟨rfl, hf⟩
set_option maxHeartbeats 4000000 in
theorem sX9_liesIn_B2 {G : GG_} {p : Program} {l : Launch} {e : Env} {R : Room} {s : State} {m : MethodId} {args : Array Value} {below : List Frame} {meth : Method} {c : Code} (Y : MX_ G p R s m args meth c cX9_liesIn 4 RX9 (some Jvm.ClassFile.FieldType.boolean) 1 20 0 0 "liesIn") {post : Int32 → Prop} {rc2 : Int32 → Prop} {x0 : Nat} {x2 : Int32} {x3 : Int32} {σ : Hp} (hrc2 : ∀ (x3 : Int32), rc2 x3 → WG_ G p l e R s m args below meth c (MQ below (QI_ G (fun r τ => τ = σ ∧ post r)) args s 0 0 (FR_ G)) BN_ 4 2 [(0, rv_ x0), (2, .int x2), (3, .int x3)] [] σ) (hf : wX9_liesIn_B2 post rc2 x0 x2 x3 σ) : WG_ G p l e R s m args below meth c (MQ below (QI_ G (fun r τ => τ = σ ∧ post r)) args s 0 0 (FR_ G)) BN_ 4 2 [(0, rv_ x0), (2, .int x2), (3, .int x3)] [] σ := by
  have ⟨X, hlk, hr, hRf, hRl, hRc, hnm⟩ := Y
  have ⟨⟨hx, hb, _, hown, hts⟩, _, _⟩ := X
  intro H locs cells slots ls hP hL hB hl
  obtain ⟨rfl, rfl⟩ := hB
  unfold wX9_liesIn_B2 at hf
  refine lv_iload_n hx hb dX9_liesIn_2 rfl (lv_at hl 2 rfl) ?_
  refine lv_if_le (tgt := 21) hx hb dX9_liesIn_3 (by decide) (fun c2 => ?_) (fun c2 => ?_)
  · have hf := hf.1 c2
    exact sX9_liesIn_L21 Y hf _ _ _ _ _ hP hL ⟨rfl, rfl⟩ (lv_sub hl [1, 2] rfl)
  · have hf := hf.2 c2
    refine lv_iload_n hx hb dX9_liesIn_6 rfl (lv_at hl 2 rfl) ?_
    refine lv_iload_n hx hb dX9_liesIn_7 rfl (lv_at hl 1 rfl) ?_
    refine lv_icmp_eq (tgt := 21) hx hb dX9_liesIn_8 (by decide) (fun c3 => ?_) (fun c3 => ?_)
    · have hf := hf.1 c3
      exact sX9_liesIn_L21 Y hf _ _ _ _ _ hP hL ⟨rfl, rfl⟩ (lv_sub hl [1, 2] rfl)
    · have hf := hf.2 c3
      refine p_aload_n hx hb dX9_liesIn_11 rfl (lv_at hl 0 rfl) ?_
      obtain ⟨ht4, hf⟩ := hf
      refine p_gR X cf8_ (k := 13) (by decide) rfl hP ht4 q1308 (fun _ h => h) dX9_liesIn_12 ?_
      refine lv_iload_n hx hb dX9_liesIn_15 rfl (lv_at hl 2 rfl) ?_
      obtain ⟨ht5, hf⟩ := hf
      obtain ⟨hi6, hf⟩ := hf
      refine p_iald X hP ht5 hi6 dX9_liesIn_16 ?_
      have hl := lv_sub hl [0, 1] rfl
      refine lv_topi (fun y7 hy7 => ?_)
      have hf := hf y7 hy7
      refine p_istore_n (i := 3) hx hb dX9_liesIn_17 rfl hl (by decide) ⟨⟨ne_ rfl, Or.inl (ne_ rfl)⟩, ⟨⟨ne_ rfl, Or.inr rfl⟩, trivial⟩⟩ (fun ls hl => ?_)
      refine lv_goto (tgt := 2) hx hb dX9_liesIn_18 (by decide) ?_
      exact hrc2 _ hf _ _ _ _ _ hP hL ⟨rfl, rfl⟩ (lv_sub hl [1, 2, 0] rfl)
set_option maxHeartbeats 4000000 in
theorem sX9_liesIn_L2 {G : GG_} {p : Program} {l : Launch} {e : Env} {R : Room} {s : State} {m : MethodId} {args : Array Value} {below : List Frame} {meth : Method} {c : Code} (Y : MX_ G p R s m args meth c cX9_liesIn 4 RX9 (some Jvm.ClassFile.FieldType.boolean) 1 20 0 0 "liesIn") {post : Int32 → Prop} {x0 : Nat} {x2 : Int32} {x3 : Int32} {σ : Hp} (hf : wX9_liesIn_L2 post x0 x2 x3 σ) : WG_ G p l e R s m args below meth c (MQ below (QI_ G (fun r τ => τ = σ ∧ post r)) args s 0 0 (FR_ G)) BN_ 4 2 [(0, rv_ x0), (2, .int x2), (3, .int x3)] [] σ := by
  unfold wX9_liesIn_L2 at hf
  obtain ⟨I, μ, h0, hI⟩ := hf
  have key : ∀ (n : Nat) (x3 : Int32), I x3 → μ x3 < n → WG_ G p l e R s m args below meth c (MQ below (QI_ G (fun r τ => τ = σ ∧ post r)) args s 0 0 (FR_ G)) BN_ 4 2 [(0, rv_ x0), (2, .int x2), (3, .int x3)] [] σ := by
    intro n
    induction n with
    | zero => intro x3 _ h; exact absurd h (Nat.not_lt_zero _)
    | succ n ih => intro x3 hi hn; exact sX9_liesIn_B2 Y (fun x3' h => ih x3' h.1 (Nat.lt_of_lt_of_le h.2 (Nat.le_of_lt_succ hn))) (hI x3 hi)
  exact key _ _ h0 (Nat.lt_succ_self _)
set_option maxHeartbeats 4000000 in
theorem sX9_liesIn {G : GG_} {p : Program} {l : Launch} {e : Env} {R : Room} {s : State} {m : MethodId} {args : Array Value} {below : List Frame} {meth : Method} {c : Code} (Y : MX_ G p R s m args meth c cX9_liesIn 4 RX9 (some Jvm.ClassFile.FieldType.boolean) 1 20 0 0 "liesIn") {post : Int32 → Prop} {x0 : Nat} {x1 : Int32} {x2 : Int32} {σ : Hp} (hf : wX9_liesIn x0 x1 x2 σ post) : WG_ G p l e R s m args below meth c (MQ below (QI_ G (fun r τ => τ = σ ∧ post r)) args s 0 0 (FR_ G)) BN_ 4 0 [(0, rv_ x0), (1, .int x1), (2, .int x2)] [] σ := by
  have ⟨X, hlk, hr, hRf, hRl, hRc, hnm⟩ := Y
  have ⟨⟨hx, hb, _, hown, hts⟩, _, _⟩ := X
  intro H locs cells slots ls hP hL hB hl
  obtain ⟨rfl, rfl⟩ := hB
  unfold wX9_liesIn at hf
  refine lv_iload_n hx hb dX9_liesIn_0 rfl (lv_at hl 1 rfl) ?_
  have hl := lv_sub hl [0, 2] rfl
  refine p_istore_n (i := 3) hx hb dX9_liesIn_1 rfl hl (by decide) ⟨⟨ne_ rfl, Or.inl (ne_ rfl)⟩, ⟨⟨ne_ rfl, Or.inr rfl⟩, trivial⟩⟩ (fun ls hl => ?_)
  exact sX9_liesIn_L2 Y hf _ _ _ _ _ hP hL ⟨rfl, rfl⟩ (lv_sub hl [1, 2, 0] rfl)
set_option maxHeartbeats 4000000 in
theorem metX9_liesIn (l : Launch) (G : GG_) (x0 : Nat) (x1 : Int32) (x2 : Int32) (σ : Hp) (post : Int32 → Prop) (hG : GOK_ G) (hf : wX9_liesIn x0 x1 x2 σ post) : Met l yX9_liesIn (ws_ yX9_liesIn cX9_liesIn 4 (some Jvm.ClassFile.FieldType.boolean)) { frames := 1, cells := 0, slots := 0, locals := 20 } (PC_ G [rv_ x0, .int x1, .int x2] σ) (QI_ G (fun r τ => τ = σ ∧ post r)) 0 0 (FR_ G) := by
  refine Met.ofW (cc := cX9_liesIn) (maxL := 4) (ret := (some Jvm.ClassFile.FieldType.boolean)) (by decide) rfl ?_
  intro p e s m args below meth c s₁ B hml hv
  obtain ⟨rfl, hP, hW⟩ := hv
  have hts := atoms_spec (ws := ws_ yX9_liesIn cX9_liesIn 4 (some Jvm.ClassFile.FieldType.boolean)) B.pre
  have hts : ∀ w ∈ lw_all, w.before _ s = true := fun w h => hts w (List.mem_cons_of_mem _ h)
  rw [lg_entry_eq]
  have hl := en_entry [rv_ x0, .int x1, .int x2] [1, 1, 1] (n := 4) (ca_r (ca_i (ca_i ca_n))) (by decide)
  exact sX9_liesIn ⟨⟨⟨B.exec, B.bytes, hml, findClass_of_methodNamed B.named, hts⟩, hW, hG⟩, B.notSynchronized, B.returns, Nat.le_refl _, Nat.le_refl _, ⟨rfl, rfl⟩, (name_of_methodNamed B.named B.method).1⟩ hf _ _ _ _ _ hP (LO_nil G) ⟨rfl, rfl⟩ hl
abbrev cX9_rename : ByteArray := prog_11_method_24_code
def yX9_rename : MethodName := ⟨RX9, "rename", "(IIJ)I"⟩
theorem dX9_rename_0 : decode cX9_rename 0 = .ok (.aload_n 0, 1) := by decide +kernel
theorem dX9_rename_1 : decode cX9_rename 1 = .ok (.iconst 0, 1) := by decide +kernel
theorem dX9_rename_2 : decode cX9_rename 2 = .ok (.putfield 109, 3) := by decide +kernel
theorem dX9_rename_5 : decode cX9_rename 5 = .ok (.aload_n 0, 1) := by decide +kernel
theorem dX9_rename_6 : decode cX9_rename 6 = .ok (.getfield 125, 3) := by decide +kernel
theorem dX9_rename_9 : decode cX9_rename 9 = .ok (.ifCond .eq 6, 3) := by decide +kernel
theorem dX9_rename_12 : decode cX9_rename 12 = .ok (.bipush (-4), 2) := by decide +kernel
theorem dX9_rename_14 : decode cX9_rename 14 = .ok (.ireturn, 1) := by decide +kernel
theorem dX9_rename_15 : decode cX9_rename 15 = .ok (.lload_n 3, 1) := by decide +kernel
theorem dX9_rename_16 : decode cX9_rename 16 = .ok (.invokestatic 135, 3) := by decide +kernel
theorem dX9_rename_19 : decode cX9_rename 19 = .ok (.lstore 5, 2) := by decide +kernel
theorem dX9_rename_21 : decode cX9_rename 21 = .ok (.aload_n 0, 1) := by decide +kernel
theorem dX9_rename_22 : decode cX9_rename 22 = .ok (.iload_n 1, 1) := by decide +kernel
theorem dX9_rename_23 : decode cX9_rename 23 = .ok (.invokevirtual 139, 3) := by decide +kernel
theorem dX9_rename_26 : decode cX9_rename 26 = .ok (.ifCond .eq 40, 3) := by decide +kernel
theorem dX9_rename_29 : decode cX9_rename 29 = .ok (.iload_n 1, 1) := by decide +kernel
theorem dX9_rename_30 : decode cX9_rename 30 = .ok (.ifCond .eq 36, 3) := by decide +kernel
theorem dX9_rename_33 : decode cX9_rename 33 = .ok (.aload_n 0, 1) := by decide +kernel
theorem dX9_rename_34 : decode cX9_rename 34 = .ok (.iload_n 2, 1) := by decide +kernel
theorem dX9_rename_35 : decode cX9_rename 35 = .ok (.invokevirtual 139, 3) := by decide +kernel
theorem dX9_rename_38 : decode cX9_rename 38 = .ok (.ifCond .eq 28, 3) := by decide +kernel
theorem dX9_rename_41 : decode cX9_rename 41 = .ok (.aload_n 0, 1) := by decide +kernel
theorem dX9_rename_42 : decode cX9_rename 42 = .ok (.getfield 27, 3) := by decide +kernel
theorem dX9_rename_45 : decode cX9_rename 45 = .ok (.iload_n 2, 1) := by decide +kernel
theorem dX9_rename_46 : decode cX9_rename 46 = .ok (.baload, 1) := by decide +kernel
theorem dX9_rename_47 : decode cX9_rename 47 = .ok (.ifCond .eq 19, 3) := by decide +kernel
theorem dX9_rename_50 : decode cX9_rename 50 = .ok (.lload 5, 2) := by decide +kernel
theorem dX9_rename_52 : decode cX9_rename 52 = .ok (.lconst 0, 1) := by decide +kernel
theorem dX9_rename_53 : decode cX9_rename 53 = .ok (.lcmp, 1) := by decide +kernel
theorem dX9_rename_54 : decode cX9_rename 54 = .ok (.ifCond .eq 12, 3) := by decide +kernel
theorem dX9_rename_57 : decode cX9_rename 57 = .ok (.aload_n 0, 1) := by decide +kernel
theorem dX9_rename_58 : decode cX9_rename 58 = .ok (.iload_n 2, 1) := by decide +kernel
theorem dX9_rename_59 : decode cX9_rename 59 = .ok (.iload_n 1, 1) := by decide +kernel
theorem dX9_rename_60 : decode cX9_rename 60 = .ok (.invokevirtual 162, 3) := by decide +kernel
theorem dX9_rename_63 : decode cX9_rename 63 = .ok (.ifCond .eq 6, 3) := by decide +kernel
theorem dX9_rename_66 : decode cX9_rename 66 = .ok (.bipush (-2), 2) := by decide +kernel
theorem dX9_rename_68 : decode cX9_rename 68 = .ok (.ireturn, 1) := by decide +kernel
theorem dX9_rename_69 : decode cX9_rename 69 = .ok (.aload_n 0, 1) := by decide +kernel
theorem dX9_rename_70 : decode cX9_rename 70 = .ok (.iload_n 2, 1) := by decide +kernel
theorem dX9_rename_71 : decode cX9_rename 71 = .ok (.invokevirtual 142, 3) := by decide +kernel
theorem dX9_rename_74 : decode cX9_rename 74 = .ok (.iconst 1, 1) := by decide +kernel
theorem dX9_rename_75 : decode cX9_rename 75 = .ok (.iadd, 1) := by decide +kernel
theorem dX9_rename_76 : decode cX9_rename 76 = .ok (.aload_n 0, 1) := by decide +kernel
theorem dX9_rename_77 : decode cX9_rename 77 = .ok (.iload_n 1, 1) := by decide +kernel
theorem dX9_rename_78 : decode cX9_rename 78 = .ok (.invokevirtual 142, 3) := by decide +kernel
theorem dX9_rename_81 : decode cX9_rename 81 = .ok (.isub, 1) := by decide +kernel
theorem dX9_rename_82 : decode cX9_rename 82 = .ok (.istore 7, 2) := by decide +kernel
theorem dX9_rename_84 : decode cX9_rename 84 = .ok (.iconst 1, 1) := by decide +kernel
theorem dX9_rename_85 : decode cX9_rename 85 = .ok (.istore 8, 2) := by decide +kernel
theorem dX9_rename_87 : decode cX9_rename 87 = .ok (.iload 8, 2) := by decide +kernel
theorem dX9_rename_89 : decode cX9_rename 89 = .ok (.aload_n 0, 1) := by decide +kernel
theorem dX9_rename_90 : decode cX9_rename 90 = .ok (.getfield 112, 3) := by decide +kernel
theorem dX9_rename_93 : decode cX9_rename 93 = .ok (.if_icmp .ge 56, 3) := by decide +kernel
theorem dX9_rename_96 : decode cX9_rename 96 = .ok (.aload_n 0, 1) := by decide +kernel
theorem dX9_rename_97 : decode cX9_rename 97 = .ok (.getfield 24, 3) := by decide +kernel
theorem dX9_rename_100 : decode cX9_rename 100 = .ok (.iload 8, 2) := by decide +kernel
theorem dX9_rename_102 : decode cX9_rename 102 = .ok (.baload, 1) := by decide +kernel
theorem dX9_rename_103 : decode cX9_rename 103 = .ok (.ifCond .eq 40, 3) := by decide +kernel
theorem dX9_rename_106 : decode cX9_rename 106 = .ok (.aload_n 0, 1) := by decide +kernel
theorem dX9_rename_107 : decode cX9_rename 107 = .ok (.getfield 27, 3) := by decide +kernel
theorem dX9_rename_110 : decode cX9_rename 110 = .ok (.iload 8, 2) := by decide +kernel
theorem dX9_rename_112 : decode cX9_rename 112 = .ok (.baload, 1) := by decide +kernel
theorem dX9_rename_113 : decode cX9_rename 113 = .ok (.ifCond .eq 30, 3) := by decide +kernel
theorem dX9_rename_116 : decode cX9_rename 116 = .ok (.aload_n 0, 1) := by decide +kernel
theorem dX9_rename_117 : decode cX9_rename 117 = .ok (.iload 8, 2) := by decide +kernel
theorem dX9_rename_119 : decode cX9_rename 119 = .ok (.iload_n 1, 1) := by decide +kernel
theorem dX9_rename_120 : decode cX9_rename 120 = .ok (.invokevirtual 162, 3) := by decide +kernel
theorem dX9_rename_123 : decode cX9_rename 123 = .ok (.ifCond .eq 20, 3) := by decide +kernel
theorem dX9_rename_126 : decode cX9_rename 126 = .ok (.aload_n 0, 1) := by decide +kernel
theorem dX9_rename_127 : decode cX9_rename 127 = .ok (.iload 8, 2) := by decide +kernel
theorem dX9_rename_129 : decode cX9_rename 129 = .ok (.invokevirtual 142, 3) := by decide +kernel
theorem dX9_rename_132 : decode cX9_rename 132 = .ok (.iload 7, 2) := by decide +kernel
theorem dX9_rename_134 : decode cX9_rename 134 = .ok (.iadd, 1) := by decide +kernel
theorem dX9_rename_135 : decode cX9_rename 135 = .ok (.bipush 6, 2) := by decide +kernel
theorem dX9_rename_137 : decode cX9_rename 137 = .ok (.if_icmp .le 6, 3) := by decide +kernel
theorem dX9_rename_140 : decode cX9_rename 140 = .ok (.bipush (-2), 2) := by decide +kernel
theorem dX9_rename_142 : decode cX9_rename 142 = .ok (.ireturn, 1) := by decide +kernel
theorem dX9_rename_143 : decode cX9_rename 143 = .ok (.iinc 8 1, 3) := by decide +kernel
theorem dX9_rename_146 : decode cX9_rename 146 = .ok (.goto (-59), 3) := by decide +kernel
theorem dX9_rename_149 : decode cX9_rename 149 = .ok (.iconst 1, 1) := by decide +kernel
theorem dX9_rename_150 : decode cX9_rename 150 = .ok (.istore 8, 2) := by decide +kernel
theorem dX9_rename_152 : decode cX9_rename 152 = .ok (.iload 8, 2) := by decide +kernel
theorem dX9_rename_154 : decode cX9_rename 154 = .ok (.aload_n 0, 1) := by decide +kernel
theorem dX9_rename_155 : decode cX9_rename 155 = .ok (.getfield 112, 3) := by decide +kernel
theorem dX9_rename_158 : decode cX9_rename 158 = .ok (.if_icmp .ge 52, 3) := by decide +kernel
theorem dX9_rename_161 : decode cX9_rename 161 = .ok (.iload 8, 2) := by decide +kernel
theorem dX9_rename_163 : decode cX9_rename 163 = .ok (.iload_n 1, 1) := by decide +kernel
theorem dX9_rename_164 : decode cX9_rename 164 = .ok (.if_icmp .eq 40, 3) := by decide +kernel
theorem dX9_rename_167 : decode cX9_rename 167 = .ok (.aload_n 0, 1) := by decide +kernel
theorem dX9_rename_168 : decode cX9_rename 168 = .ok (.getfield 24, 3) := by decide +kernel
theorem dX9_rename_171 : decode cX9_rename 171 = .ok (.iload 8, 2) := by decide +kernel
theorem dX9_rename_173 : decode cX9_rename 173 = .ok (.baload, 1) := by decide +kernel
theorem dX9_rename_174 : decode cX9_rename 174 = .ok (.ifCond .eq 30, 3) := by decide +kernel
theorem dX9_rename_177 : decode cX9_rename 177 = .ok (.aload_n 0, 1) := by decide +kernel
theorem dX9_rename_178 : decode cX9_rename 178 = .ok (.getfield 30, 3) := by decide +kernel
theorem dX9_rename_181 : decode cX9_rename 181 = .ok (.iload 8, 2) := by decide +kernel
theorem dX9_rename_183 : decode cX9_rename 183 = .ok (.iaload, 1) := by decide +kernel
theorem dX9_rename_184 : decode cX9_rename 184 = .ok (.iload_n 2, 1) := by decide +kernel
theorem dX9_rename_185 : decode cX9_rename 185 = .ok (.if_icmp .ne 19, 3) := by decide +kernel
theorem dX9_rename_188 : decode cX9_rename 188 = .ok (.aload_n 0, 1) := by decide +kernel
theorem dX9_rename_189 : decode cX9_rename 189 = .ok (.getfield 34, 3) := by decide +kernel
theorem dX9_rename_192 : decode cX9_rename 192 = .ok (.iload 8, 2) := by decide +kernel
theorem dX9_rename_194 : decode cX9_rename 194 = .ok (.laload, 1) := by decide +kernel
theorem dX9_rename_195 : decode cX9_rename 195 = .ok (.lload 5, 2) := by decide +kernel
theorem dX9_rename_197 : decode cX9_rename 197 = .ok (.lcmp, 1) := by decide +kernel
theorem dX9_rename_198 : decode cX9_rename 198 = .ok (.ifCond .ne 6, 3) := by decide +kernel
theorem dX9_rename_201 : decode cX9_rename 201 = .ok (.bipush (-5), 2) := by decide +kernel
theorem dX9_rename_203 : decode cX9_rename 203 = .ok (.ireturn, 1) := by decide +kernel
theorem dX9_rename_204 : decode cX9_rename 204 = .ok (.iinc 8 1, 3) := by decide +kernel
theorem dX9_rename_207 : decode cX9_rename 207 = .ok (.goto (-55), 3) := by decide +kernel
theorem dX9_rename_210 : decode cX9_rename 210 = .ok (.aload_n 0, 1) := by decide +kernel
theorem dX9_rename_211 : decode cX9_rename 211 = .ok (.getfield 30, 3) := by decide +kernel
theorem dX9_rename_214 : decode cX9_rename 214 = .ok (.iload_n 1, 1) := by decide +kernel
theorem dX9_rename_215 : decode cX9_rename 215 = .ok (.iload_n 2, 1) := by decide +kernel
theorem dX9_rename_216 : decode cX9_rename 216 = .ok (.iastore, 1) := by decide +kernel
theorem dX9_rename_217 : decode cX9_rename 217 = .ok (.aload_n 0, 1) := by decide +kernel
theorem dX9_rename_218 : decode cX9_rename 218 = .ok (.getfield 34, 3) := by decide +kernel
theorem dX9_rename_221 : decode cX9_rename 221 = .ok (.iload_n 1, 1) := by decide +kernel
theorem dX9_rename_222 : decode cX9_rename 222 = .ok (.lload 5, 2) := by decide +kernel
theorem dX9_rename_224 : decode cX9_rename 224 = .ok (.lastore, 1) := by decide +kernel
theorem dX9_rename_225 : decode cX9_rename 225 = .ok (.iconst 0, 1) := by decide +kernel
theorem dX9_rename_226 : decode cX9_rename 226 = .ok (.ireturn, 1) := by decide +kernel
/-- WriteOnceDiscModel.rename(IIJ)I -/
def wX9_rename_L204 (post : Int32 → Hp → Prop) (rc152 : Int32 → Prop) (x0 : Nat) (x1 : Int32) (x2 : Int32) (x5 : Int64) (x8 : Int32) (σ : Hp) : Prop :=
(∀ y1 : Int32, y1 = x8 + 1 → rc152 y1)
def wX9_rename_B152 (post : Int32 → Hp → Prop) (rc152 : Int32 → Prop) (x0 : Nat) (x1 : Int32) (x2 : Int32) (x5 : Int64) (x8 : Int32) (σ : Hp) : Prop :=
(tg_ σ x0 = 9 ∧ (((fI_ σ 8 10 x0) ≤ x8 →
  (tg_ σ (fR_ σ 8 13 x0) = 102 ∧ (lo_ σ < (fR_ σ 8 13 x0) ∧ (vp_in x1 (ln_ σ (fR_ σ 8 13 x0)) ∧ (∀ σ7, σ7 = wI_ σ (fR_ σ 8 13 x0) (x1).toNatClampNeg x2 → (tg_ σ7 (fR_ σ7 8 14 x0) = 103 ∧ (vp_in x1 (ln_ σ7 (fR_ σ7 8 14 x0)) ∧ (∀ σ10, σ10 = wL_ σ7 (fR_ σ7 8 14 x0) (x1).toNatClampNeg x5 → post (0 : Int32) σ10)))))))) ∧
 (¬ (fI_ σ 8 10 x0) ≤ x8 →
  ((x8 = x1 →
   wX9_rename_L204 post rc152 x0 x1 x2 x5 x8 σ) ∧
  (¬ x8 = x1 →
   (tg_ σ (fR_ σ 8 11 x0) = 101 ∧ (vp_in x8 (ln_ σ (fR_ σ 8 11 x0)) ∧ (((aI_ σ (fR_ σ 8 11 x0) (x8).toNatClampNeg) = 0 →
    wX9_rename_L204 post rc152 x0 x1 x2 x5 x8 σ) ∧
   (¬ (aI_ σ (fR_ σ 8 11 x0) (x8).toNatClampNeg) = 0 →
    (tg_ σ (fR_ σ 8 13 x0) = 102 ∧ (vp_in x8 (ln_ σ (fR_ σ 8 13 x0)) ∧ ((¬ (aI_ σ (fR_ σ 8 13 x0) (x8).toNatClampNeg) = x2 →
     wX9_rename_L204 post rc152 x0 x1 x2 x5 x8 σ) ∧
    ((aI_ σ (fR_ σ 8 13 x0) (x8).toNatClampNeg) = x2 →
     (tg_ σ (fR_ σ 8 14 x0) = 103 ∧ (vp_in x8 (ln_ σ (fR_ σ 8 14 x0)) ∧ ((¬ (lg_cmp (aL_ σ (fR_ σ 8 14 x0) (x8).toNatClampNeg) x5) = 0 →
      wX9_rename_L204 post rc152 x0 x1 x2 x5 x8 σ) ∧
     ((lg_cmp (aL_ σ (fR_ σ 8 14 x0) (x8).toNatClampNeg) x5) = 0 →
      post (-5 : Int32) σ)))))))))))))))))
def wX9_rename_L152 (post : Int32 → Hp → Prop) (x0 : Nat) (x1 : Int32) (x2 : Int32) (x5 : Int64) (x8 : Int32) (σ : Hp) : Prop :=
 ∃ (I : Int32 → Prop) (μ : Int32 → Nat), I x8 ∧ ∀ (x8 : Int32), I x8 → wX9_rename_B152 post (fun x8' => I x8' ∧ μ x8' < μ x8) x0 x1 x2 x5 x8 σ
def wX9_rename_L143 (post : Int32 → Hp → Prop) (rc87 : Int32 → Prop) (x0 : Nat) (x1 : Int32) (x2 : Int32) (x5 : Int64) (x7 : Int32) (x8 : Int32) (σ : Hp) : Prop :=
(∀ y21 : Int32, y21 = x8 + 1 → rc87 y21)
def wX9_rename_B87 (post : Int32 → Hp → Prop) (rc87 : Int32 → Prop) (x0 : Nat) (x1 : Int32) (x2 : Int32) (x5 : Int64) (x7 : Int32) (x8 : Int32) (σ : Hp) : Prop :=
(tg_ σ x0 = 9 ∧ (((fI_ σ 8 10 x0) ≤ x8 →
  wX9_rename_L152 post x0 x1 x2 x5 (1 : Int32) σ) ∧
 (¬ (fI_ σ 8 10 x0) ≤ x8 →
  (tg_ σ (fR_ σ 8 11 x0) = 101 ∧ (vp_in x8 (ln_ σ (fR_ σ 8 11 x0)) ∧ (((aI_ σ (fR_ σ 8 11 x0) (x8).toNatClampNeg) = 0 →
   wX9_rename_L143 post rc87 x0 x1 x2 x5 x7 x8 σ) ∧
  (¬ (aI_ σ (fR_ σ 8 11 x0) (x8).toNatClampNeg) = 0 →
   (tg_ σ (fR_ σ 8 12 x0) = 101 ∧ (vp_in x8 (ln_ σ (fR_ σ 8 12 x0)) ∧ (((aI_ σ (fR_ σ 8 12 x0) (x8).toNatClampNeg) = 0 →
    wX9_rename_L143 post rc87 x0 x1 x2 x5 x7 x8 σ) ∧
   (¬ (aI_ σ (fR_ σ 8 12 x0) (x8).toNatClampNeg) = 0 →
    (wX9_liesIn x0 x8 x1 σ (fun r30 => ((r30 = 0 →
     wX9_rename_L143 post rc87 x0 x1 x2 x5 x7 x8 σ) ∧
    (¬ r30 = 0 →
     (wX9_depthOf x0 x8 σ (fun r32 => (((r32 + x7) ≤ (6 : Int32) →
      wX9_rename_L143 post rc87 x0 x1 x2 x5 x7 x8 σ) ∧
     (¬ (r32 + x7) ≤ (6 : Int32) →
      post (-2 : Int32) σ)))))))))))))))))))
def wX9_rename_L87 (post : Int32 → Hp → Prop) (x0 : Nat) (x1 : Int32) (x2 : Int32) (x5 : Int64) (x7 : Int32) (x8 : Int32) (σ : Hp) : Prop :=
 ∃ (I : Int32 → Prop) (μ : Int32 → Nat), I x8 ∧ ∀ (x8 : Int32), I x8 → wX9_rename_B87 post (fun x8' => I x8' ∧ μ x8' < μ x8) x0 x1 x2 x5 x7 x8 σ
def wX9_rename (x0 : Nat) (x1 : Int32) (x2 : Int32) (x3 : Int64) (σ : Hp) (post : Int32 → Hp → Prop) : Prop :=
(tg_ σ x0 = 9 ∧ (∀ σ35, σ35 = sI_ σ 8 0 x0 (0 : Int32) → (((fI_ σ35 8 6 x0) = 0 →
  (wX9_told x3 σ35 (fun r37 => (wX9_isNode x0 x1 σ35 (fun r38 => ((r38 = 0 →
   post (-2 : Int32) σ35) ∧
  (¬ r38 = 0 →
   ((x1 = 0 →
    post (-2 : Int32) σ35) ∧
   (¬ x1 = 0 →
    (wX9_isNode x0 x2 σ35 (fun r41 => ((r41 = 0 →
     post (-2 : Int32) σ35) ∧
    (¬ r41 = 0 →
     (tg_ σ35 (fR_ σ35 8 12 x0) = 101 ∧ (vp_in x2 (ln_ σ35 (fR_ σ35 8 12 x0)) ∧ (((aI_ σ35 (fR_ σ35 8 12 x0) (x2).toNatClampNeg) = 0 →
      post (-2 : Int32) σ35) ∧
     (¬ (aI_ σ35 (fR_ σ35 8 12 x0) (x2).toNatClampNeg) = 0 →
      (((lg_cmp r37 (0 : Int64)) = 0 →
       post (-2 : Int32) σ35) ∧
      (¬ (lg_cmp r37 (0 : Int64)) = 0 →
       (wX9_liesIn x0 x2 x1 σ35 (fun r47 => ((r47 = 0 →
        (wX9_depthOf x0 x2 σ35 (fun r49 => (wX9_depthOf x0 x1 σ35 (fun r50 => (∀ y51 : Int32, y51 = ((r49 + (1 : Int32)) - r50) → wX9_rename_L87 post x0 x1 x2 r37 y51 (1 : Int32) σ35)))))) ∧
       (¬ r47 = 0 →
        post (-2 : Int32) σ35))))))))))))))))))))))) ∧
 (¬ (fI_ σ35 8 6 x0) = 0 →
  post (-4 : Int32) σ35))))
set_option maxHeartbeats 4000000 in
theorem sX9_rename_L204 {G : GG_} {p : Program} {l : Launch} {e : Env} {R : Room} {s : State} {m : MethodId} {args : Array Value} {below : List Frame} {meth : Method} {c : Code} (Y : MX_ G p R s m args meth c cX9_rename 9 RX9 (some Jvm.ClassFile.FieldType.int) 3 65 0 0 "rename") {post : Int32 → Hp → Prop} {rc152 : Int32 → Prop} {x0 : Nat} {x1 : Int32} {x2 : Int32} {x5 : Int64} {x8 : Int32} {σ : Hp} (hrc152 : ∀ (x8 : Int32), rc152 x8 → WG_ G p l e R s m args below meth c (MQ below (QI_ G post) args s 0 0 (FR_ G)) BN_ 9 152 [(0, rv_ x0), (1, .int x1), (2, .int x2), (5, .long x5), (8, .int x8)] [] σ) (hf : wX9_rename_L204 post rc152 x0 x1 x2 x5 x8 σ) : WG_ G p l e R s m args below meth c (MQ below (QI_ G post) args s 0 0 (FR_ G)) BN_ 9 204 [(0, rv_ x0), (1, .int x1), (2, .int x2), (5, .long x5), (8, .int x8)] [] σ := by
  have ⟨X, hlk, hr, hRf, hRl, hRc, hnm⟩ := Y
  have ⟨⟨hx, hb, _, hown, hts⟩, _, _⟩ := X
  intro H locs cells slots ls hP hL hB hl
  obtain ⟨rfl, rfl⟩ := hB
  unfold wX9_rename_L204 at hf
  have hl := lv_sub hl [4, 0, 1, 2, 3] rfl
  refine p_iincc (i := 8) (k := 1) hx hb (by decide) dX9_rename_204 hl (by decide) ⟨⟨ne_ rfl, Or.inl (ne_ rfl)⟩, ⟨⟨ne_ rfl, Or.inl (ne_ rfl)⟩, ⟨⟨ne_ rfl, Or.inl (ne_ rfl)⟩, ⟨⟨ne_ rfl, Or.inl (ne_ rfl)⟩, trivial⟩⟩⟩⟩ (fun y1 hy1 ls hl => ?_)
  have hf := hf y1 hy1
  refine lv_goto (tgt := 152) hx hb dX9_rename_207 (by decide) ?_
  exact hrc152 _ hf _ _ _ _ _ hP hL ⟨rfl, rfl⟩ (lv_sub hl [1, 2, 3, 4, 0] rfl)
set_option maxHeartbeats 4000000 in
theorem sX9_rename_B152 {G : GG_} {p : Program} {l : Launch} {e : Env} {R : Room} {s : State} {m : MethodId} {args : Array Value} {below : List Frame} {meth : Method} {c : Code} (Y : MX_ G p R s m args meth c cX9_rename 9 RX9 (some Jvm.ClassFile.FieldType.int) 3 65 0 0 "rename") {post : Int32 → Hp → Prop} {rc152 : Int32 → Prop} {x0 : Nat} {x1 : Int32} {x2 : Int32} {x5 : Int64} {x8 : Int32} {σ : Hp} (hrc152 : ∀ (x8 : Int32), rc152 x8 → WG_ G p l e R s m args below meth c (MQ below (QI_ G post) args s 0 0 (FR_ G)) BN_ 9 152 [(0, rv_ x0), (1, .int x1), (2, .int x2), (5, .long x5), (8, .int x8)] [] σ) (hf : wX9_rename_B152 post rc152 x0 x1 x2 x5 x8 σ) : WG_ G p l e R s m args below meth c (MQ below (QI_ G post) args s 0 0 (FR_ G)) BN_ 9 152 [(0, rv_ x0), (1, .int x1), (2, .int x2), (5, .long x5), (8, .int x8)] [] σ := by
  have ⟨X, hlk, hr, hRf, hRl, hRc, hnm⟩ := Y
  have ⟨⟨hx, hb, _, hown, hts⟩, _, _⟩ := X
  intro H locs cells slots ls hP hL hB hl
  obtain ⟨rfl, rfl⟩ := hB
  unfold wX9_rename_B152 at hf
  refine lv_iload hx hb dX9_rename_152 (lv_at hl 4 rfl) ?_
  refine p_aload_n hx hb dX9_rename_154 rfl (lv_at hl 0 rfl) ?_
  obtain ⟨ht2, hf⟩ := hf
  refine p_gI X cf8_ (k := 10) (by decide) rfl hP ht2 q1305 (fun _ h => h) dX9_rename_155 ?_
  refine lv_icmp_ge (tgt := 210) hx hb dX9_rename_158 (by decide) (fun c3 => ?_) (fun c3 => ?_)
  · have hf := hf.1 c3
    refine p_aload_n hx hb dX9_rename_210 rfl (lv_at hl 0 rfl) ?_
    refine p_gR X cf8_ (k := 13) (by decide) rfl hP ht2 q1308 (fun _ h => h) dX9_rename_211 ?_
    refine lv_iload_n hx hb dX9_rename_214 rfl (lv_at hl 1 rfl) ?_
    refine lv_iload_n hx hb dX9_rename_215 rfl (lv_at hl 2 rfl) ?_
    obtain ⟨ht4, hf⟩ := hf
    obtain ⟨hlo5, hf⟩ := hf
    obtain ⟨hi6, hf⟩ := hf
    refine p_iast X hP hL ht4 hlo5 hi6 dX9_rename_216 (fun H locs hP hL => ?_)
    refine p_nmP hP (fun σ7 hσ7 hP => ?_)
    have hf := hf σ7 hσ7
    have ht2 : tg_ σ7 x0 = 9 := by rw [hσ7]; exact ht2
    refine p_aload_n hx hb dX9_rename_217 rfl (lv_at hl 0 rfl) ?_
    refine p_gR X cf8_ (k := 14) (by decide) rfl hP ht2 q1309 (fun _ h => h) dX9_rename_218 ?_
    refine lv_iload_n hx hb dX9_rename_221 rfl (lv_at hl 1 rfl) ?_
    refine lv_lload hx hb dX9_rename_222 (lv_at hl 3 rfl) ?_
    obtain ⟨ht8, hf⟩ := hf
    obtain ⟨hi9, hf⟩ := hf
    refine p_last X hP hL ht8 (p_ow hP ht8 rfl) hi9 dX9_rename_224 (fun H locs hP hL => ?_)
    refine p_nmP hP (fun σ10 hσ10 hP => ?_)
    have hf := hf σ10 hσ10
    have ht2 : tg_ σ10 x0 = 9 := by rw [hσ10]; exact ht2
    refine lv_iconst (v := 0) hx hb dX9_rename_225 (by decide) ?_
    exact p_iret X hlk hP hL (Nat.le_refl _) (Nat.le_refl _) hr dX9_rename_226 hf
  · have hf := hf.2 c3
    refine lv_iload hx hb dX9_rename_161 (lv_at hl 4 rfl) ?_
    refine lv_iload_n hx hb dX9_rename_163 rfl (lv_at hl 1 rfl) ?_
    refine lv_icmp_eq (tgt := 204) hx hb dX9_rename_164 (by decide) (fun c11 => ?_) (fun c11 => ?_)
    · have hf := hf.1 c11
      exact sX9_rename_L204 Y hrc152 hf _ _ _ _ _ hP hL ⟨rfl, rfl⟩ (lv_sub hl [0, 1, 2, 3, 4] rfl)
    · have hf := hf.2 c11
      refine p_aload_n hx hb dX9_rename_167 rfl (lv_at hl 0 rfl) ?_
      refine p_gR X cf8_ (k := 11) (by decide) rfl hP ht2 q1306 (fun _ h => h) dX9_rename_168 ?_
      refine lv_iload hx hb dX9_rename_171 (lv_at hl 4 rfl) ?_
      obtain ⟨ht12, hf⟩ := hf
      obtain ⟨hi13, hf⟩ := hf
      refine p_zald X hP ht12 hi13 dX9_rename_173 ?_
      refine lv_if_eq (tgt := 204) hx hb dX9_rename_174 (by decide) (fun c14 => ?_) (fun c14 => ?_)
      · have hf := hf.1 c14
        exact sX9_rename_L204 Y hrc152 hf _ _ _ _ _ hP hL ⟨rfl, rfl⟩ (lv_sub hl [0, 1, 2, 3, 4] rfl)
      · have hf := hf.2 c14
        refine p_aload_n hx hb dX9_rename_177 rfl (lv_at hl 0 rfl) ?_
        refine p_gR X cf8_ (k := 13) (by decide) rfl hP ht2 q1308 (fun _ h => h) dX9_rename_178 ?_
        refine lv_iload hx hb dX9_rename_181 (lv_at hl 4 rfl) ?_
        obtain ⟨ht15, hf⟩ := hf
        obtain ⟨hi16, hf⟩ := hf
        refine p_iald X hP ht15 hi16 dX9_rename_183 ?_
        refine lv_iload_n hx hb dX9_rename_184 rfl (lv_at hl 2 rfl) ?_
        refine lv_icmp_ne (tgt := 204) hx hb dX9_rename_185 (by decide) (fun c17 => ?_) (fun c17 => ?_)
        · have hf := hf.1 c17
          exact sX9_rename_L204 Y hrc152 hf _ _ _ _ _ hP hL ⟨rfl, rfl⟩ (lv_sub hl [0, 1, 2, 3, 4] rfl)
        · have hf := hf.2 c17
          refine p_aload_n hx hb dX9_rename_188 rfl (lv_at hl 0 rfl) ?_
          refine p_gR X cf8_ (k := 14) (by decide) rfl hP ht2 q1309 (fun _ h => h) dX9_rename_189 ?_
          refine lv_iload hx hb dX9_rename_192 (lv_at hl 4 rfl) ?_
          obtain ⟨ht18, hf⟩ := hf
          obtain ⟨hi19, hf⟩ := hf
          refine p_lald X hP ht18 hi19 dX9_rename_194 ?_
          refine lv_lload hx hb dX9_rename_195 (lv_at hl 3 rfl) ?_
          refine W.lcmp hx hb dX9_rename_197 ?_
          refine lv_if_ne (tgt := 204) hx hb dX9_rename_198 (by decide) (fun c20 => ?_) (fun c20 => ?_)
          · have hf := hf.1 c20
            exact sX9_rename_L204 Y hrc152 hf _ _ _ _ _ hP hL ⟨rfl, rfl⟩ (lv_sub hl [0, 1, 2, 3, 4] rfl)
          · have hf := hf.2 c20
            refine lv_bipush (v := (-5)) hx hb dX9_rename_201 (by decide) ?_
            exact p_iret X hlk hP hL (Nat.le_refl _) (Nat.le_refl _) hr dX9_rename_203 hf
set_option maxHeartbeats 4000000 in
theorem sX9_rename_L152 {G : GG_} {p : Program} {l : Launch} {e : Env} {R : Room} {s : State} {m : MethodId} {args : Array Value} {below : List Frame} {meth : Method} {c : Code} (Y : MX_ G p R s m args meth c cX9_rename 9 RX9 (some Jvm.ClassFile.FieldType.int) 3 65 0 0 "rename") {post : Int32 → Hp → Prop} {x0 : Nat} {x1 : Int32} {x2 : Int32} {x5 : Int64} {x8 : Int32} {σ : Hp} (hf : wX9_rename_L152 post x0 x1 x2 x5 x8 σ) : WG_ G p l e R s m args below meth c (MQ below (QI_ G post) args s 0 0 (FR_ G)) BN_ 9 152 [(0, rv_ x0), (1, .int x1), (2, .int x2), (5, .long x5), (8, .int x8)] [] σ := by
  unfold wX9_rename_L152 at hf
  obtain ⟨I, μ, h0, hI⟩ := hf
  have key : ∀ (n : Nat) (x8 : Int32), I x8 → μ x8 < n → WG_ G p l e R s m args below meth c (MQ below (QI_ G post) args s 0 0 (FR_ G)) BN_ 9 152 [(0, rv_ x0), (1, .int x1), (2, .int x2), (5, .long x5), (8, .int x8)] [] σ := by
    intro n
    induction n with
    | zero => intro x8 _ h; exact absurd h (Nat.not_lt_zero _)
    | succ n ih => intro x8 hi hn; exact sX9_rename_B152 Y (fun x8' h => ih x8' h.1 (Nat.lt_of_lt_of_le h.2 (Nat.le_of_lt_succ hn))) (hI x8 hi)
  exact key _ _ h0 (Nat.lt_succ_self _)
set_option maxHeartbeats 4000000 in
theorem sX9_rename_L143 {G : GG_} {p : Program} {l : Launch} {e : Env} {R : Room} {s : State} {m : MethodId} {args : Array Value} {below : List Frame} {meth : Method} {c : Code} (Y : MX_ G p R s m args meth c cX9_rename 9 RX9 (some Jvm.ClassFile.FieldType.int) 3 65 0 0 "rename") {post : Int32 → Hp → Prop} {rc87 : Int32 → Prop} {x0 : Nat} {x1 : Int32} {x2 : Int32} {x5 : Int64} {x7 : Int32} {x8 : Int32} {σ : Hp} (hrc87 : ∀ (x8 : Int32), rc87 x8 → WG_ G p l e R s m args below meth c (MQ below (QI_ G post) args s 0 0 (FR_ G)) BN_ 9 87 [(0, rv_ x0), (1, .int x1), (2, .int x2), (5, .long x5), (7, .int x7), (8, .int x8)] [] σ) (hf : wX9_rename_L143 post rc87 x0 x1 x2 x5 x7 x8 σ) : WG_ G p l e R s m args below meth c (MQ below (QI_ G post) args s 0 0 (FR_ G)) BN_ 9 143 [(0, rv_ x0), (1, .int x1), (2, .int x2), (5, .long x5), (7, .int x7), (8, .int x8)] [] σ := by
  have ⟨X, hlk, hr, hRf, hRl, hRc, hnm⟩ := Y
  have ⟨⟨hx, hb, _, hown, hts⟩, _, _⟩ := X
  intro H locs cells slots ls hP hL hB hl
  obtain ⟨rfl, rfl⟩ := hB
  unfold wX9_rename_L143 at hf
  have hl := lv_sub hl [5, 0, 1, 2, 3, 4] rfl
  refine p_iincc (i := 8) (k := 1) hx hb (by decide) dX9_rename_143 hl (by decide) ⟨⟨ne_ rfl, Or.inl (ne_ rfl)⟩, ⟨⟨ne_ rfl, Or.inl (ne_ rfl)⟩, ⟨⟨ne_ rfl, Or.inl (ne_ rfl)⟩, ⟨⟨ne_ rfl, Or.inl (ne_ rfl)⟩, ⟨⟨ne_ rfl, Or.inr rfl⟩, trivial⟩⟩⟩⟩⟩ (fun y21 hy21 ls hl => ?_)
  have hf := hf y21 hy21
  refine lv_goto (tgt := 87) hx hb dX9_rename_146 (by decide) ?_
  exact hrc87 _ hf _ _ _ _ _ hP hL ⟨rfl, rfl⟩ (lv_sub hl [1, 2, 3, 4, 5, 0] rfl)
set_option maxHeartbeats 4000000 in
theorem sX9_rename_B87 {G : GG_} {p : Program} {l : Launch} {e : Env} {R : Room} {s : State} {m : MethodId} {args : Array Value} {below : List Frame} {meth : Method} {c : Code} (Y : MX_ G p R s m args meth c cX9_rename 9 RX9 (some Jvm.ClassFile.FieldType.int) 3 65 0 0 "rename") {post : Int32 → Hp → Prop} {rc87 : Int32 → Prop} {x0 : Nat} {x1 : Int32} {x2 : Int32} {x5 : Int64} {x7 : Int32} {x8 : Int32} {σ : Hp} (hrc87 : ∀ (x8 : Int32), rc87 x8 → WG_ G p l e R s m args below meth c (MQ below (QI_ G post) args s 0 0 (FR_ G)) BN_ 9 87 [(0, rv_ x0), (1, .int x1), (2, .int x2), (5, .long x5), (7, .int x7), (8, .int x8)] [] σ) (hf : wX9_rename_B87 post rc87 x0 x1 x2 x5 x7 x8 σ) : WG_ G p l e R s m args below meth c (MQ below (QI_ G post) args s 0 0 (FR_ G)) BN_ 9 87 [(0, rv_ x0), (1, .int x1), (2, .int x2), (5, .long x5), (7, .int x7), (8, .int x8)] [] σ := by
  have ⟨X, hlk, hr, hRf, hRl, hRc, hnm⟩ := Y
  have ⟨⟨hx, hb, _, hown, hts⟩, _, _⟩ := X
  intro H locs cells slots ls hP hL hB hl
  obtain ⟨rfl, rfl⟩ := hB
  unfold wX9_rename_B87 at hf
  refine lv_iload hx hb dX9_rename_87 (lv_at hl 5 rfl) ?_
  refine p_aload_n hx hb dX9_rename_89 rfl (lv_at hl 0 rfl) ?_
  obtain ⟨ht22, hf⟩ := hf
  refine p_gI X cf8_ (k := 10) (by decide) rfl hP ht22 q1305 (fun _ h => h) dX9_rename_90 ?_
  refine lv_icmp_ge (tgt := 149) hx hb dX9_rename_93 (by decide) (fun c23 => ?_) (fun c23 => ?_)
  · have hf := hf.1 c23
    refine lv_iconst (v := 1) hx hb dX9_rename_149 (by decide) ?_
    have hl := lv_sub hl [0, 1, 2, 3] rfl
    refine p_istore (i := 8) hx hb dX9_rename_150 hl (by decide) ⟨⟨ne_ rfl, Or.inl (ne_ rfl)⟩, ⟨⟨ne_ rfl, Or.inl (ne_ rfl)⟩, ⟨⟨ne_ rfl, Or.inl (ne_ rfl)⟩, ⟨⟨ne_ rfl, Or.inl (ne_ rfl)⟩, trivial⟩⟩⟩⟩ (fun ls hl => ?_)
    exact sX9_rename_L152 Y hf _ _ _ _ _ hP hL ⟨rfl, rfl⟩ (lv_sub hl [1, 2, 3, 4, 0] rfl)
  · have hf := hf.2 c23
    refine p_aload_n hx hb dX9_rename_96 rfl (lv_at hl 0 rfl) ?_
    refine p_gR X cf8_ (k := 11) (by decide) rfl hP ht22 q1306 (fun _ h => h) dX9_rename_97 ?_
    refine lv_iload hx hb dX9_rename_100 (lv_at hl 5 rfl) ?_
    obtain ⟨ht24, hf⟩ := hf
    obtain ⟨hi25, hf⟩ := hf
    refine p_zald X hP ht24 hi25 dX9_rename_102 ?_
    refine lv_if_eq (tgt := 143) hx hb dX9_rename_103 (by decide) (fun c26 => ?_) (fun c26 => ?_)
    · have hf := hf.1 c26
      exact sX9_rename_L143 Y hrc87 hf _ _ _ _ _ hP hL ⟨rfl, rfl⟩ (lv_sub hl [0, 1, 2, 3, 4, 5] rfl)
    · have hf := hf.2 c26
      refine p_aload_n hx hb dX9_rename_106 rfl (lv_at hl 0 rfl) ?_
      refine p_gR X cf8_ (k := 12) (by decide) rfl hP ht22 q1307 (fun _ h => h) dX9_rename_107 ?_
      refine lv_iload hx hb dX9_rename_110 (lv_at hl 5 rfl) ?_
      obtain ⟨ht27, hf⟩ := hf
      obtain ⟨hi28, hf⟩ := hf
      refine p_zald X hP ht27 hi28 dX9_rename_112 ?_
      refine lv_if_eq (tgt := 143) hx hb dX9_rename_113 (by decide) (fun c29 => ?_) (fun c29 => ?_)
      · have hf := hf.1 c29
        exact sX9_rename_L143 Y hrc87 hf _ _ _ _ _ hP hL ⟨rfl, rfl⟩ (lv_sub hl [0, 1, 2, 3, 4, 5] rfl)
      · have hf := hf.2 c29
        refine p_aload_n hx hb dX9_rename_116 rfl (lv_at hl 0 rfl) ?_
        refine lv_iload hx hb dX9_rename_117 (lv_at hl 5 rfl) ?_
        refine lv_iload_n hx hb dX9_rename_119 rfl (lv_at hl 1 rfl) ?_
        refine p_calli hL (p_runV X cf8_ hP ht22 (metX9_liesIn l G _ _ _ _ _ X.2.2 hf) (cwV 2 hts (lw_V q1484 q1486 qs48 q106 q1487) rfl rfl rfl (by decide +kernel) ⟨Nat.le_trans (Nat.le_of_ble_eq_true rfl) hRf, Nat.le_trans (Nat.le_of_ble_eq_true rfl) hRl⟩) rfl hl.1 rfl (by decide) dX9_rename_120 ⟨Nat.zero_le _, Nat.zero_le _⟩) (fun r30 σ₁ H locs hf hP hL => ?_)
        obtain ⟨e₁, hf⟩ := hf
        rw [e₁] at hP
        refine lv_if_eq (tgt := 143) hx hb dX9_rename_123 (by decide) (fun c31 => ?_) (fun c31 => ?_)
        · have hf := hf.1 c31
          exact sX9_rename_L143 Y hrc87 hf _ _ _ _ _ hP hL ⟨rfl, rfl⟩ (lv_sub hl [0, 1, 2, 3, 4, 5] rfl)
        · have hf := hf.2 c31
          refine p_aload_n hx hb dX9_rename_126 rfl (lv_at hl 0 rfl) ?_
          refine lv_iload hx hb dX9_rename_127 (lv_at hl 5 rfl) ?_
          refine p_calli hL (p_runV X cf8_ hP ht22 (metX9_depthOf l G _ _ _ _ X.2.2 hf) (cwV 1 hts (lw_V q1453 q1455 qs45 q106 q1456) rfl rfl rfl (by decide +kernel) ⟨Nat.le_trans (Nat.le_of_ble_eq_true rfl) hRf, Nat.le_trans (Nat.le_of_ble_eq_true rfl) hRl⟩) rfl hl.1 rfl (by decide) dX9_rename_129 ⟨Nat.zero_le _, Nat.zero_le _⟩) (fun r32 σ₁ H locs hf hP hL => ?_)
          obtain ⟨e₁, hf⟩ := hf
          rw [e₁] at hP
          refine lv_iload hx hb dX9_rename_132 (lv_at hl 4 rfl) ?_
          refine lv_iadd hx hb dX9_rename_134 ?_
          refine lv_bipush (v := 6) hx hb dX9_rename_135 (by decide) ?_
          refine lv_icmp_le (tgt := 143) hx hb dX9_rename_137 (by decide) (fun c33 => ?_) (fun c33 => ?_)
          · have hf := hf.1 c33
            exact sX9_rename_L143 Y hrc87 hf _ _ _ _ _ hP hL ⟨rfl, rfl⟩ (lv_sub hl [0, 1, 2, 3, 4, 5] rfl)
          · have hf := hf.2 c33
            refine lv_bipush (v := (-2)) hx hb dX9_rename_140 (by decide) ?_
            exact p_iret X hlk hP hL (Nat.le_refl _) (Nat.le_refl _) hr dX9_rename_142 hf
set_option maxHeartbeats 4000000 in
theorem sX9_rename_L87 {G : GG_} {p : Program} {l : Launch} {e : Env} {R : Room} {s : State} {m : MethodId} {args : Array Value} {below : List Frame} {meth : Method} {c : Code} (Y : MX_ G p R s m args meth c cX9_rename 9 RX9 (some Jvm.ClassFile.FieldType.int) 3 65 0 0 "rename") {post : Int32 → Hp → Prop} {x0 : Nat} {x1 : Int32} {x2 : Int32} {x5 : Int64} {x7 : Int32} {x8 : Int32} {σ : Hp} (hf : wX9_rename_L87 post x0 x1 x2 x5 x7 x8 σ) : WG_ G p l e R s m args below meth c (MQ below (QI_ G post) args s 0 0 (FR_ G)) BN_ 9 87 [(0, rv_ x0), (1, .int x1), (2, .int x2), (5, .long x5), (7, .int x7), (8, .int x8)] [] σ := by
  unfold wX9_rename_L87 at hf
  obtain ⟨I, μ, h0, hI⟩ := hf
  have key : ∀ (n : Nat) (x8 : Int32), I x8 → μ x8 < n → WG_ G p l e R s m args below meth c (MQ below (QI_ G post) args s 0 0 (FR_ G)) BN_ 9 87 [(0, rv_ x0), (1, .int x1), (2, .int x2), (5, .long x5), (7, .int x7), (8, .int x8)] [] σ := by
    intro n
    induction n with
    | zero => intro x8 _ h; exact absurd h (Nat.not_lt_zero _)
    | succ n ih => intro x8 hi hn; exact sX9_rename_B87 Y (fun x8' h => ih x8' h.1 (Nat.lt_of_lt_of_le h.2 (Nat.le_of_lt_succ hn))) (hI x8 hi)
  exact key _ _ h0 (Nat.lt_succ_self _)
set_option maxHeartbeats 4000000 in
theorem sX9_rename {G : GG_} {p : Program} {l : Launch} {e : Env} {R : Room} {s : State} {m : MethodId} {args : Array Value} {below : List Frame} {meth : Method} {c : Code} (Y : MX_ G p R s m args meth c cX9_rename 9 RX9 (some Jvm.ClassFile.FieldType.int) 3 65 0 0 "rename") {post : Int32 → Hp → Prop} {x0 : Nat} {x1 : Int32} {x2 : Int32} {x3 : Int64} {σ : Hp} (hf : wX9_rename x0 x1 x2 x3 σ post) : WG_ G p l e R s m args below meth c (MQ below (QI_ G post) args s 0 0 (FR_ G)) BN_ 9 0 [(0, rv_ x0), (1, .int x1), (2, .int x2), (3, .long x3)] [] σ := by
  have ⟨X, hlk, hr, hRf, hRl, hRc, hnm⟩ := Y
  have ⟨⟨hx, hb, _, hown, hts⟩, _, _⟩ := X
  intro H locs cells slots ls hP hL hB hl
  obtain ⟨rfl, rfl⟩ := hB
  unfold wX9_rename at hf
  refine p_aload_n hx hb dX9_rename_0 rfl (lv_at hl 0 rfl) ?_
  refine lv_iconst (v := 0) hx hb dX9_rename_1 (by decide) ?_
  obtain ⟨ht34, hf⟩ := hf
  refine p_pI X cf8_ (k := 0) (by decide) rfl hP hL ht34 (p_ow hP ht34 rfl) q1295 (fun _ h => h) (Or.inl rfl) rfl rfl dX9_rename_2 (fun H locs hP hL => ?_)
  refine p_nmP hP (fun σ35 hσ35 hP => ?_)
  have hf := hf σ35 hσ35
  have ht34 : tg_ σ35 x0 = 9 := by rw [hσ35]; exact ht34
  refine p_aload_n hx hb dX9_rename_5 rfl (lv_at hl 0 rfl) ?_
  refine p_gI X cf8_ (k := 6) (by decide) rfl hP ht34 q1301 (fun _ h => h) dX9_rename_6 ?_
  refine lv_if_eq (tgt := 15) hx hb dX9_rename_9 (by decide) (fun c36 => ?_) (fun c36 => ?_)
  · have hf := hf.1 c36
    refine lv_lload_n hx hb dX9_rename_15 rfl (lv_at hl 3 rfl) ?_
    refine p_calll hL (p_runS X hP (metX9_told l G _ _ _ X.2.2 hf) (va_cwS 1 hts (lw_S q1442 q1443 q106 q1444) rfl rfl rfl (by decide +kernel) ⟨Nat.le_trans (Nat.le_of_ble_eq_true rfl) hRf, Nat.le_trans (Nat.le_of_ble_eq_true rfl) hRl⟩) rfl hl.1 rfl (by decide) dX9_rename_16 ⟨Nat.zero_le _, Nat.zero_le _⟩) (fun r37 σ₁ H locs hf hP hL => ?_)
    obtain ⟨e₁, hf⟩ := hf
    rw [e₁] at hP
    have hl := lv_sub hl [0, 1, 2] rfl
    refine p_lstore (i := 5) hx hb dX9_rename_19 hl (by decide) ⟨⟨ne_ rfl, ne_ rfl, Or.inl (ne_ rfl)⟩, ⟨⟨ne_ rfl, ne_ rfl, Or.inl (ne_ rfl)⟩, ⟨⟨ne_ rfl, ne_ rfl, Or.inl (ne_ rfl)⟩, trivial⟩⟩⟩ (fun ls hl => ?_)
    refine p_aload_n hx hb dX9_rename_21 rfl (lv_at hl 1 rfl) ?_
    refine lv_iload_n hx hb dX9_rename_22 rfl (lv_at hl 2 rfl) ?_
    refine p_calli hL (p_runV X cf8_ hP ht34 (metX9_isNode l G _ _ _ _ X.2.2 hf) (cwV 1 hts (lw_V q1449 q1451 qs44 q106 q1452) rfl rfl rfl (by decide +kernel) ⟨Nat.le_trans (Nat.le_of_ble_eq_true rfl) hRf, Nat.le_trans (Nat.le_of_ble_eq_true rfl) hRl⟩) rfl hl.1 rfl (by decide) dX9_rename_23 ⟨Nat.zero_le _, Nat.zero_le _⟩) (fun r38 σ₁ H locs hf hP hL => ?_)
    obtain ⟨e₁, hf⟩ := hf
    rw [e₁] at hP
    refine lv_if_eq (tgt := 66) hx hb dX9_rename_26 (by decide) (fun c39 => ?_) (fun c39 => ?_)
    · have hf := hf.1 c39
      refine lv_bipush (v := (-2)) hx hb dX9_rename_66 (by decide) ?_
      exact p_iret X hlk hP hL (Nat.le_refl _) (Nat.le_refl _) hr dX9_rename_68 hf
    · have hf := hf.2 c39
      refine lv_iload_n hx hb dX9_rename_29 rfl (lv_at hl 2 rfl) ?_
      refine lv_if_eq (tgt := 66) hx hb dX9_rename_30 (by decide) (fun c40 => ?_) (fun c40 => ?_)
      · have hf := hf.1 c40
        refine lv_bipush (v := (-2)) hx hb dX9_rename_66 (by decide) ?_
        exact p_iret X hlk hP hL (Nat.le_refl _) (Nat.le_refl _) hr dX9_rename_68 hf
      · have hf := hf.2 c40
        refine p_aload_n hx hb dX9_rename_33 rfl (lv_at hl 1 rfl) ?_
        refine lv_iload_n hx hb dX9_rename_34 rfl (lv_at hl 3 rfl) ?_
        refine p_calli hL (p_runV X cf8_ hP ht34 (metX9_isNode l G _ _ _ _ X.2.2 hf) (cwV 1 hts (lw_V q1449 q1451 qs44 q106 q1452) rfl rfl rfl (by decide +kernel) ⟨Nat.le_trans (Nat.le_of_ble_eq_true rfl) hRf, Nat.le_trans (Nat.le_of_ble_eq_true rfl) hRl⟩) rfl hl.1 rfl (by decide) dX9_rename_35 ⟨Nat.zero_le _, Nat.zero_le _⟩) (fun r41 σ₁ H locs hf hP hL => ?_)
        obtain ⟨e₁, hf⟩ := hf
        rw [e₁] at hP
        refine lv_if_eq (tgt := 66) hx hb dX9_rename_38 (by decide) (fun c42 => ?_) (fun c42 => ?_)
        · have hf := hf.1 c42
          refine lv_bipush (v := (-2)) hx hb dX9_rename_66 (by decide) ?_
          exact p_iret X hlk hP hL (Nat.le_refl _) (Nat.le_refl _) hr dX9_rename_68 hf
        · have hf := hf.2 c42
          refine p_aload_n hx hb dX9_rename_41 rfl (lv_at hl 1 rfl) ?_
          refine p_gR X cf8_ (k := 12) (by decide) rfl hP ht34 q1307 (fun _ h => h) dX9_rename_42 ?_
          refine lv_iload_n hx hb dX9_rename_45 rfl (lv_at hl 3 rfl) ?_
          obtain ⟨ht43, hf⟩ := hf
          obtain ⟨hi44, hf⟩ := hf
          refine p_zald X hP ht43 hi44 dX9_rename_46 ?_
          refine lv_if_eq (tgt := 66) hx hb dX9_rename_47 (by decide) (fun c45 => ?_) (fun c45 => ?_)
          · have hf := hf.1 c45
            refine lv_bipush (v := (-2)) hx hb dX9_rename_66 (by decide) ?_
            exact p_iret X hlk hP hL (Nat.le_refl _) (Nat.le_refl _) hr dX9_rename_68 hf
          · have hf := hf.2 c45
            refine lv_lload hx hb dX9_rename_50 (lv_at hl 0 rfl) ?_
            refine lv_lconst (v := 0) hx hb dX9_rename_52 (by decide) ?_
            refine W.lcmp hx hb dX9_rename_53 ?_
            refine lv_if_eq (tgt := 66) hx hb dX9_rename_54 (by decide) (fun c46 => ?_) (fun c46 => ?_)
            · have hf := hf.1 c46
              refine lv_bipush (v := (-2)) hx hb dX9_rename_66 (by decide) ?_
              exact p_iret X hlk hP hL (Nat.le_refl _) (Nat.le_refl _) hr dX9_rename_68 hf
            · have hf := hf.2 c46
              refine p_aload_n hx hb dX9_rename_57 rfl (lv_at hl 1 rfl) ?_
              refine lv_iload_n hx hb dX9_rename_58 rfl (lv_at hl 3 rfl) ?_
              refine lv_iload_n hx hb dX9_rename_59 rfl (lv_at hl 2 rfl) ?_
              refine p_calli hL (p_runV X cf8_ hP ht34 (metX9_liesIn l G _ _ _ _ _ X.2.2 hf) (cwV 2 hts (lw_V q1484 q1486 qs48 q106 q1487) rfl rfl rfl (by decide +kernel) ⟨Nat.le_trans (Nat.le_of_ble_eq_true rfl) hRf, Nat.le_trans (Nat.le_of_ble_eq_true rfl) hRl⟩) rfl hl.1 rfl (by decide) dX9_rename_60 ⟨Nat.zero_le _, Nat.zero_le _⟩) (fun r47 σ₁ H locs hf hP hL => ?_)
              obtain ⟨e₁, hf⟩ := hf
              rw [e₁] at hP
              refine lv_if_eq (tgt := 69) hx hb dX9_rename_63 (by decide) (fun c48 => ?_) (fun c48 => ?_)
              · have hf := hf.1 c48
                refine p_aload_n hx hb dX9_rename_69 rfl (lv_at hl 1 rfl) ?_
                refine lv_iload_n hx hb dX9_rename_70 rfl (lv_at hl 3 rfl) ?_
                refine p_calli hL (p_runV X cf8_ hP ht34 (metX9_depthOf l G _ _ _ _ X.2.2 hf) (cwV 1 hts (lw_V q1453 q1455 qs45 q106 q1456) rfl rfl rfl (by decide +kernel) ⟨Nat.le_trans (Nat.le_of_ble_eq_true rfl) hRf, Nat.le_trans (Nat.le_of_ble_eq_true rfl) hRl⟩) rfl hl.1 rfl (by decide) dX9_rename_71 ⟨Nat.zero_le _, Nat.zero_le _⟩) (fun r49 σ₁ H locs hf hP hL => ?_)
                obtain ⟨e₁, hf⟩ := hf
                rw [e₁] at hP
                refine lv_iconst (v := 1) hx hb dX9_rename_74 (by decide) ?_
                refine lv_iadd hx hb dX9_rename_75 ?_
                refine p_aload_n hx hb dX9_rename_76 rfl (lv_at hl 1 rfl) ?_
                refine lv_iload_n hx hb dX9_rename_77 rfl (lv_at hl 2 rfl) ?_
                refine p_calli hL (p_runV X cf8_ hP ht34 (metX9_depthOf l G _ _ _ _ X.2.2 hf) (cwV 1 hts (lw_V q1453 q1455 qs45 q106 q1456) rfl rfl rfl (by decide +kernel) ⟨Nat.le_trans (Nat.le_of_ble_eq_true rfl) hRf, Nat.le_trans (Nat.le_of_ble_eq_true rfl) hRl⟩) rfl hl.1 rfl (by rw [(ca_i ca_n)]; decide) dX9_rename_78 ⟨Nat.zero_le _, Nat.zero_le _⟩) (fun r50 σ₁ H locs hf hP hL => ?_)
                obtain ⟨e₁, hf⟩ := hf
                rw [e₁] at hP
                refine lv_isub hx hb dX9_rename_81 ?_
                refine lv_topi (fun y51 hy51 => ?_)
                have hf := hf y51 hy51
                refine p_istore (i := 7) hx hb dX9_rename_82 hl (by decide) ⟨⟨ne_ rfl, Or.inl (ne_ rfl)⟩, ⟨⟨ne_ rfl, Or.inl (ne_ rfl)⟩, ⟨⟨ne_ rfl, Or.inl (ne_ rfl)⟩, ⟨⟨ne_ rfl, Or.inl (ne_ rfl)⟩, trivial⟩⟩⟩⟩ (fun ls hl => ?_)
                refine lv_iconst (v := 1) hx hb dX9_rename_84 (by decide) ?_
                refine p_istore (i := 8) hx hb dX9_rename_85 hl (by decide) ⟨⟨ne_ rfl, Or.inr rfl⟩, ⟨⟨ne_ rfl, Or.inl (ne_ rfl)⟩, ⟨⟨ne_ rfl, Or.inl (ne_ rfl)⟩, ⟨⟨ne_ rfl, Or.inl (ne_ rfl)⟩, ⟨⟨ne_ rfl, Or.inl (ne_ rfl)⟩, trivial⟩⟩⟩⟩⟩ (fun ls hl => ?_)
                exact sX9_rename_L87 Y hf _ _ _ _ _ hP hL ⟨rfl, rfl⟩ (lv_sub hl [3, 4, 5, 2, 1, 0] rfl)
              · have hf := hf.2 c48
                refine lv_bipush (v := (-2)) hx hb dX9_rename_66 (by decide) ?_
                exact p_iret X hlk hP hL (Nat.le_refl _) (Nat.le_refl _) hr dX9_rename_68 hf
  · have hf := hf.2 c36
    refine lv_bipush (v := (-4)) hx hb dX9_rename_12 (by decide) ?_
    exact p_iret X hlk hP hL (Nat.le_refl _) (Nat.le_refl _) hr dX9_rename_14 hf
set_option maxHeartbeats 4000000 in
theorem metX9_rename (l : Launch) (G : GG_) (x0 : Nat) (x1 : Int32) (x2 : Int32) (x3 : Int64) (σ : Hp) (post : Int32 → Hp → Prop) (hG : GOK_ G) (hf : wX9_rename x0 x1 x2 x3 σ post) : Met l yX9_rename (ws_ yX9_rename cX9_rename 9 (some Jvm.ClassFile.FieldType.int)) { frames := 3, cells := 0, slots := 0, locals := 65 } (PC_ G [rv_ x0, .int x1, .int x2, .long x3] σ) (QI_ G post) 0 0 (FR_ G) := by
  refine Met.ofW (cc := cX9_rename) (maxL := 9) (ret := (some Jvm.ClassFile.FieldType.int)) (by decide) rfl ?_
  intro p e s m args below meth c s₁ B hml hv
  obtain ⟨rfl, hP, hW⟩ := hv
  have hts := atoms_spec (ws := ws_ yX9_rename cX9_rename 9 (some Jvm.ClassFile.FieldType.int)) B.pre
  have hts : ∀ w ∈ lw_all, w.before _ s = true := fun w h => hts w (List.mem_cons_of_mem _ h)
  rw [lg_entry_eq]
  have hl := en_entry [rv_ x0, .int x1, .int x2, .long x3] [1, 1, 1, 2] (n := 9) (ca_r (ca_i (ca_i (ca_l ca_n)))) (by decide)
  exact sX9_rename ⟨⟨⟨B.exec, B.bytes, hml, findClass_of_methodNamed B.named, hts⟩, hW, hG⟩, B.notSynchronized, B.returns, Nat.le_refl _, Nat.le_refl _, ⟨rfl, rfl⟩, (name_of_methodNamed B.named B.method).1⟩ hf _ _ _ _ _ hP (LO_nil G) ⟨rfl, rfl⟩ hl
abbrev cX9_tree : ByteArray := prog_11_method_25_code
def yX9_tree : MethodName := ⟨RX9, "tree", "(II)I"⟩
theorem dX9_tree_0 : decode cX9_tree 0 = .ok (.aload_n 0, 1) := by decide +kernel
theorem dX9_tree_1 : decode cX9_tree 1 = .ok (.aload_n 0, 1) := by decide +kernel
theorem dX9_tree_2 : decode cX9_tree 2 = .ok (.iload_n 1, 1) := by decide +kernel
theorem dX9_tree_3 : decode cX9_tree 3 = .ok (.invokevirtual 139, 3) := by decide +kernel
theorem dX9_tree_6 : decode cX9_tree 6 = .ok (.ifCond .eq 16, 3) := by decide +kernel
theorem dX9_tree_9 : decode cX9_tree 9 = .ok (.iload_n 2, 1) := by decide +kernel
theorem dX9_tree_10 : decode cX9_tree 10 = .ok (.iconst 0, 1) := by decide +kernel
theorem dX9_tree_11 : decode cX9_tree 11 = .ok (.iconst 4, 1) := by decide +kernel
theorem dX9_tree_12 : decode cX9_tree 12 = .ok (.invokestatic 118, 3) := by decide +kernel
theorem dX9_tree_15 : decode cX9_tree 15 = .ok (.ifCond .eq 7, 3) := by decide +kernel
theorem dX9_tree_18 : decode cX9_tree 18 = .ok (.iconst 0, 1) := by decide +kernel
theorem dX9_tree_19 : decode cX9_tree 19 = .ok (.goto 4, 3) := by decide +kernel
theorem dX9_tree_22 : decode cX9_tree 22 = .ok (.iconst 1, 1) := by decide +kernel
theorem dX9_tree_23 : decode cX9_tree 23 = .ok (.putfield 109, 3) := by decide +kernel
theorem dX9_tree_26 : decode cX9_tree 26 = .ok (.aload_n 0, 1) := by decide +kernel
theorem dX9_tree_27 : decode cX9_tree 27 = .ok (.getfield 109, 3) := by decide +kernel
theorem dX9_tree_30 : decode cX9_tree 30 = .ok (.iconst 1, 1) := by decide +kernel
theorem dX9_tree_31 : decode cX9_tree 31 = .ok (.if_icmp .ne 5, 3) := by decide +kernel
theorem dX9_tree_34 : decode cX9_tree 34 = .ok (.iconst 0, 1) := by decide +kernel
theorem dX9_tree_35 : decode cX9_tree 35 = .ok (.ireturn, 1) := by decide +kernel
theorem dX9_tree_36 : decode cX9_tree 36 = .ok (.iload_n 2, 1) := by decide +kernel
theorem dX9_tree_37 : decode cX9_tree 37 = .ok (.ifCond .ne 12, 3) := by decide +kernel
theorem dX9_tree_40 : decode cX9_tree 40 = .ok (.aload_n 0, 1) := by decide +kernel
theorem dX9_tree_41 : decode cX9_tree 41 = .ok (.getfield 30, 3) := by decide +kernel
theorem dX9_tree_44 : decode cX9_tree 44 = .ok (.iload_n 1, 1) := by decide +kernel
theorem dX9_tree_45 : decode cX9_tree 45 = .ok (.iaload, 1) := by decide +kernel
theorem dX9_tree_46 : decode cX9_tree 46 = .ok (.goto 59, 3) := by decide +kernel
theorem dX9_tree_49 : decode cX9_tree 49 = .ok (.iload_n 2, 1) := by decide +kernel
theorem dX9_tree_50 : decode cX9_tree 50 = .ok (.iconst 1, 1) := by decide +kernel
theorem dX9_tree_51 : decode cX9_tree 51 = .ok (.if_icmp .ne 20, 3) := by decide +kernel
theorem dX9_tree_54 : decode cX9_tree 54 = .ok (.aload_n 0, 1) := by decide +kernel
theorem dX9_tree_55 : decode cX9_tree 55 = .ok (.getfield 27, 3) := by decide +kernel
theorem dX9_tree_58 : decode cX9_tree 58 = .ok (.iload_n 1, 1) := by decide +kernel
theorem dX9_tree_59 : decode cX9_tree 59 = .ok (.baload, 1) := by decide +kernel
theorem dX9_tree_60 : decode cX9_tree 60 = .ok (.ifCond .eq 7, 3) := by decide +kernel
theorem dX9_tree_63 : decode cX9_tree 63 = .ok (.iconst 0, 1) := by decide +kernel
theorem dX9_tree_64 : decode cX9_tree 64 = .ok (.goto 41, 3) := by decide +kernel
theorem dX9_tree_67 : decode cX9_tree 67 = .ok (.iconst 1, 1) := by decide +kernel
theorem dX9_tree_68 : decode cX9_tree 68 = .ok (.goto 37, 3) := by decide +kernel
theorem dX9_tree_71 : decode cX9_tree 71 = .ok (.iload_n 2, 1) := by decide +kernel
theorem dX9_tree_72 : decode cX9_tree 72 = .ok (.iconst 2, 1) := by decide +kernel
theorem dX9_tree_73 : decode cX9_tree 73 = .ok (.if_icmp .ne 12, 3) := by decide +kernel
theorem dX9_tree_76 : decode cX9_tree 76 = .ok (.aload_n 0, 1) := by decide +kernel
theorem dX9_tree_77 : decode cX9_tree 77 = .ok (.getfield 38, 3) := by decide +kernel
theorem dX9_tree_80 : decode cX9_tree 80 = .ok (.iload_n 1, 1) := by decide +kernel
theorem dX9_tree_81 : decode cX9_tree 81 = .ok (.iaload, 1) := by decide +kernel
theorem dX9_tree_82 : decode cX9_tree 82 = .ok (.goto 23, 3) := by decide +kernel
theorem dX9_tree_85 : decode cX9_tree 85 = .ok (.iload_n 2, 1) := by decide +kernel
theorem dX9_tree_86 : decode cX9_tree 86 = .ok (.iconst 3, 1) := by decide +kernel
theorem dX9_tree_87 : decode cX9_tree 87 = .ok (.if_icmp .ne 12, 3) := by decide +kernel
theorem dX9_tree_90 : decode cX9_tree 90 = .ok (.aload_n 0, 1) := by decide +kernel
theorem dX9_tree_91 : decode cX9_tree 91 = .ok (.getfield 41, 3) := by decide +kernel
theorem dX9_tree_94 : decode cX9_tree 94 = .ok (.iload_n 1, 1) := by decide +kernel
theorem dX9_tree_95 : decode cX9_tree 95 = .ok (.iaload, 1) := by decide +kernel
theorem dX9_tree_96 : decode cX9_tree 96 = .ok (.goto 9, 3) := by decide +kernel
theorem dX9_tree_99 : decode cX9_tree 99 = .ok (.aload_n 0, 1) := by decide +kernel
theorem dX9_tree_100 : decode cX9_tree 100 = .ok (.getfield 47, 3) := by decide +kernel
theorem dX9_tree_103 : decode cX9_tree 103 = .ok (.iload_n 1, 1) := by decide +kernel
theorem dX9_tree_104 : decode cX9_tree 104 = .ok (.iaload, 1) := by decide +kernel
theorem dX9_tree_105 : decode cX9_tree 105 = .ok (.ireturn, 1) := by decide +kernel
/-- WriteOnceDiscModel.tree(II)I -/
def wX9_tree_L23 (post : Int32 → Hp → Prop) (x0 : Nat) (x1 : Int32) (x2 : Int32) (s0 : Int32) (s1 : Nat) (σ : Hp) : Prop :=
(tg_ σ s1 = 9 ∧ (∀ σ2, σ2 = sI_ σ 8 0 s1 s0 → (tg_ σ2 x0 = 9 ∧ ((¬ (fI_ σ2 8 0 x0) = (1 : Int32) →
  ((¬ x2 = 0 →
   ((¬ x2 = (1 : Int32) →
    ((¬ x2 = (2 : Int32) →
     ((¬ x2 = (3 : Int32) →
      (tg_ σ2 (fR_ σ2 8 18 x0) = 102 ∧ (vp_in x1 (ln_ σ2 (fR_ σ2 8 18 x0)) ∧ post (aI_ σ2 (fR_ σ2 8 18 x0) (x1).toNatClampNeg) σ2))) ∧
     (x2 = (3 : Int32) →
      (tg_ σ2 (fR_ σ2 8 16 x0) = 102 ∧ (vp_in x1 (ln_ σ2 (fR_ σ2 8 16 x0)) ∧ post (aI_ σ2 (fR_ σ2 8 16 x0) (x1).toNatClampNeg) σ2))))) ∧
    (x2 = (2 : Int32) →
     (tg_ σ2 (fR_ σ2 8 15 x0) = 102 ∧ (vp_in x1 (ln_ σ2 (fR_ σ2 8 15 x0)) ∧ post (aI_ σ2 (fR_ σ2 8 15 x0) (x1).toNatClampNeg) σ2))))) ∧
   (x2 = (1 : Int32) →
    (tg_ σ2 (fR_ σ2 8 12 x0) = 101 ∧ (vp_in x1 (ln_ σ2 (fR_ σ2 8 12 x0)) ∧ (((aI_ σ2 (fR_ σ2 8 12 x0) (x1).toNatClampNeg) = 0 →
     post (1 : Int32) σ2) ∧
    (¬ (aI_ σ2 (fR_ σ2 8 12 x0) (x1).toNatClampNeg) = 0 →
     post (0 : Int32) σ2))))))) ∧
  (x2 = 0 →
   (tg_ σ2 (fR_ σ2 8 13 x0) = 102 ∧ (vp_in x1 (ln_ σ2 (fR_ σ2 8 13 x0)) ∧ post (aI_ σ2 (fR_ σ2 8 13 x0) (x1).toNatClampNeg) σ2))))) ∧
 ((fI_ σ2 8 0 x0) = (1 : Int32) →
  post (0 : Int32) σ2)))))
def wX9_tree_L22 (post : Int32 → Hp → Prop) (x0 : Nat) (x1 : Int32) (x2 : Int32) (s0 : Nat) (σ : Hp) : Prop :=
wX9_tree_L23 post x0 x1 x2 (1 : Int32) s0 σ
def wX9_tree (x0 : Nat) (x1 : Int32) (x2 : Int32) (σ : Hp) (post : Int32 → Hp → Prop) : Prop :=
(tg_ σ x0 = 9 ∧ (wX9_isNode x0 x1 σ (fun r21 => ((r21 = 0 →
  wX9_tree_L22 post x0 x1 x2 x0 σ) ∧
 (¬ r21 = 0 →
  (wX9_in x2 (0 : Int32) (4 : Int32) σ (fun r23 => ((r23 = 0 →
   wX9_tree_L22 post x0 x1 x2 x0 σ) ∧
  (¬ r23 = 0 →
   wX9_tree_L23 post x0 x1 x2 (0 : Int32) x0 σ)))))))))
set_option maxHeartbeats 4000000 in
theorem sX9_tree_L23 {G : GG_} {p : Program} {l : Launch} {e : Env} {R : Room} {s : State} {m : MethodId} {args : Array Value} {below : List Frame} {meth : Method} {c : Code} (Y : MX_ G p R s m args meth c cX9_tree 3 RX9 (some Jvm.ClassFile.FieldType.int) 2 42 0 0 "tree") {post : Int32 → Hp → Prop} {x0 : Nat} {x1 : Int32} {x2 : Int32} {s0 : Int32} {s1 : Nat} {σ : Hp} (hf : wX9_tree_L23 post x0 x1 x2 s0 s1 σ) : WG_ G p l e R s m args below meth c (MQ below (QI_ G post) args s 0 0 (FR_ G)) BN_ 3 23 [(0, rv_ x0), (1, .int x1), (2, .int x2)] [.int s0, rv_ s1] σ := by
  have ⟨X, hlk, hr, hRf, hRl, hRc, hnm⟩ := Y
  have ⟨⟨hx, hb, _, hown, hts⟩, _, _⟩ := X
  intro H locs cells slots ls hP hL hB hl
  obtain ⟨rfl, rfl⟩ := hB
  unfold wX9_tree_L23 at hf
  obtain ⟨ht1, hf⟩ := hf
  refine p_pI X cf8_ (k := 0) (by decide) rfl hP hL ht1 (p_ow hP ht1 rfl) q1295 (fun _ h => h) (Or.inl rfl) rfl rfl dX9_tree_23 (fun H locs hP hL => ?_)
  refine p_nmP hP (fun σ2 hσ2 hP => ?_)
  have hf := hf σ2 hσ2
  have ht1 : tg_ σ2 s1 = 9 := by rw [hσ2]; exact ht1
  refine p_aload_n hx hb dX9_tree_26 rfl (lv_at hl 0 rfl) ?_
  obtain ⟨ht3, hf⟩ := hf
  refine p_gI X cf8_ (k := 0) (by decide) rfl hP ht3 q1295 (fun _ h => h) dX9_tree_27 ?_
  refine lv_iconst (v := 1) hx hb dX9_tree_30 (by decide) ?_
  refine lv_icmp_ne (tgt := 36) hx hb dX9_tree_31 (by decide) (fun c4 => ?_) (fun c4 => ?_)
  · have hf := hf.1 c4
    refine lv_iload_n hx hb dX9_tree_36 rfl (lv_at hl 2 rfl) ?_
    refine lv_if_ne (tgt := 49) hx hb dX9_tree_37 (by decide) (fun c5 => ?_) (fun c5 => ?_)
    · have hf := hf.1 c5
      refine lv_iload_n hx hb dX9_tree_49 rfl (lv_at hl 2 rfl) ?_
      refine lv_iconst (v := 1) hx hb dX9_tree_50 (by decide) ?_
      refine lv_icmp_ne (tgt := 71) hx hb dX9_tree_51 (by decide) (fun c6 => ?_) (fun c6 => ?_)
      · have hf := hf.1 c6
        refine lv_iload_n hx hb dX9_tree_71 rfl (lv_at hl 2 rfl) ?_
        refine lv_iconst (v := 2) hx hb dX9_tree_72 (by decide) ?_
        refine lv_icmp_ne (tgt := 85) hx hb dX9_tree_73 (by decide) (fun c7 => ?_) (fun c7 => ?_)
        · have hf := hf.1 c7
          refine lv_iload_n hx hb dX9_tree_85 rfl (lv_at hl 2 rfl) ?_
          refine lv_iconst (v := 3) hx hb dX9_tree_86 (by decide) ?_
          refine lv_icmp_ne (tgt := 99) hx hb dX9_tree_87 (by decide) (fun c8 => ?_) (fun c8 => ?_)
          · have hf := hf.1 c8
            refine p_aload_n hx hb dX9_tree_99 rfl (lv_at hl 0 rfl) ?_
            refine p_gR X cf8_ (k := 18) (by decide) rfl hP ht3 q1313 (fun _ h => h) dX9_tree_100 ?_
            refine lv_iload_n hx hb dX9_tree_103 rfl (lv_at hl 1 rfl) ?_
            obtain ⟨ht9, hf⟩ := hf
            obtain ⟨hi10, hf⟩ := hf
            refine p_iald X hP ht9 hi10 dX9_tree_104 ?_
            exact p_iret X hlk hP hL (Nat.le_refl _) (Nat.le_refl _) hr dX9_tree_105 hf
          · have hf := hf.2 c8
            refine p_aload_n hx hb dX9_tree_90 rfl (lv_at hl 0 rfl) ?_
            refine p_gR X cf8_ (k := 16) (by decide) rfl hP ht3 q1311 (fun _ h => h) dX9_tree_91 ?_
            refine lv_iload_n hx hb dX9_tree_94 rfl (lv_at hl 1 rfl) ?_
            obtain ⟨ht11, hf⟩ := hf
            obtain ⟨hi12, hf⟩ := hf
            refine p_iald X hP ht11 hi12 dX9_tree_95 ?_
            refine lv_goto (tgt := 105) hx hb dX9_tree_96 (by decide) ?_
            exact p_iret X hlk hP hL (Nat.le_refl _) (Nat.le_refl _) hr dX9_tree_105 hf
        · have hf := hf.2 c7
          refine p_aload_n hx hb dX9_tree_76 rfl (lv_at hl 0 rfl) ?_
          refine p_gR X cf8_ (k := 15) (by decide) rfl hP ht3 q1310 (fun _ h => h) dX9_tree_77 ?_
          refine lv_iload_n hx hb dX9_tree_80 rfl (lv_at hl 1 rfl) ?_
          obtain ⟨ht13, hf⟩ := hf
          obtain ⟨hi14, hf⟩ := hf
          refine p_iald X hP ht13 hi14 dX9_tree_81 ?_
          refine lv_goto (tgt := 105) hx hb dX9_tree_82 (by decide) ?_
          exact p_iret X hlk hP hL (Nat.le_refl _) (Nat.le_refl _) hr dX9_tree_105 hf
      · have hf := hf.2 c6
        refine p_aload_n hx hb dX9_tree_54 rfl (lv_at hl 0 rfl) ?_
        refine p_gR X cf8_ (k := 12) (by decide) rfl hP ht3 q1307 (fun _ h => h) dX9_tree_55 ?_
        refine lv_iload_n hx hb dX9_tree_58 rfl (lv_at hl 1 rfl) ?_
        obtain ⟨ht15, hf⟩ := hf
        obtain ⟨hi16, hf⟩ := hf
        refine p_zald X hP ht15 hi16 dX9_tree_59 ?_
        refine lv_if_eq (tgt := 67) hx hb dX9_tree_60 (by decide) (fun c17 => ?_) (fun c17 => ?_)
        · have hf := hf.1 c17
          refine lv_iconst (v := 1) hx hb dX9_tree_67 (by decide) ?_
          refine lv_goto (tgt := 105) hx hb dX9_tree_68 (by decide) ?_
          exact p_iret X hlk hP hL (Nat.le_refl _) (Nat.le_refl _) hr dX9_tree_105 hf
        · have hf := hf.2 c17
          refine lv_iconst (v := 0) hx hb dX9_tree_63 (by decide) ?_
          refine lv_goto (tgt := 105) hx hb dX9_tree_64 (by decide) ?_
          exact p_iret X hlk hP hL (Nat.le_refl _) (Nat.le_refl _) hr dX9_tree_105 hf
    · have hf := hf.2 c5
      refine p_aload_n hx hb dX9_tree_40 rfl (lv_at hl 0 rfl) ?_
      refine p_gR X cf8_ (k := 13) (by decide) rfl hP ht3 q1308 (fun _ h => h) dX9_tree_41 ?_
      refine lv_iload_n hx hb dX9_tree_44 rfl (lv_at hl 1 rfl) ?_
      obtain ⟨ht18, hf⟩ := hf
      obtain ⟨hi19, hf⟩ := hf
      refine p_iald X hP ht18 hi19 dX9_tree_45 ?_
      refine lv_goto (tgt := 105) hx hb dX9_tree_46 (by decide) ?_
      exact p_iret X hlk hP hL (Nat.le_refl _) (Nat.le_refl _) hr dX9_tree_105 hf
  · have hf := hf.2 c4
    refine lv_iconst (v := 0) hx hb dX9_tree_34 (by decide) ?_
    exact p_iret X hlk hP hL (Nat.le_refl _) (Nat.le_refl _) hr dX9_tree_35 hf
set_option maxHeartbeats 4000000 in
theorem sX9_tree_L22 {G : GG_} {p : Program} {l : Launch} {e : Env} {R : Room} {s : State} {m : MethodId} {args : Array Value} {below : List Frame} {meth : Method} {c : Code} (Y : MX_ G p R s m args meth c cX9_tree 3 RX9 (some Jvm.ClassFile.FieldType.int) 2 42 0 0 "tree") {post : Int32 → Hp → Prop} {x0 : Nat} {x1 : Int32} {x2 : Int32} {s0 : Nat} {σ : Hp} (hf : wX9_tree_L22 post x0 x1 x2 s0 σ) : WG_ G p l e R s m args below meth c (MQ below (QI_ G post) args s 0 0 (FR_ G)) BN_ 3 22 [(0, rv_ x0), (1, .int x1), (2, .int x2)] [rv_ s0] σ := by
  have ⟨X, hlk, hr, hRf, hRl, hRc, hnm⟩ := Y
  have ⟨⟨hx, hb, _, hown, hts⟩, _, _⟩ := X
  intro H locs cells slots ls hP hL hB hl
  obtain ⟨rfl, rfl⟩ := hB
  unfold wX9_tree_L22 at hf
  refine lv_iconst (v := 1) hx hb dX9_tree_22 (by decide) ?_
  exact sX9_tree_L23 Y hf _ _ _ _ _ hP hL ⟨rfl, rfl⟩ (lv_sub hl [0, 1, 2] rfl)
set_option maxHeartbeats 4000000 in
theorem sX9_tree {G : GG_} {p : Program} {l : Launch} {e : Env} {R : Room} {s : State} {m : MethodId} {args : Array Value} {below : List Frame} {meth : Method} {c : Code} (Y : MX_ G p R s m args meth c cX9_tree 3 RX9 (some Jvm.ClassFile.FieldType.int) 2 42 0 0 "tree") {post : Int32 → Hp → Prop} {x0 : Nat} {x1 : Int32} {x2 : Int32} {σ : Hp} (hf : wX9_tree x0 x1 x2 σ post) : WG_ G p l e R s m args below meth c (MQ below (QI_ G post) args s 0 0 (FR_ G)) BN_ 3 0 [(0, rv_ x0), (1, .int x1), (2, .int x2)] [] σ := by
  have ⟨X, hlk, hr, hRf, hRl, hRc, hnm⟩ := Y
  have ⟨⟨hx, hb, _, hown, hts⟩, _, _⟩ := X
  intro H locs cells slots ls hP hL hB hl
  obtain ⟨rfl, rfl⟩ := hB
  unfold wX9_tree at hf
  refine p_aload_n hx hb dX9_tree_0 rfl (lv_at hl 0 rfl) ?_
  refine p_aload_n hx hb dX9_tree_1 rfl (lv_at hl 0 rfl) ?_
  refine lv_iload_n hx hb dX9_tree_2 rfl (lv_at hl 1 rfl) ?_
  obtain ⟨ht20, hf⟩ := hf
  refine p_calli hL (p_runV X cf8_ hP ht20 (metX9_isNode l G _ _ _ _ X.2.2 hf) (cwV 1 hts (lw_V q1449 q1451 qs44 q106 q1452) rfl rfl rfl (by decide +kernel) ⟨Nat.le_trans (Nat.le_of_ble_eq_true rfl) hRf, Nat.le_trans (Nat.le_of_ble_eq_true rfl) hRl⟩) rfl hl.1 rfl (by rw [(ca_r ca_n)]; decide) dX9_tree_3 ⟨Nat.zero_le _, Nat.zero_le _⟩) (fun r21 σ₁ H locs hf hP hL => ?_)
  obtain ⟨e₁, hf⟩ := hf
  rw [e₁] at hP
  refine lv_if_eq (tgt := 22) hx hb dX9_tree_6 (by decide) (fun c22 => ?_) (fun c22 => ?_)
  · have hf := hf.1 c22
    exact sX9_tree_L22 Y hf _ _ _ _ _ hP hL ⟨rfl, rfl⟩ (lv_sub hl [0, 1, 2] rfl)
  · have hf := hf.2 c22
    refine lv_iload_n hx hb dX9_tree_9 rfl (lv_at hl 2 rfl) ?_
    refine lv_iconst (v := 0) hx hb dX9_tree_10 (by decide) ?_
    refine lv_iconst (v := 4) hx hb dX9_tree_11 (by decide) ?_
    refine p_calli hL (p_runS X hP (metX9_in l G _ _ _ _ _ X.2.2 hf) (va_cwS 3 hts (lw_S q1427 q1428 q106 q1429) rfl rfl rfl (by decide +kernel) ⟨Nat.le_trans (Nat.le_of_ble_eq_true rfl) hRf, Nat.le_trans (Nat.le_of_ble_eq_true rfl) hRl⟩) rfl hl.1 rfl (by rw [(ca_r ca_n)]; decide) dX9_tree_12 ⟨Nat.zero_le _, Nat.zero_le _⟩) (fun r23 σ₁ H locs hf hP hL => ?_)
    obtain ⟨e₁, hf⟩ := hf
    rw [e₁] at hP
    refine lv_if_eq (tgt := 22) hx hb dX9_tree_15 (by decide) (fun c24 => ?_) (fun c24 => ?_)
    · have hf := hf.1 c24
      exact sX9_tree_L22 Y hf _ _ _ _ _ hP hL ⟨rfl, rfl⟩ (lv_sub hl [0, 1, 2] rfl)
    · have hf := hf.2 c24
      refine lv_iconst (v := 0) hx hb dX9_tree_18 (by decide) ?_
      refine lv_goto (tgt := 23) hx hb dX9_tree_19 (by decide) ?_
      exact sX9_tree_L23 Y hf _ _ _ _ _ hP hL ⟨rfl, rfl⟩ (lv_sub hl [0, 1, 2] rfl)
set_option maxHeartbeats 4000000 in
theorem metX9_tree (l : Launch) (G : GG_) (x0 : Nat) (x1 : Int32) (x2 : Int32) (σ : Hp) (post : Int32 → Hp → Prop) (hG : GOK_ G) (hf : wX9_tree x0 x1 x2 σ post) : Met l yX9_tree (ws_ yX9_tree cX9_tree 3 (some Jvm.ClassFile.FieldType.int)) { frames := 2, cells := 0, slots := 0, locals := 42 } (PC_ G [rv_ x0, .int x1, .int x2] σ) (QI_ G post) 0 0 (FR_ G) := by
  refine Met.ofW (cc := cX9_tree) (maxL := 3) (ret := (some Jvm.ClassFile.FieldType.int)) (by decide) rfl ?_
  intro p e s m args below meth c s₁ B hml hv
  obtain ⟨rfl, hP, hW⟩ := hv
  have hts := atoms_spec (ws := ws_ yX9_tree cX9_tree 3 (some Jvm.ClassFile.FieldType.int)) B.pre
  have hts : ∀ w ∈ lw_all, w.before _ s = true := fun w h => hts w (List.mem_cons_of_mem _ h)
  rw [lg_entry_eq]
  have hl := en_entry [rv_ x0, .int x1, .int x2] [1, 1, 1] (n := 3) (ca_r (ca_i (ca_i ca_n))) (by decide)
  exact sX9_tree ⟨⟨⟨B.exec, B.bytes, hml, findClass_of_methodNamed B.named, hts⟩, hW, hG⟩, B.notSynchronized, B.returns, Nat.le_refl _, Nat.le_refl _, ⟨rfl, rfl⟩, (name_of_methodNamed B.named B.method).1⟩ hf _ _ _ _ _ hP (LO_nil G) ⟨rfl, rfl⟩ hl
abbrev cX9_frontOf : ByteArray := prog_11_method_7_code
def yX9_frontOf : MethodName := ⟨RX9, "frontOf", "(I)I"⟩
theorem dX9_frontOf_0 : decode cX9_frontOf 0 = .ok (.aload_n 0, 1) := by decide +kernel
theorem dX9_frontOf_1 : decode cX9_frontOf 1 = .ok (.getfield 99, 3) := by decide +kernel
theorem dX9_frontOf_4 : decode cX9_frontOf 4 = .ok (.istore_n 2, 1) := by decide +kernel
theorem dX9_frontOf_5 : decode cX9_frontOf 5 = .ok (.iload_n 2, 1) := by decide +kernel
theorem dX9_frontOf_6 : decode cX9_frontOf 6 = .ok (.ifCond .le 22, 3) := by decide +kernel
theorem dX9_frontOf_9 : decode cX9_frontOf 9 = .ok (.aload_n 0, 1) := by decide +kernel
theorem dX9_frontOf_10 : decode cX9_frontOf 10 = .ok (.getfield 14, 3) := by decide +kernel
theorem dX9_frontOf_13 : decode cX9_frontOf 13 = .ok (.iload_n 1, 1) := by decide +kernel
theorem dX9_frontOf_14 : decode cX9_frontOf 14 = .ok (.iload_n 2, 1) := by decide +kernel
theorem dX9_frontOf_15 : decode cX9_frontOf 15 = .ok (.iadd, 1) := by decide +kernel
theorem dX9_frontOf_16 : decode cX9_frontOf 16 = .ok (.iconst 1, 1) := by decide +kernel
theorem dX9_frontOf_17 : decode cX9_frontOf 17 = .ok (.isub, 1) := by decide +kernel
theorem dX9_frontOf_18 : decode cX9_frontOf 18 = .ok (.baload, 1) := by decide +kernel
theorem dX9_frontOf_19 : decode cX9_frontOf 19 = .ok (.ifCond .ne 9, 3) := by decide +kernel
theorem dX9_frontOf_22 : decode cX9_frontOf 22 = .ok (.iinc 2 (-1), 3) := by decide +kernel
theorem dX9_frontOf_25 : decode cX9_frontOf 25 = .ok (.goto (-20), 3) := by decide +kernel
theorem dX9_frontOf_28 : decode cX9_frontOf 28 = .ok (.iload_n 2, 1) := by decide +kernel
theorem dX9_frontOf_29 : decode cX9_frontOf 29 = .ok (.ireturn, 1) := by decide +kernel
/-- WriteOnceDiscModel.frontOf(I)I -/
def wX9_frontOf_B5 (post : Int32 → Prop) (rc5 : Int32 → Prop) (x0 : Nat) (x1 : Int32) (x2 : Int32) (σ : Hp) : Prop :=
((x2 ≤ 0 →
  post x2) ∧
 (¬ x2 ≤ 0 →
  (tg_ σ x0 = 9 ∧ (tg_ σ (fR_ σ 8 4 x0) = 100 ∧ (vp_in ((x1 + x2) - (1 : Int32)) (ln_ σ (fR_ σ 8 4 x0)) ∧ ((¬ (aI_ σ (fR_ σ 8 4 x0) (((x1 + x2) - (1 : Int32))).toNatClampNeg) = 0 →
   post x2) ∧
  ((aI_ σ (fR_ σ 8 4 x0) (((x1 + x2) - (1 : Int32))).toNatClampNeg) = 0 →
   (∀ y6 : Int32, y6 = x2 + (-1) → rc5 y6))))))))
def wX9_frontOf_L5 (post : Int32 → Prop) (x0 : Nat) (x1 : Int32) (x2 : Int32) (σ : Hp) : Prop :=
 ∃ (I : Int32 → Prop) (μ : Int32 → Nat), I x2 ∧ ∀ (x2 : Int32), I x2 → wX9_frontOf_B5 post (fun x2' => I x2' ∧ μ x2' < μ x2) x0 x1 x2 σ
def wX9_frontOf (x0 : Nat) (x1 : Int32) (σ : Hp) (post : Int32 → Prop) : Prop :=
(tg_ σ x0 = 9 ∧ (∀ y8 : Int32, y8 = (fI_ σ 8 1 x0) → wX9_frontOf_L5 post x0 x1 y8 σ))
set_option maxHeartbeats 4000000 in
theorem sX9_frontOf_B5 {G : GG_} {p : Program} {l : Launch} {e : Env} {R : Room} {s : State} {m : MethodId} {args : Array Value} {below : List Frame} {meth : Method} {c : Code} (Y : MX_ G p R s m args meth c cX9_frontOf 3 RX9 (some Jvm.ClassFile.FieldType.int) 1 20 0 0 "frontOf") {post : Int32 → Prop} {rc5 : Int32 → Prop} {x0 : Nat} {x1 : Int32} {x2 : Int32} {σ : Hp} (hrc5 : ∀ (x2 : Int32), rc5 x2 → WG_ G p l e R s m args below meth c (MQ below (QI_ G (fun r τ => τ = σ ∧ post r)) args s 0 0 (FR_ G)) BN_ 3 5 [(0, rv_ x0), (1, .int x1), (2, .int x2)] [] σ) (hf : wX9_frontOf_B5 post rc5 x0 x1 x2 σ) : WG_ G p l e R s m args below meth c (MQ below (QI_ G (fun r τ => τ = σ ∧ post r)) args s 0 0 (FR_ G)) BN_ 3 5 [(0, rv_ x0), (1, .int x1), (2, .int x2)] [] σ := by
  have ⟨X, hlk, hr, hRf, hRl, hRc, hnm⟩ := Y
  have ⟨⟨hx, hb, _, hown, hts⟩, _, _⟩ := X
  intro H locs cells slots ls hP hL hB hl
  obtain ⟨rfl, rfl⟩ := hB
  unfold wX9_frontOf_B5 at hf
  refine lv_iload_n hx hb dX9_frontOf_5 rfl (lv_at hl 2 rfl) ?_
  refine lv_if_le (tgt := 28) hx hb dX9_frontOf_6 (by decide) (fun c1 => ?_) (fun c1 => ?_)
  · have hf := hf.1 c1
    refine lv_iload_n hx hb dX9_frontOf_28 rfl (lv_at hl 2 rfl) ?_
    exact p_iret X hlk hP hL (Nat.le_refl _) (Nat.le_refl _) hr dX9_frontOf_29 ⟨rfl, hf⟩
  · have hf := hf.2 c1
    refine p_aload_n hx hb dX9_frontOf_9 rfl (lv_at hl 0 rfl) ?_
    obtain ⟨ht2, hf⟩ := hf
    refine p_gR X cf8_ (k := 4) (by decide) rfl hP ht2 q1299 (fun _ h => h) dX9_frontOf_10 ?_
    refine lv_iload_n hx hb dX9_frontOf_13 rfl (lv_at hl 1 rfl) ?_
    refine lv_iload_n hx hb dX9_frontOf_14 rfl (lv_at hl 2 rfl) ?_
    refine lv_iadd hx hb dX9_frontOf_15 ?_
    refine lv_iconst (v := 1) hx hb dX9_frontOf_16 (by decide) ?_
    refine lv_isub hx hb dX9_frontOf_17 ?_
    obtain ⟨ht3, hf⟩ := hf
    obtain ⟨hi4, hf⟩ := hf
    refine p_bald X hP ht3 hi4 dX9_frontOf_18 ?_
    refine lv_if_ne (tgt := 28) hx hb dX9_frontOf_19 (by decide) (fun c5 => ?_) (fun c5 => ?_)
    · have hf := hf.1 c5
      refine lv_iload_n hx hb dX9_frontOf_28 rfl (lv_at hl 2 rfl) ?_
      exact p_iret X hlk hP hL (Nat.le_refl _) (Nat.le_refl _) hr dX9_frontOf_29 ⟨rfl, hf⟩
    · have hf := hf.2 c5
      have hl := lv_sub hl [2, 0, 1] rfl
      refine p_iincc (i := 2) (k := (-1)) hx hb (by decide) dX9_frontOf_22 hl (by decide) ⟨⟨ne_ rfl, Or.inl (ne_ rfl)⟩, ⟨⟨ne_ rfl, Or.inr rfl⟩, trivial⟩⟩ (fun y6 hy6 ls hl => ?_)
      have hf := hf y6 hy6
      refine lv_goto (tgt := 5) hx hb dX9_frontOf_25 (by decide) ?_
      exact hrc5 _ hf _ _ _ _ _ hP hL ⟨rfl, rfl⟩ (lv_sub hl [1, 2, 0] rfl)
set_option maxHeartbeats 4000000 in
theorem sX9_frontOf_L5 {G : GG_} {p : Program} {l : Launch} {e : Env} {R : Room} {s : State} {m : MethodId} {args : Array Value} {below : List Frame} {meth : Method} {c : Code} (Y : MX_ G p R s m args meth c cX9_frontOf 3 RX9 (some Jvm.ClassFile.FieldType.int) 1 20 0 0 "frontOf") {post : Int32 → Prop} {x0 : Nat} {x1 : Int32} {x2 : Int32} {σ : Hp} (hf : wX9_frontOf_L5 post x0 x1 x2 σ) : WG_ G p l e R s m args below meth c (MQ below (QI_ G (fun r τ => τ = σ ∧ post r)) args s 0 0 (FR_ G)) BN_ 3 5 [(0, rv_ x0), (1, .int x1), (2, .int x2)] [] σ := by
  unfold wX9_frontOf_L5 at hf
  obtain ⟨I, μ, h0, hI⟩ := hf
  have key : ∀ (n : Nat) (x2 : Int32), I x2 → μ x2 < n → WG_ G p l e R s m args below meth c (MQ below (QI_ G (fun r τ => τ = σ ∧ post r)) args s 0 0 (FR_ G)) BN_ 3 5 [(0, rv_ x0), (1, .int x1), (2, .int x2)] [] σ := by
    intro n
    induction n with
    | zero => intro x2 _ h; exact absurd h (Nat.not_lt_zero _)
    | succ n ih => intro x2 hi hn; exact sX9_frontOf_B5 Y (fun x2' h => ih x2' h.1 (Nat.lt_of_lt_of_le h.2 (Nat.le_of_lt_succ hn))) (hI x2 hi)
  exact key _ _ h0 (Nat.lt_succ_self _)
set_option maxHeartbeats 4000000 in
theorem sX9_frontOf {G : GG_} {p : Program} {l : Launch} {e : Env} {R : Room} {s : State} {m : MethodId} {args : Array Value} {below : List Frame} {meth : Method} {c : Code} (Y : MX_ G p R s m args meth c cX9_frontOf 3 RX9 (some Jvm.ClassFile.FieldType.int) 1 20 0 0 "frontOf") {post : Int32 → Prop} {x0 : Nat} {x1 : Int32} {σ : Hp} (hf : wX9_frontOf x0 x1 σ post) : WG_ G p l e R s m args below meth c (MQ below (QI_ G (fun r τ => τ = σ ∧ post r)) args s 0 0 (FR_ G)) BN_ 3 0 [(0, rv_ x0), (1, .int x1)] [] σ := by
  have ⟨X, hlk, hr, hRf, hRl, hRc, hnm⟩ := Y
  have ⟨⟨hx, hb, _, hown, hts⟩, _, _⟩ := X
  intro H locs cells slots ls hP hL hB hl
  obtain ⟨rfl, rfl⟩ := hB
  unfold wX9_frontOf at hf
  refine p_aload_n hx hb dX9_frontOf_0 rfl (lv_at hl 0 rfl) ?_
  obtain ⟨ht7, hf⟩ := hf
  refine p_gI X cf8_ (k := 1) (by decide) rfl hP ht7 q1296 (fun _ h => h) dX9_frontOf_1 ?_
  refine lv_topi (fun y8 hy8 => ?_)
  have hf := hf y8 hy8
  refine p_istore_n (i := 2) hx hb dX9_frontOf_4 rfl hl (by decide) ⟨⟨ne_ rfl, Or.inl (ne_ rfl)⟩, ⟨⟨ne_ rfl, Or.inr rfl⟩, trivial⟩⟩ (fun ls hl => ?_)
  exact sX9_frontOf_L5 Y hf _ _ _ _ _ hP hL ⟨rfl, rfl⟩ (lv_sub hl [1, 2, 0] rfl)
set_option maxHeartbeats 4000000 in
theorem metX9_frontOf (l : Launch) (G : GG_) (x0 : Nat) (x1 : Int32) (σ : Hp) (post : Int32 → Prop) (hG : GOK_ G) (hf : wX9_frontOf x0 x1 σ post) : Met l yX9_frontOf (ws_ yX9_frontOf cX9_frontOf 3 (some Jvm.ClassFile.FieldType.int)) { frames := 1, cells := 0, slots := 0, locals := 20 } (PC_ G [rv_ x0, .int x1] σ) (QI_ G (fun r τ => τ = σ ∧ post r)) 0 0 (FR_ G) := by
  refine Met.ofW (cc := cX9_frontOf) (maxL := 3) (ret := (some Jvm.ClassFile.FieldType.int)) (by decide) rfl ?_
  intro p e s m args below meth c s₁ B hml hv
  obtain ⟨rfl, hP, hW⟩ := hv
  have hts := atoms_spec (ws := ws_ yX9_frontOf cX9_frontOf 3 (some Jvm.ClassFile.FieldType.int)) B.pre
  have hts : ∀ w ∈ lw_all, w.before _ s = true := fun w h => hts w (List.mem_cons_of_mem _ h)
  rw [lg_entry_eq]
  have hl := en_entry [rv_ x0, .int x1] [1, 1] (n := 3) (ca_r (ca_i ca_n)) (by decide)
  exact sX9_frontOf ⟨⟨⟨B.exec, B.bytes, hml, findClass_of_methodNamed B.named, hts⟩, hW, hG⟩, B.notSynchronized, B.returns, Nat.le_refl _, Nat.le_refl _, ⟨rfl, rfl⟩, (name_of_methodNamed B.named B.method).1⟩ hf _ _ _ _ _ hP (LO_nil G) ⟨rfl, rfl⟩ hl
