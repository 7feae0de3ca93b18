set_option maxRecDepth 100000
abbrev cX3_burns : ByteArray := prog_2_method_17_code
def yX3_burns : MethodName := ⟨RX3, "burns", "(II)Z"⟩
theorem dX3_burns_0 : decode cX3_burns 0 = .ok (.aload_n 0, 1) := by decide +kernel
theorem dX3_burns_1 : decode cX3_burns 1 = .ok (.iload_n 1, 1) := by decide +kernel
theorem dX3_burns_2 : decode cX3_burns 2 = .ok (.bipush 20, 2) := by decide +kernel
theorem dX3_burns_4 : decode cX3_burns 4 = .ok (.iadd, 1) := by decide +kernel
theorem dX3_burns_5 : decode cX3_burns 5 = .ok (.invokevirtual 213, 3) := by decide +kernel
theorem dX3_burns_8 : decode cX3_burns 8 = .ok (.istore_n 3, 1) := by decide +kernel
theorem dX3_burns_9 : decode cX3_burns 9 = .ok (.aload_n 0, 1) := by decide +kernel
theorem dX3_burns_10 : decode cX3_burns 10 = .ok (.iload_n 1, 1) := by decide +kernel
theorem dX3_burns_11 : decode cX3_burns 11 = .ok (.bipush 16, 2) := by decide +kernel
theorem dX3_burns_13 : decode cX3_burns 13 = .ok (.iadd, 1) := by decide +kernel
theorem dX3_burns_14 : decode cX3_burns 14 = .ok (.aload_n 0, 1) := by decide +kernel
theorem dX3_burns_15 : decode cX3_burns 15 = .ok (.iload_n 1, 1) := by decide +kernel
theorem dX3_burns_16 : decode cX3_burns 16 = .ok (.invokevirtual 217, 3) := by decide +kernel
theorem dX3_burns_19 : decode cX3_burns 19 = .ok (.getfield 60, 3) := by decide +kernel
theorem dX3_burns_22 : decode cX3_burns 22 = .ok (.iconst 0, 1) := by decide +kernel
theorem dX3_burns_23 : decode cX3_burns 23 = .ok (.invokevirtual 94, 3) := by decide +kernel
theorem dX3_burns_26 : decode cX3_burns 26 = .ok (.ifCond .eq 69, 3) := by decide +kernel
theorem dX3_burns_29 : decode cX3_burns 29 = .ok (.aload_n 0, 1) := by decide +kernel
theorem dX3_burns_30 : decode cX3_burns 30 = .ok (.iload_n 1, 1) := by decide +kernel
theorem dX3_burns_31 : decode cX3_burns 31 = .ok (.bipush 17, 2) := by decide +kernel
theorem dX3_burns_33 : decode cX3_burns 33 = .ok (.iadd, 1) := by decide +kernel
theorem dX3_burns_34 : decode cX3_burns 34 = .ok (.aload_n 0, 1) := by decide +kernel
theorem dX3_burns_35 : decode cX3_burns 35 = .ok (.sipush 255, 3) := by decide +kernel
theorem dX3_burns_38 : decode cX3_burns 38 = .ok (.invokevirtual 204, 3) := by decide +kernel
theorem dX3_burns_41 : decode cX3_burns 41 = .ok (.getfield 60, 3) := by decide +kernel
theorem dX3_burns_44 : decode cX3_burns 44 = .ok (.iconst 0, 1) := by decide +kernel
theorem dX3_burns_45 : decode cX3_burns 45 = .ok (.invokevirtual 94, 3) := by decide +kernel
theorem dX3_burns_48 : decode cX3_burns 48 = .ok (.ifCond .eq 47, 3) := by decide +kernel
theorem dX3_burns_51 : decode cX3_burns 51 = .ok (.aload_n 0, 1) := by decide +kernel
theorem dX3_burns_52 : decode cX3_burns 52 = .ok (.iload_n 1, 1) := by decide +kernel
theorem dX3_burns_53 : decode cX3_burns 53 = .ok (.bipush 18, 2) := by decide +kernel
theorem dX3_burns_55 : decode cX3_burns 55 = .ok (.iadd, 1) := by decide +kernel
theorem dX3_burns_56 : decode cX3_burns 56 = .ok (.aload_n 0, 1) := by decide +kernel
theorem dX3_burns_57 : decode cX3_burns 57 = .ok (.iconst 1, 1) := by decide +kernel
theorem dX3_burns_58 : decode cX3_burns 58 = .ok (.invokevirtual 220, 3) := by decide +kernel
theorem dX3_burns_61 : decode cX3_burns 61 = .ok (.getfield 60, 3) := by decide +kernel
theorem dX3_burns_64 : decode cX3_burns 64 = .ok (.iconst 0, 1) := by decide +kernel
theorem dX3_burns_65 : decode cX3_burns 65 = .ok (.invokevirtual 94, 3) := by decide +kernel
theorem dX3_burns_68 : decode cX3_burns 68 = .ok (.ifCond .eq 27, 3) := by decide +kernel
theorem dX3_burns_71 : decode cX3_burns 71 = .ok (.aload_n 0, 1) := by decide +kernel
theorem dX3_burns_72 : decode cX3_burns 72 = .ok (.iload_n 1, 1) := by decide +kernel
theorem dX3_burns_73 : decode cX3_burns 73 = .ok (.bipush 19, 2) := by decide +kernel
theorem dX3_burns_75 : decode cX3_burns 75 = .ok (.iadd, 1) := by decide +kernel
theorem dX3_burns_76 : decode cX3_burns 76 = .ok (.aload_n 0, 1) := by decide +kernel
theorem dX3_burns_77 : decode cX3_burns 77 = .ok (.iconst 0, 1) := by decide +kernel
theorem dX3_burns_78 : decode cX3_burns 78 = .ok (.invokevirtual 220, 3) := by decide +kernel
theorem dX3_burns_81 : decode cX3_burns 81 = .ok (.getfield 60, 3) := by decide +kernel
theorem dX3_burns_84 : decode cX3_burns 84 = .ok (.iconst 0, 1) := by decide +kernel
theorem dX3_burns_85 : decode cX3_burns 85 = .ok (.invokevirtual 94, 3) := by decide +kernel
theorem dX3_burns_88 : decode cX3_burns 88 = .ok (.ifCond .eq 7, 3) := by decide +kernel
theorem dX3_burns_91 : decode cX3_burns 91 = .ok (.iconst 1, 1) := by decide +kernel
theorem dX3_burns_92 : decode cX3_burns 92 = .ok (.goto 4, 3) := by decide +kernel
theorem dX3_burns_95 : decode cX3_burns 95 = .ok (.iconst 0, 1) := by decide +kernel
theorem dX3_burns_96 : decode cX3_burns 96 = .ok (.istore 4, 2) := by decide +kernel
theorem dX3_burns_98 : decode cX3_burns 98 = .ok (.iconst 0, 1) := by decide +kernel
theorem dX3_burns_99 : decode cX3_burns 99 = .ok (.istore 5, 2) := by decide +kernel
theorem dX3_burns_101 : decode cX3_burns 101 = .ok (.iload 5, 2) := by decide +kernel
theorem dX3_burns_103 : decode cX3_burns 103 = .ok (.aload_n 0, 1) := by decide +kernel
theorem dX3_burns_104 : decode cX3_burns 104 = .ok (.getfield 12, 3) := by decide +kernel
theorem dX3_burns_107 : decode cX3_burns 107 = .ok (.invokevirtual 137, 3) := by decide +kernel
theorem dX3_burns_110 : decode cX3_burns 110 = .ok (.if_icmp .ge 85, 3) := by decide +kernel
theorem dX3_burns_113 : decode cX3_burns 113 = .ok (.iload 4, 2) := by decide +kernel
theorem dX3_burns_115 : decode cX3_burns 115 = .ok (.ifCond .eq 80, 3) := by decide +kernel
theorem dX3_burns_118 : decode cX3_burns 118 = .ok (.aload_n 0, 1) := by decide +kernel
theorem dX3_burns_119 : decode cX3_burns 119 = .ok (.getfield 12, 3) := by decide +kernel
theorem dX3_burns_122 : decode cX3_burns 122 = .ok (.iload 5, 2) := by decide +kernel
theorem dX3_burns_124 : decode cX3_burns 124 = .ok (.invokevirtual 139, 3) := by decide +kernel
theorem dX3_burns_127 : decode cX3_burns 127 = .ok (.checkcast 62, 3) := by decide +kernel
theorem dX3_burns_130 : decode cX3_burns 130 = .ok (.astore 6, 2) := by decide +kernel
theorem dX3_burns_132 : decode cX3_burns 132 = .ok (.aload_n 0, 1) := by decide +kernel
theorem dX3_burns_133 : decode cX3_burns 133 = .ok (.aload 6, 2) := by decide +kernel
theorem dX3_burns_135 : decode cX3_burns 135 = .ok (.invokevirtual 224, 3) := by decide +kernel
theorem dX3_burns_138 : decode cX3_burns 138 = .ok (.getfield 60, 3) := by decide +kernel
theorem dX3_burns_141 : decode cX3_burns 141 = .ok (.astore 7, 2) := by decide +kernel
theorem dX3_burns_143 : decode cX3_burns 143 = .ok (.iconst 0, 1) := by decide +kernel
theorem dX3_burns_144 : decode cX3_burns 144 = .ok (.istore 8, 2) := by decide +kernel
theorem dX3_burns_146 : decode cX3_burns 146 = .ok (.iload 8, 2) := by decide +kernel
theorem dX3_burns_148 : decode cX3_burns 148 = .ok (.aload 6, 2) := by decide +kernel
theorem dX3_burns_150 : decode cX3_burns 150 = .ok (.getfield 171, 3) := by decide +kernel
theorem dX3_burns_153 : decode cX3_burns 153 = .ok (.if_icmp .ge 36, 3) := by decide +kernel
theorem dX3_burns_156 : decode cX3_burns 156 = .ok (.iload 4, 2) := by decide +kernel
theorem dX3_burns_158 : decode cX3_burns 158 = .ok (.ifCond .eq 31, 3) := by decide +kernel
theorem dX3_burns_161 : decode cX3_burns 161 = .ok (.aload_n 0, 1) := by decide +kernel
theorem dX3_burns_162 : decode cX3_burns 162 = .ok (.aload 6, 2) := by decide +kernel
theorem dX3_burns_164 : decode cX3_burns 164 = .ok (.getfield 168, 3) := by decide +kernel
theorem dX3_burns_167 : decode cX3_burns 167 = .ok (.iload 8, 2) := by decide +kernel
theorem dX3_burns_169 : decode cX3_burns 169 = .ok (.iadd, 1) := by decide +kernel
theorem dX3_burns_170 : decode cX3_burns 170 = .ok (.aload 7, 2) := by decide +kernel
theorem dX3_burns_172 : decode cX3_burns 172 = .ok (.iload 8, 2) := by decide +kernel
theorem dX3_burns_174 : decode cX3_burns 174 = .ok (.sipush 2048, 3) := by decide +kernel
theorem dX3_burns_177 : decode cX3_burns 177 = .ok (.imul, 1) := by decide +kernel
theorem dX3_burns_178 : decode cX3_burns 178 = .ok (.invokevirtual 94, 3) := by decide +kernel
theorem dX3_burns_181 : decode cX3_burns 181 = .ok (.istore 4, 2) := by decide +kernel
theorem dX3_burns_183 : decode cX3_burns 183 = .ok (.iinc 8 1, 3) := by decide +kernel
theorem dX3_burns_186 : decode cX3_burns 186 = .ok (.goto (-40), 3) := by decide +kernel
theorem dX3_burns_189 : decode cX3_burns 189 = .ok (.iinc 5 1, 3) := by decide +kernel
theorem dX3_burns_192 : decode cX3_burns 192 = .ok (.goto (-91), 3) := by decide +kernel
theorem dX3_burns_195 : decode cX3_burns 195 = .ok (.iload 4, 2) := by decide +kernel
theorem dX3_burns_197 : decode cX3_burns 197 = .ok (.ifCond .eq 25, 3) := by decide +kernel
theorem dX3_burns_200 : decode cX3_burns 200 = .ok (.aload_n 0, 1) := by decide +kernel
theorem dX3_burns_201 : decode cX3_burns 201 = .ok (.iload_n 3, 1) := by decide +kernel
theorem dX3_burns_202 : decode cX3_burns 202 = .ok (.aload_n 0, 1) := by decide +kernel
theorem dX3_burns_203 : decode cX3_burns 203 = .ok (.iload_n 1, 1) := by decide +kernel
theorem dX3_burns_204 : decode cX3_burns 204 = .ok (.iload_n 2, 1) := by decide +kernel
theorem dX3_burns_205 : decode cX3_burns 205 = .ok (.invokevirtual 227, 3) := by decide +kernel
theorem dX3_burns_208 : decode cX3_burns 208 = .ok (.getfield 60, 3) := by decide +kernel
theorem dX3_burns_211 : decode cX3_burns 211 = .ok (.iconst 0, 1) := by decide +kernel
theorem dX3_burns_212 : decode cX3_burns 212 = .ok (.invokevirtual 94, 3) := by decide +kernel
theorem dX3_burns_215 : decode cX3_burns 215 = .ok (.ifCond .eq 7, 3) := by decide +kernel
theorem dX3_burns_218 : decode cX3_burns 218 = .ok (.iconst 1, 1) := by decide +kernel
theorem dX3_burns_219 : decode cX3_burns 219 = .ok (.goto 4, 3) := by decide +kernel
theorem dX3_burns_222 : decode cX3_burns 222 = .ok (.iconst 0, 1) := by decide +kernel
theorem dX3_burns_223 : decode cX3_burns 223 = .ok (.ireturn, 1) := by decide +kernel
/-- WriteOnceDisc$Burner.burns(II)Z -/
def wX3_burns_L195 (post : Int32 → Hp → Prop) (x0 : Nat) (x1 : Int32) (x2 : Int32) (x3 : Int32) (x4 : Int32) (σ : Hp) : Prop :=
((x4 = 0 →
  post (0 : Int32) σ) ∧
 (¬ x4 = 0 →
  (tg_ σ x0 = 3 ∧ (wX3_mark x0 x1 x2 σ (fun r3 σ4 => (∀ σ5, σ5 = bu_ σ4 (bc_ σ) (bs_ σ) → (tg_ σ5 r3 = 4 ∧ (tg_ σ5 x0 = 3 ∧ (wX3_writes x0 x3 (fR_ σ5 3 0 r3) (0 : Int32) σ5 (fun r8 σ9 => (∀ σ10, σ10 = bu_ σ9 (bc_ σ5) (bs_ σ5) → ((r8 = 0 →
   post (0 : Int32) σ10) ∧
  (¬ r8 = 0 →
   post (1 : Int32) σ10)))))))))))))
def wX3_burns_L189 (post : Int32 → Hp → Prop) (rc101 : Int32 → Int32 → Hp → Prop) (x0 : Nat) (x1 : Int32) (x2 : Int32) (x3 : Int32) (x4 : Int32) (x5 : Int32) (σ : Hp) : Prop :=
(∀ y12 : Int32, y12 = x5 + 1 → rc101 x4 y12 σ)
def wX3_burns_B146 (post : Int32 → Hp → Prop) (rc101 : Int32 → Int32 → Hp → Prop) (rc146 : Int32 → Int32 → Hp → Prop) (x0 : Nat) (x1 : Int32) (x2 : Int32) (x3 : Int32) (x4 : Int32) (x5 : Int32) (x6 : Nat) (x7 : Nat) (x8 : Int32) (σ : Hp) : Prop :=
(tg_ σ x6 = 6 ∧ (((fI_ σ 5 10 x6) ≤ x8 →
  wX3_burns_L189 post rc101 x0 x1 x2 x3 x4 x5 σ) ∧
 (¬ (fI_ σ 5 10 x6) ≤ x8 →
  ((x4 = 0 →
   wX3_burns_L189 post rc101 x0 x1 x2 x3 x4 x5 σ) ∧
  (¬ x4 = 0 →
   (tg_ σ x0 = 3 ∧ (wX3_writes x0 ((fI_ σ 5 9 x6) + x8) x7 (x8 * (2048 : Int32)) σ (fun r17 σ18 => (∀ σ19, σ19 = bu_ σ18 (bc_ σ) (bs_ σ) → (∀ y20 : Int32, y20 = x8 + 1 → rc146 r17 y20 σ19))))))))))
def wX3_burns_L146 (post : Int32 → Hp → Prop) (rc101 : Int32 → Int32 → Hp → Prop) (x0 : Nat) (x1 : Int32) (x2 : Int32) (x3 : Int32) (x4 : Int32) (x5 : Int32) (x6 : Nat) (x7 : Nat) (x8 : Int32) (σ : Hp) : Prop :=
 ∃ (I : Int32 → Int32 → Hp → Prop) (μ : Int32 → Int32 → Hp → Nat), I x4 x8 σ ∧ ∀ (x4 : Int32) (x8 : Int32) (σ : Hp), I x4 x8 σ → wX3_burns_B146 post rc101 (fun x4' x8' σ' => I x4' x8' σ' ∧ μ x4' x8' σ' < μ x4 x8 σ) x0 x1 x2 x3 x4 x5 x6 x7 x8 σ
def wX3_burns_B101 (post : Int32 → Hp → Prop) (rc101 : Int32 → Int32 → Hp → Prop) (x0 : Nat) (x1 : Int32) (x2 : Int32) (x3 : Int32) (x4 : Int32) (x5 : Int32) (σ : Hp) : Prop :=
(tg_ σ x0 = 3 ∧ (tg_ σ (fR_ σ 2 4 x0) = 11 ∧ (wJ2_size (fR_ σ 2 4 x0)  σ (fun r23 => ((r23 ≤ x5 →
  wX3_burns_L195 post x0 x1 x2 x3 x4 σ) ∧
 (¬ r23 ≤ x5 →
  ((x4 = 0 →
   wX3_burns_L195 post x0 x1 x2 x3 x4 σ) ∧
  (¬ x4 = 0 →
   (wJ2_get (fR_ σ 2 4 x0) x5 σ (fun r26 => ((r26 = 0 ∨ tg_ σ r26 = 6) ∧ (∃ mc28 ms29 : Nat, (mc28 ≤ bc_ σ ∧ (ms29 ≤ bs_ σ ∧ (wX3_directory x0 r26 (bu_ σ mc28 ms29) (fun r32 σ33 => (∀ σ34, σ34 = bu_ σ33 (bc_ σ - mc28) (bs_ σ - ms29) → (tg_ σ34 r32 = 4 ∧ (∀ y36 : Nat, y36 = (fR_ σ34 3 0 r32) → wX3_burns_L146 post rc101 x0 x1 x2 x3 x4 x5 r26 y36 (0 : Int32) σ34)))))))))))))))))))
def wX3_burns_L101 (post : Int32 → Hp → Prop) (x0 : Nat) (x1 : Int32) (x2 : Int32) (x3 : Int32) (x4 : Int32) (x5 : Int32) (σ : Hp) : Prop :=
 ∃ (I : Int32 → Int32 → Hp → Prop) (μ : Int32 → Int32 → Hp → Nat), I x4 x5 σ ∧ ∀ (x4 : Int32) (x5 : Int32) (σ : Hp), I x4 x5 σ → wX3_burns_B101 post (fun x4' x5' σ' => I x4' x5' σ' ∧ μ x4' x5' σ' < μ x4 x5 σ) x0 x1 x2 x3 x4 x5 σ
def wX3_burns_L96 (post : Int32 → Hp → Prop) (x0 : Nat) (x1 : Int32) (x2 : Int32) (x3 : Int32) (s0 : Int32) (σ : Hp) : Prop :=
wX3_burns_L101 post x0 x1 x2 x3 s0 (0 : Int32) σ
def wX3_burns_L95 (post : Int32 → Hp → Prop) (x0 : Nat) (x1 : Int32) (x2 : Int32) (x3 : Int32) (σ : Hp) : Prop :=
wX3_burns_L96 post x0 x1 x2 x3 (0 : Int32) σ
def wX3_burns (x0 : Nat) (x1 : Int32) (x2 : Int32) (σ : Hp) (post : Int32 → Hp → Prop) : Prop :=
(tg_ σ x0 = 3 ∧ (∃ mc38 ms39 : Nat, (mc38 ≤ bc_ σ ∧ (ms39 ≤ bs_ σ ∧ (wX3_layOut x0 (x1 + (20 : Int32)) (bu_ σ mc38 ms39) (fun r42 σ43 => (∀ σ44, σ44 = bu_ σ43 (bc_ σ - mc38) (bs_ σ - ms39) → (tg_ σ44 x0 = 3 ∧ (∃ mc46 ms47 : Nat, (mc46 ≤ bc_ σ44 ∧ (ms47 ≤ bs_ σ44 ∧ (wX3_descriptor x0 x1 (bu_ σ44 mc46 ms47) (fun r50 σ51 => (∀ σ52, σ52 = bu_ σ51 (bc_ σ44 - mc46) (bs_ σ44 - ms47) → (tg_ σ52 r50 = 4 ∧ (tg_ σ52 x0 = 3 ∧ (wX3_writes x0 (x1 + (16 : Int32)) (fR_ σ52 3 0 r50) (0 : Int32) σ52 (fun r55 σ56 => (∀ σ57, σ57 = bu_ σ56 (bc_ σ52) (bs_ σ52) → ((r55 = 0 →
  wX3_burns_L95 post x0 x1 x2 r42 σ57) ∧
 (¬ r55 = 0 →
  (tg_ σ57 x0 = 3 ∧ (wX3_head x0 (255 : Int32) σ57 (fun r60 σ61 => (∀ σ62, σ62 = bu_ σ61 (bc_ σ57) (bs_ σ57) → (tg_ σ62 r60 = 4 ∧ (tg_ σ62 x0 = 3 ∧ (wX3_writes x0 (x1 + (17 : Int32)) (fR_ σ62 3 0 r60) (0 : Int32) σ62 (fun r65 σ66 => (∀ σ67, σ67 = bu_ σ66 (bc_ σ62) (bs_ σ62) → ((r65 = 0 →
   wX3_burns_L95 post x0 x1 x2 r42 σ67) ∧
  (¬ r65 = 0 →
   (tg_ σ67 x0 = 3 ∧ (∃ mc70 ms71 : Nat, (mc70 ≤ bc_ σ67 ∧ (ms71 ≤ bs_ σ67 ∧ (wX3_paths x0 (1 : Int32) (bu_ σ67 mc70 ms71) (fun r74 σ75 => (∀ σ76, σ76 = bu_ σ75 (bc_ σ67 - mc70) (bs_ σ67 - ms71) → (tg_ σ76 r74 = 4 ∧ (tg_ σ76 x0 = 3 ∧ (wX3_writes x0 (x1 + (18 : Int32)) (fR_ σ76 3 0 r74) (0 : Int32) σ76 (fun r79 σ80 => (∀ σ81, σ81 = bu_ σ80 (bc_ σ76) (bs_ σ76) → ((r79 = 0 →
    wX3_burns_L95 post x0 x1 x2 r42 σ81) ∧
   (¬ r79 = 0 →
    (tg_ σ81 x0 = 3 ∧ (∃ mc84 ms85 : Nat, (mc84 ≤ bc_ σ81 ∧ (ms85 ≤ bs_ σ81 ∧ (wX3_paths x0 (0 : Int32) (bu_ σ81 mc84 ms85) (fun r88 σ89 => (∀ σ90, σ90 = bu_ σ89 (bc_ σ81 - mc84) (bs_ σ81 - ms85) → (tg_ σ90 r88 = 4 ∧ (tg_ σ90 x0 = 3 ∧ (wX3_writes x0 (x1 + (19 : Int32)) (fR_ σ90 3 0 r88) (0 : Int32) σ90 (fun r93 σ94 => (∀ σ95, σ95 = bu_ σ94 (bc_ σ90) (bs_ σ90) → ((r93 = 0 →
     wX3_burns_L95 post x0 x1 x2 r42 σ95) ∧
    (¬ r93 = 0 →
     wX3_burns_L96 post x0 x1 x2 r42 (1 : Int32) σ95))))))))))))))))))))))))))))))))))))))))))))))))))))))))))))
set_option maxHeartbeats 4000000 in
theorem sX3_burns_L195 {G : GG_} {p : Program} {l : Launch} {e : Env} {R : Room} {s : State} {m : MethodId} {args : Array Value} {below : List Frame} {meth : Method} {c : Code} {mc ms : Nat} (Y : MX_ G p R s m args meth c cX3_burns 9 RX3 (some Jvm.ClassFile.FieldType.boolean) 9 232 mc ms "burns") {post : Int32 → Hp → Prop} {x0 : Nat} {x1 : Int32} {x2 : Int32} {x3 : Int32} {x4 : Int32} {σ : Hp} (hf : wX3_burns_L195 post x0 x1 x2 x3 x4 σ) : WG_ G p l e R s m args below meth c (MQ below (QI_ G post) args s mc ms (FR_ G)) (BU_ R) 9 195 [(0, rv_ x0), (1, .int x1), (2, .int x2), (3, .int x3), (4, .int x4)] [] σ := by
  have ⟨X, hlk, hr, hRf, hRl, hRc, hnm⟩ := Y
  have ⟨⟨hx, hb, _, hown, hts⟩, _, _⟩ := X
  intro H locs cells slots ls hP hL hB hl
  unfold wX3_burns_L195 at hf
  refine lv_iload hx hb dX3_burns_195 (lv_at hl 4 rfl) ?_
  refine lv_if_eq (tgt := 222) hx hb dX3_burns_197 (by decide) (fun c1 => ?_) (fun c1 => ?_)
  · have hf := hf.1 c1
    refine lv_iconst (v := 0) hx hb dX3_burns_222 (by decide) ?_
    exact p_zret X hlk hP hL (BU_le hB hRc).1 (BU_le hB hRc).2 hr nr_0 dX3_burns_223 hf
  · have hf := hf.2 c1
    refine p_aload_n hx hb dX3_burns_200 rfl (lv_at hl 0 rfl) ?_
    refine lv_iload_n hx hb dX3_burns_201 rfl (lv_at hl 3 rfl) ?_
    refine p_aload_n hx hb dX3_burns_202 rfl (lv_at hl 0 rfl) ?_
    refine lv_iload_n hx hb dX3_burns_203 rfl (lv_at hl 1 rfl) ?_
    refine lv_iload_n hx hb dX3_burns_204 rfl (lv_at hl 2 rfl) ?_
    obtain ⟨ht2, hf⟩ := hf
    refine p_callr hL (p_runV X cf2_ hP ht2 (metX3_mark l G _ _ _ _ _ X.2.2 hf) (cwV 2 hts (lw_V q946 q948 qs18 q87 q949) rfl rfl rfl (by decide +kernel) ⟨Nat.le_trans (Nat.le_of_ble_eq_true rfl) hRf, Nat.le_trans (Nat.le_of_ble_eq_true rfl) hRl⟩) rfl hl.1 rfl (by rw [(ca_i (ca_r ca_n))]; decide) dX3_burns_205 (BU_call hB (Nat.zero_le _) (Nat.zero_le _))) (fun r3 σ4 H locs hf hP hL => ?_)
    have hB := BU_keep (τ := σ4) hB
    have hP := Pic_bu hP (bc_ σ) (bs_ σ)
    refine p_nmPB hP hB (fun σ5 hσ5 hP hB => ?_)
    have hf := hf σ5 hσ5
    obtain ⟨ht6, hf⟩ := hf
    refine p_gR X cf3_ (k := 0) (by decide) rfl hP ht6 q180 (fun _ h => h) dX3_burns_208 ?_
    refine lv_iconst (v := 0) hx hb dX3_burns_211 (by decide) ?_
    obtain ⟨ht7, hf⟩ := hf
    refine p_calli hL (p_runV X cf2_ hP ht7 (metX3_writes l G _ _ _ _ _ _ X.2.2 hf) (cwV 3 hts (lw_V q837 q839 qs9 q87 q840) rfl rfl rfl (by decide +kernel) ⟨Nat.le_trans (Nat.le_of_ble_eq_true rfl) hRf, Nat.le_trans (Nat.le_of_ble_eq_true rfl) hRl⟩) rfl hl.1 rfl (by decide) dX3_burns_212 (BU_call hB (Nat.zero_le _) (Nat.zero_le _))) (fun r8 σ9 H locs hf hP hL => ?_)
    have hB := BU_keep (τ := σ9) hB
    have hP := Pic_bu hP (bc_ σ5) (bs_ σ5)
    refine p_nmPB hP hB (fun σ10 hσ10 hP hB => ?_)
    have hf := hf σ10 hσ10
    refine lv_if_eq (tgt := 222) hx hb dX3_burns_215 (by decide) (fun c11 => ?_) (fun c11 => ?_)
    · have hf := hf.1 c11
      refine lv_iconst (v := 0) hx hb dX3_burns_222 (by decide) ?_
      exact p_zret X hlk hP hL (BU_le hB hRc).1 (BU_le hB hRc).2 hr nr_0 dX3_burns_223 hf
    · have hf := hf.2 c11
      refine lv_iconst (v := 1) hx hb dX3_burns_218 (by decide) ?_
      refine lv_goto (tgt := 223) hx hb dX3_burns_219 (by decide) ?_
      exact p_zret X hlk hP hL (BU_le hB hRc).1 (BU_le hB hRc).2 hr nr_1 dX3_burns_223 hf
set_option maxHeartbeats 4000000 in
theorem sX3_burns_L189 {G : GG_} {p : Program} {l : Launch} {e : Env} {R : Room} {s : State} {m : MethodId} {args : Array Value} {below : List Frame} {meth : Method} {c : Code} {mc ms : Nat} (Y : MX_ G p R s m args meth c cX3_burns 9 RX3 (some Jvm.ClassFile.FieldType.boolean) 9 232 mc ms "burns") {post : Int32 → Hp → Prop} {rc101 : Int32 → Int32 → Hp → Prop} {x0 : Nat} {x1 : Int32} {x2 : Int32} {x3 : Int32} {x4 : Int32} {x5 : Int32} {σ : Hp} (hrc101 : ∀ (x4 : Int32) (x5 : Int32) (σ : Hp), rc101 x4 x5 σ → WG_ G p l e R s m args below meth c (MQ below (QI_ G post) args s mc ms (FR_ G)) (BU_ R) 9 101 [(0, rv_ x0), (1, .int x1), (2, .int x2), (3, .int x3), (4, .int x4), (5, .int x5)] [] σ) (hf : wX3_burns_L189 post rc101 x0 x1 x2 x3 x4 x5 σ) : WG_ G p l e R s m args below meth c (MQ below (QI_ G post) args s mc ms (FR_ G)) (BU_ R) 9 189 [(0, rv_ x0), (1, .int x1), (2, .int x2), (3, .int x3), (4, .int x4), (5, .int x5)] [] σ := by
  have ⟨X, hlk, hr, hRf, hRl, hRc, hnm⟩ := Y
  have ⟨⟨hx, hb, _, hown, hts⟩, _, _⟩ := X
  intro H locs cells slots ls hP hL hB hl
  unfold wX3_burns_L189 at hf
  have hl := lv_sub hl [5, 0, 1, 2, 3, 4] rfl
  refine p_iincc (i := 5) (k := 1) hx hb (by decide) dX3_burns_189 hl (by decide) ⟨⟨ne_ rfl, Or.inl (ne_ rfl)⟩, ⟨⟨ne_ rfl, Or.inl (ne_ rfl)⟩, ⟨⟨ne_ rfl, Or.inl (ne_ rfl)⟩, ⟨⟨ne_ rfl, Or.inl (ne_ rfl)⟩, ⟨⟨ne_ rfl, Or.inr rfl⟩, trivial⟩⟩⟩⟩⟩ (fun y12 hy12 ls hl => ?_)
  have hf := hf y12 hy12
  refine lv_goto (tgt := 101) hx hb dX3_burns_192 (by decide) ?_
  exact hrc101 _ _ _ hf _ _ _ _ _ hP hL hB (lv_sub hl [1, 2, 3, 4, 5, 0] rfl)
set_option maxHeartbeats 4000000 in
theorem sX3_burns_B146 {G : GG_} {p : Program} {l : Launch} {e : Env} {R : Room} {s : State} {m : MethodId} {args : Array Value} {below : List Frame} {meth : Method} {c : Code} {mc ms : Nat} (Y : MX_ G p R s m args meth c cX3_burns 9 RX3 (some Jvm.ClassFile.FieldType.boolean) 9 232 mc ms "burns") {post : Int32 → Hp → Prop} {rc101 : Int32 → Int32 → Hp → Prop} {rc146 : Int32 → Int32 → Hp → Prop} {x0 : Nat} {x1 : Int32} {x2 : Int32} {x3 : Int32} {x4 : Int32} {x5 : Int32} {x6 : Nat} {x7 : Nat} {x8 : Int32} {σ : Hp} (hrc101 : ∀ (x4 : Int32) (x5 : Int32) (σ : Hp), rc101 x4 x5 σ → WG_ G p l e R s m args below meth c (MQ below (QI_ G post) args s mc ms (FR_ G)) (BU_ R) 9 101 [(0, rv_ x0), (1, .int x1), (2, .int x2), (3, .int x3), (4, .int x4), (5, .int x5)] [] σ) (hrc146 : ∀ (x4 : Int32) (x8 : Int32) (σ : Hp), rc146 x4 x8 σ → WG_ G p l e R s m args below meth c (MQ below (QI_ G post) args s mc ms (FR_ G)) (BU_ R) 9 146 [(0, rv_ x0), (1, .int x1), (2, .int x2), (3, .int x3), (4, .int x4), (5, .int x5), (6, rv_ x6), (7, rv_ x7), (8, .int x8)] [] σ) (hf : wX3_burns_B146 post rc101 rc146 x0 x1 x2 x3 x4 x5 x6 x7 x8 σ) : WG_ G p l e R s m args below meth c (MQ below (QI_ G post) args s mc ms (FR_ G)) (BU_ R) 9 146 [(0, rv_ x0), (1, .int x1), (2, .int x2), (3, .int x3), (4, .int x4), (5, .int x5), (6, rv_ x6), (7, rv_ x7), (8, .int x8)] [] σ := by
  have ⟨X, hlk, hr, hRf, hRl, hRc, hnm⟩ := Y
  have ⟨⟨hx, hb, _, hown, hts⟩, _, _⟩ := X
  intro H locs cells slots ls hP hL hB hl
  unfold wX3_burns_B146 at hf
  refine lv_iload hx hb dX3_burns_146 (lv_at hl 8 rfl) ?_
  refine p_aload hx hb dX3_burns_148 (lv_at hl 6 rfl) ?_
  obtain ⟨ht13, hf⟩ := hf
  refine p_gI X cf5_ (k := 10) (by decide) rfl hP ht13 q464 (fun _ h => h) dX3_burns_150 ?_
  refine lv_icmp_ge (tgt := 189) hx hb dX3_burns_153 (by decide) (fun c14 => ?_) (fun c14 => ?_)
  · have hf := hf.1 c14
    exact sX3_burns_L189 Y hrc101 hf _ _ _ _ _ hP hL hB (lv_sub hl [0, 1, 2, 3, 4, 5] rfl)
  · have hf := hf.2 c14
    refine lv_iload hx hb dX3_burns_156 (lv_at hl 4 rfl) ?_
    refine lv_if_eq (tgt := 189) hx hb dX3_burns_158 (by decide) (fun c15 => ?_) (fun c15 => ?_)
    · have hf := hf.1 c15
      exact sX3_burns_L189 Y hrc101 hf _ _ _ _ _ hP hL hB (lv_sub hl [0, 1, 2, 3, 4, 5] rfl)
    · have hf := hf.2 c15
      refine p_aload_n hx hb dX3_burns_161 rfl (lv_at hl 0 rfl) ?_
      refine p_aload hx hb dX3_burns_162 (lv_at hl 6 rfl) ?_
      refine p_gI X cf5_ (k := 9) (by decide) rfl hP ht13 q463 (fun _ h => h) dX3_burns_164 ?_
      refine lv_iload hx hb dX3_burns_167 (lv_at hl 8 rfl) ?_
      refine lv_iadd hx hb dX3_burns_169 ?_
      refine p_aload hx hb dX3_burns_170 (lv_at hl 7 rfl) ?_
      refine lv_iload hx hb dX3_burns_172 (lv_at hl 8 rfl) ?_
      refine lv_sipush (v := 2048) hx hb dX3_burns_174 (by decide) ?_
      refine lv_imul hx hb dX3_burns_177 ?_
      obtain ⟨ht16, hf⟩ := hf
      refine p_calli hL (p_runV X cf2_ hP ht16 (metX3_writes l G _ _ _ _ _ _ X.2.2 hf) (cwV 3 hts (lw_V q837 q839 qs9 q87 q840) rfl rfl rfl (by decide +kernel) ⟨Nat.le_trans (Nat.le_of_ble_eq_true rfl) hRf, Nat.le_trans (Nat.le_of_ble_eq_true rfl) hRl⟩) rfl hl.1 rfl (by decide) dX3_burns_178 (BU_call hB (Nat.zero_le _) (Nat.zero_le _))) (fun r17 σ18 H locs hf hP hL => ?_)
      have hB := BU_keep (τ := σ18) hB
      have hP := Pic_bu hP (bc_ σ) (bs_ σ)
      refine p_nmPB hP hB (fun σ19 hσ19 hP hB => ?_)
      have hf := hf σ19 hσ19
      have hl := lv_sub hl [0, 1, 2, 3, 5, 6, 7, 8] rfl
      refine p_istore (i := 4) hx hb dX3_burns_181 hl (by decide) ⟨⟨ne_ rfl, Or.inl (ne_ rfl)⟩, ⟨⟨ne_ rfl, Or.inl (ne_ rfl)⟩, ⟨⟨ne_ rfl, Or.inl (ne_ rfl)⟩, ⟨⟨ne_ rfl, Or.inr rfl⟩, ⟨⟨ne_ rfl, Or.inl (ne_ rfl)⟩, ⟨⟨ne_ rfl, Or.inl (ne_ rfl)⟩, ⟨⟨ne_ rfl, Or.inl (ne_ rfl)⟩, ⟨⟨ne_ rfl, Or.inl (ne_ rfl)⟩, trivial⟩⟩⟩⟩⟩⟩⟩⟩ (fun ls hl => ?_)
      have hl := lv_sub hl [8, 0, 1, 2, 3, 4, 5, 6, 7] rfl
      refine p_iincc (i := 8) (k := 1) hx hb (by decide) dX3_burns_183 hl (by decide) ⟨⟨ne_ rfl, Or.inl (ne_ rfl)⟩, ⟨⟨ne_ rfl, Or.inl (ne_ rfl)⟩, ⟨⟨ne_ rfl, Or.inl (ne_ rfl)⟩, ⟨⟨ne_ rfl, Or.inl (ne_ rfl)⟩, ⟨⟨ne_ rfl, Or.inl (ne_ rfl)⟩, ⟨⟨ne_ rfl, Or.inl (ne_ rfl)⟩, ⟨⟨ne_ rfl, Or.inl (ne_ rfl)⟩, ⟨⟨ne_ rfl, Or.inr (rv_cat _)⟩, trivial⟩⟩⟩⟩⟩⟩⟩⟩ (fun y20 hy20 ls hl => ?_)
      have hf := hf y20 hy20
      refine lv_goto (tgt := 146) hx hb dX3_burns_186 (by decide) ?_
      exact hrc146 _ _ _ hf _ _ _ _ _ hP hL hB (lv_sub hl [2, 3, 4, 5, 1, 6, 7, 8, 0] rfl)
set_option maxHeartbeats 4000000 in
theorem sX3_burns_L146 {G : GG_} {p : Program} {l : Launch} {e : Env} {R : Room} {s : State} {m : MethodId} {args : Array Value} {below : List Frame} {meth : Method} {c : Code} {mc ms : Nat} (Y : MX_ G p R s m args meth c cX3_burns 9 RX3 (some Jvm.ClassFile.FieldType.boolean) 9 232 mc ms "burns") {post : Int32 → Hp → Prop} {rc101 : Int32 → Int32 → Hp → Prop} {x0 : Nat} {x1 : Int32} {x2 : Int32} {x3 : Int32} {x4 : Int32} {x5 : Int32} {x6 : Nat} {x7 : Nat} {x8 : Int32} {σ : Hp} (hrc101 : ∀ (x4 : Int32) (x5 : Int32) (σ : Hp), rc101 x4 x5 σ → WG_ G p l e R s m args below meth c (MQ below (QI_ G post) args s mc ms (FR_ G)) (BU_ R) 9 101 [(0, rv_ x0), (1, .int x1), (2, .int x2), (3, .int x3), (4, .int x4), (5, .int x5)] [] σ) (hf : wX3_burns_L146 post rc101 x0 x1 x2 x3 x4 x5 x6 x7 x8 σ) : WG_ G p l e R s m args below meth c (MQ below (QI_ G post) args s mc ms (FR_ G)) (BU_ R) 9 146 [(0, rv_ x0), (1, .int x1), (2, .int x2), (3, .int x3), (4, .int x4), (5, .int x5), (6, rv_ x6), (7, rv_ x7), (8, .int x8)] [] σ := by
  unfold wX3_burns_L146 at hf
  obtain ⟨I, μ, h0, hI⟩ := hf
  have key : ∀ (n : Nat) (x4 : Int32) (x8 : Int32) (σ : Hp), I x4 x8 σ → μ x4 x8 σ < n → WG_ G p l e R s m args below meth c (MQ below (QI_ G post) args s mc ms (FR_ G)) (BU_ R) 9 146 [(0, rv_ x0), (1, .int x1), (2, .int x2), (3, .int x3), (4, .int x4), (5, .int x5), (6, rv_ x6), (7, rv_ x7), (8, .int x8)] [] σ := by
    intro n
    induction n with
    | zero => intro x4 x8 σ _ h; exact absurd h (Nat.not_lt_zero _)
    | succ n ih => intro x4 x8 σ hi hn; exact sX3_burns_B146 Y hrc101 (fun x4' x8' σ' h => ih x4' x8' σ' h.1 (Nat.lt_of_lt_of_le h.2 (Nat.le_of_lt_succ hn))) (hI x4 x8 σ hi)
  exact key _ _ _ _ h0 (Nat.lt_succ_self _)
set_option maxHeartbeats 4000000 in
theorem sX3_burns_B101 {G : GG_} {p : Program} {l : Launch} {e : Env} {R : Room} {s : State} {m : MethodId} {args : Array Value} {below : List Frame} {meth : Method} {c : Code} {mc ms : Nat} (Y : MX_ G p R s m args meth c cX3_burns 9 RX3 (some Jvm.ClassFile.FieldType.boolean) 9 232 mc ms "burns") {post : Int32 → Hp → Prop} {rc101 : Int32 → Int32 → Hp → Prop} {x0 : Nat} {x1 : Int32} {x2 : Int32} {x3 : Int32} {x4 : Int32} {x5 : Int32} {σ : Hp} (hrc101 : ∀ (x4 : Int32) (x5 : Int32) (σ : Hp), rc101 x4 x5 σ → WG_ G p l e R s m args below meth c (MQ below (QI_ G post) args s mc ms (FR_ G)) (BU_ R) 9 101 [(0, rv_ x0), (1, .int x1), (2, .int x2), (3, .int x3), (4, .int x4), (5, .int x5)] [] σ) (hf : wX3_burns_B101 post rc101 x0 x1 x2 x3 x4 x5 σ) : WG_ G p l e R s m args below meth c (MQ below (QI_ G post) args s mc ms (FR_ G)) (BU_ R) 9 101 [(0, rv_ x0), (1, .int x1), (2, .int x2), (3, .int x3), (4, .int x4), (5, .int x5)] [] σ := by
  have ⟨X, hlk, hr, hRf, hRl, hRc, hnm⟩ := Y
  have ⟨⟨hx, hb, _, hown, hts⟩, _, _⟩ := X
  intro H locs cells slots ls hP hL hB hl
  unfold wX3_burns_B101 at hf
  refine lv_iload hx hb dX3_burns_101 (lv_at hl 5 rfl) ?_
  refine p_aload_n hx hb dX3_burns_103 rfl (lv_at hl 0 rfl) ?_
  obtain ⟨ht21, hf⟩ := hf
  refine p_gR X cf2_ (k := 4) (by decide) rfl hP ht21 q189 (fun _ h => h) dX3_burns_104 ?_
  obtain ⟨ht22, hf⟩ := hf
  refine p_calli hL (p_runV X cf10_ hP ht22 (metJ2_size l G _ _ _ X.2.2 hf) (cwV 0 hts (lw_V q810 q720 q721 q90 q722) rfl rfl rfl (by decide +kernel) ⟨Nat.le_trans (Nat.le_of_ble_eq_true rfl) hRf, Nat.le_trans (Nat.le_of_ble_eq_true rfl) hRl⟩) rfl hl.1 rfl (by rw [(ca_i ca_n)]; decide) dX3_burns_107 (BU_call hB (Nat.zero_le _) (Nat.zero_le _))) (fun r23 σ₁ H locs hf hP hL => ?_)
  obtain ⟨e₁, hf⟩ := hf
  rw [e₁] at hP
  refine lv_icmp_ge (tgt := 195) hx hb dX3_burns_110 (by decide) (fun c24 => ?_) (fun c24 => ?_)
  · have hf := hf.1 c24
    exact sX3_burns_L195 Y hf _ _ _ _ _ hP hL hB (lv_sub hl [0, 1, 2, 3, 4] rfl)
  · have hf := hf.2 c24
    refine lv_iload hx hb dX3_burns_113 (lv_at hl 4 rfl) ?_
    refine lv_if_eq (tgt := 195) hx hb dX3_burns_115 (by decide) (fun c25 => ?_) (fun c25 => ?_)
    · have hf := hf.1 c25
      exact sX3_burns_L195 Y hf _ _ _ _ _ hP hL hB (lv_sub hl [0, 1, 2, 3, 4] rfl)
    · have hf := hf.2 c25
      refine p_aload_n hx hb dX3_burns_118 rfl (lv_at hl 0 rfl) ?_
      refine p_gR X cf2_ (k := 4) (by decide) rfl hP ht21 q189 (fun _ h => h) dX3_burns_119 ?_
      refine lv_iload hx hb dX3_burns_122 (lv_at hl 5 rfl) ?_
      refine p_callr hL (p_runV X cf10_ hP ht22 (metJ2_get l G _ _ _ _ X.2.2 hf) (cwV 1 hts (lw_V q811 q724 q725 q90 q726) rfl rfl rfl (by decide +kernel) ⟨Nat.le_trans (Nat.le_of_ble_eq_true rfl) hRf, Nat.le_trans (Nat.le_of_ble_eq_true rfl) hRl⟩) rfl hl.1 rfl (by decide) dX3_burns_124 (BU_call hB (Nat.zero_le _) (Nat.zero_le _))) (fun r26 σ₁ H locs hf hP hL => ?_)
      obtain ⟨e₁, hf⟩ := hf
      rw [e₁] at hP
      obtain ⟨hc27, hf⟩ := hf
      refine p_cast X cf5_ hP hc27 q812 dX3_burns_127 ?_
      refine p_astore (i := 6) hx hb dX3_burns_130 hl (by decide) ⟨⟨ne_ rfl, Or.inl (ne_ rfl)⟩, ⟨⟨ne_ rfl, Or.inl (ne_ rfl)⟩, ⟨⟨ne_ rfl, Or.inl (ne_ rfl)⟩, ⟨⟨ne_ rfl, Or.inl (ne_ rfl)⟩, ⟨⟨ne_ rfl, Or.inl (ne_ rfl)⟩, ⟨⟨ne_ rfl, Or.inr rfl⟩, trivial⟩⟩⟩⟩⟩⟩ (fun ls hl => ?_)
      refine p_aload_n hx hb dX3_burns_132 rfl (lv_at hl 1 rfl) ?_
      refine p_aload hx hb dX3_burns_133 (lv_at hl 0 rfl) ?_
      obtain ⟨mc28, ms29, hf⟩ := hf
      obtain ⟨hb30, hf⟩ := hf
      obtain ⟨hb31, hf⟩ := hf
      refine p_callr hL (p_runV X cf2_ (Pic_bu hP mc28 ms29) ht21 (metX3_directory l G _ _ _ _ _ _ X.2.2 hf) (cwV 1 hts (lw_V q942 q944 qs17 q87 q945) rfl rfl rfl (by decide +kernel) ⟨Nat.le_trans (Nat.le_of_ble_eq_true rfl) hRf, Nat.le_trans (Nat.le_of_ble_eq_true rfl) hRl⟩) rfl hl.1 rfl (by decide) dX3_burns_135 (BU_call hB hb30 hb31)) (fun r32 σ33 H locs hf hP hL => ?_)
      have hB := BU_back (τ := σ33) hB hb30 hb31
      have hP := Pic_bu hP (bc_ σ - mc28) (bs_ σ - ms29)
      refine p_nmPB hP hB (fun σ34 hσ34 hP hB => ?_)
      have hf := hf σ34 hσ34
      obtain ⟨ht35, hf⟩ := hf
      refine p_gR X cf3_ (k := 0) (by decide) rfl hP ht35 q180 (fun _ h => h) dX3_burns_138 ?_
      refine p_topr (fun y36 hy36 => ?_)
      have hf := hf y36 hy36
      refine p_astore (i := 7) hx hb dX3_burns_141 hl (by decide) ⟨⟨ne_ rfl, Or.inr (rv_cat _)⟩, ⟨⟨ne_ rfl, Or.inl (ne_ rfl)⟩, ⟨⟨ne_ rfl, Or.inl (ne_ rfl)⟩, ⟨⟨ne_ rfl, Or.inl (ne_ rfl)⟩, ⟨⟨ne_ rfl, Or.inl (ne_ rfl)⟩, ⟨⟨ne_ rfl, Or.inl (ne_ rfl)⟩, ⟨⟨ne_ rfl, Or.inl (ne_ rfl)⟩, trivial⟩⟩⟩⟩⟩⟩⟩ (fun ls hl => ?_)
      refine lv_iconst (v := 0) hx hb dX3_burns_143 (by decide) ?_
      refine p_istore (i := 8) hx hb dX3_burns_144 hl (by decide) ⟨⟨ne_ rfl, Or.inr (rv_cat _)⟩, ⟨⟨ne_ rfl, Or.inl (ne_ rfl)⟩, ⟨⟨ne_ rfl, Or.inl (ne_ rfl)⟩, ⟨⟨ne_ rfl, Or.inl (ne_ rfl)⟩, ⟨⟨ne_ rfl, Or.inl (ne_ rfl)⟩, ⟨⟨ne_ rfl, Or.inl (ne_ rfl)⟩, ⟨⟨ne_ rfl, Or.inl (ne_ rfl)⟩, ⟨⟨ne_ rfl, Or.inl (ne_ rfl)⟩, trivial⟩⟩⟩⟩⟩⟩⟩⟩ (fun ls hl => ?_)
      exact sX3_burns_L146 Y hrc101 hf _ _ _ _ _ hP hL hB (lv_sub hl [3, 4, 5, 6, 7, 8, 2, 1, 0] rfl)
set_option maxHeartbeats 4000000 in
theorem sX3_burns_L101 {G : GG_} {p : Program} {l : Launch} {e : Env} {R : Room} {s : State} {m : MethodId} {args : Array Value} {below : List Frame} {meth : Method} {c : Code} {mc ms : Nat} (Y : MX_ G p R s m args meth c cX3_burns 9 RX3 (some Jvm.ClassFile.FieldType.boolean) 9 232 mc ms "burns") {post : Int32 → Hp → Prop} {x0 : Nat} {x1 : Int32} {x2 : Int32} {x3 : Int32} {x4 : Int32} {x5 : Int32} {σ : Hp} (hf : wX3_burns_L101 post x0 x1 x2 x3 x4 x5 σ) : WG_ G p l e R s m args below meth c (MQ below (QI_ G post) args s mc ms (FR_ G)) (BU_ R) 9 101 [(0, rv_ x0), (1, .int x1), (2, .int x2), (3, .int x3), (4, .int x4), (5, .int x5)] [] σ := by
  unfold wX3_burns_L101 at hf
  obtain ⟨I, μ, h0, hI⟩ := hf
  have key : ∀ (n : Nat) (x4 : Int32) (x5 : Int32) (σ : Hp), I x4 x5 σ → μ x4 x5 σ < n → WG_ G p l e R s m args below meth c (MQ below (QI_ G post) args s mc ms (FR_ G)) (BU_ R) 9 101 [(0, rv_ x0), (1, .int x1), (2, .int x2), (3, .int x3), (4, .int x4), (5, .int x5)] [] σ := by
    intro n
    induction n with
    | zero => intro x4 x5 σ _ h; exact absurd h (Nat.not_lt_zero _)
    | succ n ih => intro x4 x5 σ hi hn; exact sX3_burns_B101 Y (fun x4' x5' σ' h => ih x4' x5' σ' h.1 (Nat.lt_of_lt_of_le h.2 (Nat.le_of_lt_succ hn))) (hI x4 x5 σ hi)
  exact key _ _ _ _ h0 (Nat.lt_succ_self _)
set_option maxHeartbeats 4000000 in
theorem sX3_burns_L96 {G : GG_} {p : Program} {l : Launch} {e : Env} {R : Room} {s : State} {m : MethodId} {args : Array Value} {below : List Frame} {meth : Method} {c : Code} {mc ms : Nat} (Y : MX_ G p R s m args meth c cX3_burns 9 RX3 (some Jvm.ClassFile.FieldType.boolean) 9 232 mc ms "burns") {post : Int32 → Hp → Prop} {x0 : Nat} {x1 : Int32} {x2 : Int32} {x3 : Int32} {s0 : Int32} {σ : Hp} (hf : wX3_burns_L96 post x0 x1 x2 x3 s0 σ) : WG_ G p l e R s m args below meth c (MQ below (QI_ G post) args s mc ms (FR_ G)) (BU_ R) 9 96 [(0, rv_ x0), (1, .int x1), (2, .int x2), (3, .int x3)] [.int s0] σ := by
  have ⟨X, hlk, hr, hRf, hRl, hRc, hnm⟩ := Y
  have ⟨⟨hx, hb, _, hown, hts⟩, _, _⟩ := X
  intro H locs cells slots ls hP hL hB hl
  unfold wX3_burns_L96 at hf
  refine p_istore (i := 4) hx hb dX3_burns_96 hl (by decide) ⟨⟨ne_ rfl, Or.inl (ne_ rfl)⟩, ⟨⟨ne_ rfl, Or.inl (ne_ rfl)⟩, ⟨⟨ne_ rfl, Or.inl (ne_ rfl)⟩, ⟨⟨ne_ rfl, Or.inr rfl⟩, trivial⟩⟩⟩⟩ (fun ls hl => ?_)
  refine lv_iconst (v := 0) hx hb dX3_burns_98 (by decide) ?_
  refine p_istore (i := 5) hx hb dX3_burns_99 hl (by decide) ⟨⟨ne_ rfl, Or.inr rfl⟩, ⟨⟨ne_ rfl, Or.inl (ne_ rfl)⟩, ⟨⟨ne_ rfl, Or.inl (ne_ rfl)⟩, ⟨⟨ne_ rfl, Or.inl (ne_ rfl)⟩, ⟨⟨ne_ rfl, Or.inl (ne_ rfl)⟩, trivial⟩⟩⟩⟩⟩ (fun ls hl => ?_)
  exact sX3_burns_L101 Y hf _ _ _ _ _ hP hL hB (lv_sub hl [2, 3, 4, 5, 1, 0] rfl)
set_option maxHeartbeats 4000000 in
theorem sX3_burns_L95 {G : GG_} {p : Program} {l : Launch} {e : Env} {R : Room} {s : State} {m : MethodId} {args : Array Value} {below : List Frame} {meth : Method} {c : Code} {mc ms : Nat} (Y : MX_ G p R s m args meth c cX3_burns 9 RX3 (some Jvm.ClassFile.FieldType.boolean) 9 232 mc ms "burns") {post : Int32 → Hp → Prop} {x0 : Nat} {x1 : Int32} {x2 : Int32} {x3 : Int32} {σ : Hp} (hf : wX3_burns_L95 post x0 x1 x2 x3 σ) : WG_ G p l e R s m args below meth c (MQ below (QI_ G post) args s mc ms (FR_ G)) (BU_ R) 9 95 [(0, rv_ x0), (1, .int x1), (2, .int x2), (3, .int x3)] [] σ := by
  have ⟨X, hlk, hr, hRf, hRl, hRc, hnm⟩ := Y
  have ⟨⟨hx, hb, _, hown, hts⟩, _, _⟩ := X
  intro H locs cells slots ls hP hL hB hl
  unfold wX3_burns_L95 at hf
  refine lv_iconst (v := 0) hx hb dX3_burns_95 (by decide) ?_
  exact sX3_burns_L96 Y hf _ _ _ _ _ hP hL hB (lv_sub hl [0, 1, 2, 3] rfl)
set_option maxHeartbeats 4000000 in
theorem sX3_burns {G : GG_} {p : Program} {l : Launch} {e : Env} {R : Room} {s : State} {m : MethodId} {args : Array Value} {below : List Frame} {meth : Method} {c : Code} {mc ms : Nat} (Y : MX_ G p R s m args meth c cX3_burns 9 RX3 (some Jvm.ClassFile.FieldType.boolean) 9 232 mc ms "burns") {post : Int32 → Hp → Prop} {x0 : Nat} {x1 : Int32} {x2 : Int32} {σ : Hp} (hf : wX3_burns x0 x1 x2 σ post) : WG_ G p l e R s m args below meth c (MQ below (QI_ G post) args s mc ms (FR_ G)) (BU_ R) 9 0 [(0, rv_ x0), (1, .int x1), (2, .int x2)] [] σ := by
  have ⟨X, hlk, hr, hRf, hRl, hRc, hnm⟩ := Y
  have ⟨⟨hx, hb, _, hown, hts⟩, _, _⟩ := X
  intro H locs cells slots ls hP hL hB hl
  unfold wX3_burns at hf
  refine p_aload_n hx hb dX3_burns_0 rfl (lv_at hl 0 rfl) ?_
  refine lv_iload_n hx hb dX3_burns_1 rfl (lv_at hl 1 rfl) ?_
  refine lv_bipush (v := 20) hx hb dX3_burns_2 (by decide) ?_
  refine lv_iadd hx hb dX3_burns_4 ?_
  obtain ⟨ht37, hf⟩ := hf
  obtain ⟨mc38, ms39, hf⟩ := hf
  obtain ⟨hb40, hf⟩ := hf
  obtain ⟨hb41, hf⟩ := hf
  refine p_calli hL (p_runV X cf2_ (Pic_bu hP mc38 ms39) ht37 (metX3_layOut l G _ _ _ _ _ _ X.2.2 hf) (cwV 1 hts (lw_V q845 q847 qs10 q87 q848) rfl rfl rfl (by decide +kernel) ⟨Nat.le_trans (Nat.le_of_ble_eq_true rfl) hRf, Nat.le_trans (Nat.le_of_ble_eq_true rfl) hRl⟩) rfl hl.1 rfl (by decide) dX3_burns_5 (BU_call hB hb40 hb41)) (fun r42 σ43 H locs hf hP hL => ?_)
  have hB := BU_back (τ := σ43) hB hb40 hb41
  have hP := Pic_bu hP (bc_ σ - mc38) (bs_ σ - ms39)
  refine p_nmPB hP hB (fun σ44 hσ44 hP hB => ?_)
  have hf := hf σ44 hσ44
  refine p_istore_n (i := 3) hx hb dX3_burns_8 rfl hl (by decide) ⟨⟨ne_ rfl, Or.inl (ne_ rfl)⟩, ⟨⟨ne_ rfl, Or.inl (ne_ rfl)⟩, ⟨⟨ne_ rfl, Or.inr rfl⟩, trivial⟩⟩⟩ (fun ls hl => ?_)
  refine p_aload_n hx hb dX3_burns_9 rfl (lv_at hl 1 rfl) ?_
  refine lv_iload_n hx hb dX3_burns_10 rfl (lv_at hl 2 rfl) ?_
  refine lv_bipush (v := 16) hx hb dX3_burns_11 (by decide) ?_
  refine lv_iadd hx hb dX3_burns_13 ?_
  refine p_aload_n hx hb dX3_burns_14 rfl (lv_at hl 1 rfl) ?_
  refine lv_iload_n hx hb dX3_burns_15 rfl (lv_at hl 2 rfl) ?_
  obtain ⟨ht45, hf⟩ := hf
  obtain ⟨mc46, ms47, hf⟩ := hf
  obtain ⟨hb48, hf⟩ := hf
  obtain ⟨hb49, hf⟩ := hf
  refine p_callr hL (p_runV X cf2_ (Pic_bu hP mc46 ms47) ht45 (metX3_descriptor l G _ _ _ _ _ _ X.2.2 hf) (cwV 1 hts (lw_V q892 q894 qs12 q87 q895) rfl rfl rfl (by decide +kernel) ⟨Nat.le_trans (Nat.le_of_ble_eq_true rfl) hRf, Nat.le_trans (Nat.le_of_ble_eq_true rfl) hRl⟩) rfl hl.1 rfl (by rw [(ca_i (ca_r ca_n))]; decide) dX3_burns_16 (BU_call hB hb48 hb49)) (fun r50 σ51 H locs hf hP hL => ?_)
  have hB := BU_back (τ := σ51) hB hb48 hb49
  have hP := Pic_bu hP (bc_ σ44 - mc46) (bs_ σ44 - ms47)
  refine p_nmPB hP hB (fun σ52 hσ52 hP hB => ?_)
  have hf := hf σ52 hσ52
  obtain ⟨ht53, hf⟩ := hf
  refine p_gR X cf3_ (k := 0) (by decide) rfl hP ht53 q180 (fun _ h => h) dX3_burns_19 ?_
  refine lv_iconst (v := 0) hx hb dX3_burns_22 (by decide) ?_
  obtain ⟨ht54, hf⟩ := hf
  refine p_calli hL (p_runV X cf2_ hP ht54 (metX3_writes l G _ _ _ _ _ _ X.2.2 hf) (cwV 3 hts (lw_V q837 q839 qs9 q87 q840) rfl rfl rfl (by decide +kernel) ⟨Nat.le_trans (Nat.le_of_ble_eq_true rfl) hRf, Nat.le_trans (Nat.le_of_ble_eq_true rfl) hRl⟩) rfl hl.1 rfl (by decide) dX3_burns_23 (BU_call hB (Nat.zero_le _) (Nat.zero_le _))) (fun r55 σ56 H locs hf hP hL => ?_)
  have hB := BU_keep (τ := σ56) hB
  have hP := Pic_bu hP (bc_ σ52) (bs_ σ52)
  refine p_nmPB hP hB (fun σ57 hσ57 hP hB => ?_)
  have hf := hf σ57 hσ57
  refine lv_if_eq (tgt := 95) hx hb dX3_burns_26 (by decide) (fun c58 => ?_) (fun c58 => ?_)
  · have hf := hf.1 c58
    exact sX3_burns_L95 Y hf _ _ _ _ _ hP hL hB (lv_sub hl [1, 2, 3, 0] rfl)
  · have hf := hf.2 c58
    refine p_aload_n hx hb dX3_burns_29 rfl (lv_at hl 1 rfl) ?_
    refine lv_iload_n hx hb dX3_burns_30 rfl (lv_at hl 2 rfl) ?_
    refine lv_bipush (v := 17) hx hb dX3_burns_31 (by decide) ?_
    refine lv_iadd hx hb dX3_burns_33 ?_
    refine p_aload_n hx hb dX3_burns_34 rfl (lv_at hl 1 rfl) ?_
    refine lv_sipush (v := 255) hx hb dX3_burns_35 (by decide) ?_
    obtain ⟨ht59, hf⟩ := hf
    refine p_callr hL (p_runV X cf2_ hP ht59 (metX3_head l G _ _ _ _ X.2.2 hf) (cwV 1 hts (lw_V q896 q898 qs13 q87 q899) rfl rfl rfl (by decide +kernel) ⟨Nat.le_trans (Nat.le_of_ble_eq_true rfl) hRf, Nat.le_trans (Nat.le_of_ble_eq_true rfl) hRl⟩) rfl hl.1 rfl (by rw [(ca_i (ca_r ca_n))]; decide) dX3_burns_38 (BU_call hB (Nat.zero_le _) (Nat.zero_le _))) (fun r60 σ61 H locs hf hP hL => ?_)
    have hB := BU_keep (τ := σ61) hB
    have hP := Pic_bu hP (bc_ σ57) (bs_ σ57)
    refine p_nmPB hP hB (fun σ62 hσ62 hP hB => ?_)
    have hf := hf σ62 hσ62
    obtain ⟨ht63, hf⟩ := hf
    refine p_gR X cf3_ (k := 0) (by decide) rfl hP ht63 q180 (fun _ h => h) dX3_burns_41 ?_
    refine lv_iconst (v := 0) hx hb dX3_burns_44 (by decide) ?_
    obtain ⟨ht64, hf⟩ := hf
    refine p_calli hL (p_runV X cf2_ hP ht64 (metX3_writes l G _ _ _ _ _ _ X.2.2 hf) (cwV 3 hts (lw_V q837 q839 qs9 q87 q840) rfl rfl rfl (by decide +kernel) ⟨Nat.le_trans (Nat.le_of_ble_eq_true rfl) hRf, Nat.le_trans (Nat.le_of_ble_eq_true rfl) hRl⟩) rfl hl.1 rfl (by decide) dX3_burns_45 (BU_call hB (Nat.zero_le _) (Nat.zero_le _))) (fun r65 σ66 H locs hf hP hL => ?_)
    have hB := BU_keep (τ := σ66) hB
    have hP := Pic_bu hP (bc_ σ62) (bs_ σ62)
    refine p_nmPB hP hB (fun σ67 hσ67 hP hB => ?_)
    have hf := hf σ67 hσ67
    refine lv_if_eq (tgt := 95) hx hb dX3_burns_48 (by decide) (fun c68 => ?_) (fun c68 => ?_)
    · have hf := hf.1 c68
      exact sX3_burns_L95 Y hf _ _ _ _ _ hP hL hB (lv_sub hl [1, 2, 3, 0] rfl)
    · have hf := hf.2 c68
      refine p_aload_n hx hb dX3_burns_51 rfl (lv_at hl 1 rfl) ?_
      refine lv_iload_n hx hb dX3_burns_52 rfl (lv_at hl 2 rfl) ?_
      refine lv_bipush (v := 18) hx hb dX3_burns_53 (by decide) ?_
      refine lv_iadd hx hb dX3_burns_55 ?_
      refine p_aload_n hx hb dX3_burns_56 rfl (lv_at hl 1 rfl) ?_
      refine lv_iconst (v := 1) hx hb dX3_burns_57 (by decide) ?_
      obtain ⟨ht69, hf⟩ := hf
      obtain ⟨mc70, ms71, hf⟩ := hf
      obtain ⟨hb72, hf⟩ := hf
      obtain ⟨hb73, hf⟩ := hf
      refine p_callr hL (p_runV X cf2_ (Pic_bu hP mc70 ms71) ht69 (metX3_paths l G _ _ _ _ _ _ X.2.2 hf) (cwV 1 hts (lw_V q938 q940 qs16 q87 q941) rfl rfl rfl (by decide +kernel) ⟨Nat.le_trans (Nat.le_of_ble_eq_true rfl) hRf, Nat.le_trans (Nat.le_of_ble_eq_true rfl) hRl⟩) rfl hl.1 rfl (by rw [(ca_i (ca_r ca_n))]; decide) dX3_burns_58 (BU_call hB hb72 hb73)) (fun r74 σ75 H locs hf hP hL => ?_)
      have hB := BU_back (τ := σ75) hB hb72 hb73
      have hP := Pic_bu hP (bc_ σ67 - mc70) (bs_ σ67 - ms71)
      refine p_nmPB hP hB (fun σ76 hσ76 hP hB => ?_)
      have hf := hf σ76 hσ76
      obtain ⟨ht77, hf⟩ := hf
      refine p_gR X cf3_ (k := 0) (by decide) rfl hP ht77 q180 (fun _ h => h) dX3_burns_61 ?_
      refine lv_iconst (v := 0) hx hb dX3_burns_64 (by decide) ?_
      obtain ⟨ht78, hf⟩ := hf
      refine p_calli hL (p_runV X cf2_ hP ht78 (metX3_writes l G _ _ _ _ _ _ X.2.2 hf) (cwV 3 hts (lw_V q837 q839 qs9 q87 q840) rfl rfl rfl (by decide +kernel) ⟨Nat.le_trans (Nat.le_of_ble_eq_true rfl) hRf, Nat.le_trans (Nat.le_of_ble_eq_true rfl) hRl⟩) rfl hl.1 rfl (by decide) dX3_burns_65 (BU_call hB (Nat.zero_le _) (Nat.zero_le _))) (fun r79 σ80 H locs hf hP hL => ?_)
      have hB := BU_keep (τ := σ80) hB
      have hP := Pic_bu hP (bc_ σ76) (bs_ σ76)
      refine p_nmPB hP hB (fun σ81 hσ81 hP hB => ?_)
      have hf := hf σ81 hσ81
      refine lv_if_eq (tgt := 95) hx hb dX3_burns_68 (by decide) (fun c82 => ?_) (fun c82 => ?_)
      · have hf := hf.1 c82
        exact sX3_burns_L95 Y hf _ _ _ _ _ hP hL hB (lv_sub hl [1, 2, 3, 0] rfl)
      · have hf := hf.2 c82
        refine p_aload_n hx hb dX3_burns_71 rfl (lv_at hl 1 rfl) ?_
        refine lv_iload_n hx hb dX3_burns_72 rfl (lv_at hl 2 rfl) ?_
        refine lv_bipush (v := 19) hx hb dX3_burns_73 (by decide) ?_
        refine lv_iadd hx hb dX3_burns_75 ?_
        refine p_aload_n hx hb dX3_burns_76 rfl (lv_at hl 1 rfl) ?_
        refine lv_iconst (v := 0) hx hb dX3_burns_77 (by decide) ?_
        obtain ⟨ht83, hf⟩ := hf
        obtain ⟨mc84, ms85, hf⟩ := hf
        obtain ⟨hb86, hf⟩ := hf
        obtain ⟨hb87, hf⟩ := hf
        refine p_callr hL (p_runV X cf2_ (Pic_bu hP mc84 ms85) ht83 (metX3_paths l G _ _ _ _ _ _ X.2.2 hf) (cwV 1 hts (lw_V q938 q940 qs16 q87 q941) rfl rfl rfl (by decide +kernel) ⟨Nat.le_trans (Nat.le_of_ble_eq_true rfl) hRf, Nat.le_trans (Nat.le_of_ble_eq_true rfl) hRl⟩) rfl hl.1 rfl (by rw [(ca_i (ca_r ca_n))]; decide) dX3_burns_78 (BU_call hB hb86 hb87)) (fun r88 σ89 H locs hf hP hL => ?_)
        have hB := BU_back (τ := σ89) hB hb86 hb87
        have hP := Pic_bu hP (bc_ σ81 - mc84) (bs_ σ81 - ms85)
        refine p_nmPB hP hB (fun σ90 hσ90 hP hB => ?_)
        have hf := hf σ90 hσ90
        obtain ⟨ht91, hf⟩ := hf
        refine p_gR X cf3_ (k := 0) (by decide) rfl hP ht91 q180 (fun _ h => h) dX3_burns_81 ?_
        refine lv_iconst (v := 0) hx hb dX3_burns_84 (by decide) ?_
        obtain ⟨ht92, hf⟩ := hf
        refine p_calli hL (p_runV X cf2_ hP ht92 (metX3_writes l G _ _ _ _ _ _ X.2.2 hf) (cwV 3 hts (lw_V q837 q839 qs9 q87 q840) rfl rfl rfl (by decide +kernel) ⟨Nat.le_trans (Nat.le_of_ble_eq_true rfl) hRf, Nat.le_trans (Nat.le_of_ble_eq_true rfl) hRl⟩) rfl hl.1 rfl (by decide) dX3_burns_85 (BU_call hB (Nat.zero_le _) (Nat.zero_le _))) (fun r93 σ94 H locs hf hP hL => ?_)
        have hB := BU_keep (τ := σ94) hB
        have hP := Pic_bu hP (bc_ σ90) (bs_ σ90)
        refine p_nmPB hP hB (fun σ95 hσ95 hP hB => ?_)
        have hf := hf σ95 hσ95
        refine lv_if_eq (tgt := 95) hx hb dX3_burns_88 (by decide) (fun c96 => ?_) (fun c96 => ?_)
        · have hf := hf.1 c96
          exact sX3_burns_L95 Y hf _ _ _ _ _ hP hL hB (lv_sub hl [1, 2, 3, 0] rfl)
        · have hf := hf.2 c96
          refine lv_iconst (v := 1) hx hb dX3_burns_91 (by decide) ?_
          refine lv_goto (tgt := 96) hx hb dX3_burns_92 (by decide) ?_
          exact sX3_burns_L96 Y hf _ _ _ _ _ hP hL hB (lv_sub hl [1, 2, 3, 0] rfl)
set_option maxHeartbeats 4000000 in
theorem metX3_burns (l : Launch) (G : GG_) (mc ms : Nat) (x0 : Nat) (x1 : Int32) (x2 : Int32) (σ : Hp) (post : Int32 → Hp → Prop) (hG : GOK_ G) (hf : wX3_burns x0 x1 x2 (bu_ σ mc ms) post) : Met l yX3_burns (ws_ yX3_burns cX3_burns 9 (some Jvm.ClassFile.FieldType.boolean)) { frames := 9, cells := mc, slots := ms, locals := 232 } (PC_ G [rv_ x0, .int x1, .int x2] (bu_ σ mc ms)) (QI_ G post) mc ms (FR_ G) := by
  refine Met.ofW (cc := cX3_burns) (maxL := 9) (ret := (some Jvm.ClassFile.FieldType.boolean)) (by decide) rfl ?_
  intro p e s m args below meth c s₁ B hml hv
  obtain ⟨rfl, hP, hW⟩ := hv
  have hts := atoms_spec (ws := ws_ yX3_burns cX3_burns 9 (some Jvm.ClassFile.FieldType.boolean)) B.pre
  have hts : ∀ w ∈ lw_all, w.before _ s = true := fun w h => hts w (List.mem_cons_of_mem _ h)
  rw [lg_entry_eq]
  have hl := en_entry [rv_ x0, .int x1, .int x2] [1, 1, 1] (n := 9) (ca_r (ca_i (ca_i ca_n))) (by decide)
  exact sX3_burns ⟨⟨⟨B.exec, B.bytes, hml, findClass_of_methodNamed B.named, hts⟩, hW, hG⟩, B.notSynchronized, B.returns, Nat.le_refl _, Nat.le_refl _, ⟨rfl, rfl⟩, (name_of_methodNamed B.named B.method).1⟩ hf _ _ _ _ _ hP (LO_nil G) (BU_in ⟨rfl, rfl⟩) hl
abbrev cX3_commit : ByteArray := prog_2_method_18_code
def yX3_commit : MethodName := ⟨RX3, "commit", "(LWriteOnceDisc$Medium;LWriteOnceDisc$Medium;LWriteOnceDisc$Tree;I)I"⟩
theorem dX3_commit_0 : decode cX3_commit 0 = .ok (.aload_n 0, 1) := by decide +kernel
theorem dX3_commit_1 : decode cX3_commit 1 = .ok (.aload_n 1, 1) := by decide +kernel
theorem dX3_commit_2 : decode cX3_commit 2 = .ok (.putfield 38, 3) := by decide +kernel
theorem dX3_commit_5 : decode cX3_commit 5 = .ok (.aload_n 0, 1) := by decide +kernel
theorem dX3_commit_6 : decode cX3_commit 6 = .ok (.aload_n 2, 1) := by decide +kernel
theorem dX3_commit_7 : decode cX3_commit 7 = .ok (.putfield 71, 3) := by decide +kernel
theorem dX3_commit_10 : decode cX3_commit 10 = .ok (.aload_n 0, 1) := by decide +kernel
theorem dX3_commit_11 : decode cX3_commit 11 = .ok (.aload_n 3, 1) := by decide +kernel
theorem dX3_commit_12 : decode cX3_commit 12 = .ok (.putfield 123, 3) := by decide +kernel
theorem dX3_commit_15 : decode cX3_commit 15 = .ok (.iconst 0, 1) := by decide +kernel
theorem dX3_commit_16 : decode cX3_commit 16 = .ok (.istore 5, 2) := by decide +kernel
theorem dX3_commit_18 : decode cX3_commit 18 = .ok (.iload 5, 2) := by decide +kernel
theorem dX3_commit_20 : decode cX3_commit 20 = .ok (.aload_n 0, 1) := by decide +kernel
theorem dX3_commit_21 : decode cX3_commit 21 = .ok (.getfield 123, 3) := by decide +kernel
theorem dX3_commit_24 : decode cX3_commit 24 = .ok (.getfield 231, 3) := by decide +kernel
theorem dX3_commit_27 : decode cX3_commit 27 = .ok (.invokevirtual 137, 3) := by decide +kernel
theorem dX3_commit_30 : decode cX3_commit 30 = .ok (.if_icmp .ge 80, 3) := by decide +kernel
theorem dX3_commit_33 : decode cX3_commit 33 = .ok (.aload_n 0, 1) := by decide +kernel
theorem dX3_commit_34 : decode cX3_commit 34 = .ok (.getfield 123, 3) := by decide +kernel
theorem dX3_commit_37 : decode cX3_commit 37 = .ok (.getfield 231, 3) := by decide +kernel
theorem dX3_commit_40 : decode cX3_commit 40 = .ok (.iload 5, 2) := by decide +kernel
theorem dX3_commit_42 : decode cX3_commit 42 = .ok (.invokevirtual 139, 3) := by decide +kernel
theorem dX3_commit_45 : decode cX3_commit 45 = .ok (.checkcast 62, 3) := by decide +kernel
theorem dX3_commit_48 : decode cX3_commit 48 = .ok (.astore 6, 2) := by decide +kernel
theorem dX3_commit_50 : decode cX3_commit 50 = .ok (.aload 6, 2) := by decide +kernel
theorem dX3_commit_52 : decode cX3_commit 52 = .ok (.getfield 165, 3) := by decide +kernel
theorem dX3_commit_55 : decode cX3_commit 55 = .ok (.ifCond .ne 49, 3) := by decide +kernel
theorem dX3_commit_58 : decode cX3_commit 58 = .ok (.aload 6, 2) := by decide +kernel
theorem dX3_commit_60 : decode cX3_commit 60 = .ok (.getfield 61, 3) := by decide +kernel
theorem dX3_commit_63 : decode cX3_commit 63 = .ok (.ifCond .eq 41, 3) := by decide +kernel
theorem dX3_commit_66 : decode cX3_commit 66 = .ok (.aload 6, 2) := by decide +kernel
theorem dX3_commit_68 : decode cX3_commit 68 = .ok (.getfield 67, 3) := by decide +kernel
theorem dX3_commit_71 : decode cX3_commit 71 = .ok (.ifCond .eq 17, 3) := by decide +kernel
theorem dX3_commit_74 : decode cX3_commit 74 = .ok (.aload_n 0, 1) := by decide +kernel
theorem dX3_commit_75 : decode cX3_commit 75 = .ok (.getfield 38, 3) := by decide +kernel
theorem dX3_commit_78 : decode cX3_commit 78 = .ok (.aload_n 0, 1) := by decide +kernel
theorem dX3_commit_79 : decode cX3_commit 79 = .ok (.getfield 71, 3) := by decide +kernel
theorem dX3_commit_82 : decode cX3_commit 82 = .ok (.if_acmp .ne 6, 3) := by decide +kernel
theorem dX3_commit_85 : decode cX3_commit 85 = .ok (.goto 19, 3) := by decide +kernel
theorem dX3_commit_88 : decode cX3_commit 88 = .ok (.aload_n 0, 1) := by decide +kernel
theorem dX3_commit_89 : decode cX3_commit 89 = .ok (.aload 6, 2) := by decide +kernel
theorem dX3_commit_91 : decode cX3_commit 91 = .ok (.invokevirtual 234, 3) := by decide +kernel
theorem dX3_commit_94 : decode cX3_commit 94 = .ok (.istore 7, 2) := by decide +kernel
theorem dX3_commit_96 : decode cX3_commit 96 = .ok (.iload 7, 2) := by decide +kernel
theorem dX3_commit_98 : decode cX3_commit 98 = .ok (.ifCond .eq 6, 3) := by decide +kernel
theorem dX3_commit_101 : decode cX3_commit 101 = .ok (.iload 7, 2) := by decide +kernel
theorem dX3_commit_103 : decode cX3_commit 103 = .ok (.ireturn, 1) := by decide +kernel
theorem dX3_commit_104 : decode cX3_commit 104 = .ok (.iinc 5 1, 3) := by decide +kernel
theorem dX3_commit_107 : decode cX3_commit 107 = .ok (.goto (-89), 3) := by decide +kernel
theorem dX3_commit_110 : decode cX3_commit 110 = .ok (.aload_n 0, 1) := by decide +kernel
theorem dX3_commit_111 : decode cX3_commit 111 = .ok (.getfield 38, 3) := by decide +kernel
theorem dX3_commit_114 : decode cX3_commit 114 = .ok (.invokevirtual 80, 3) := by decide +kernel
theorem dX3_commit_117 : decode cX3_commit 117 = .ok (.istore 5, 2) := by decide +kernel
theorem dX3_commit_119 : decode cX3_commit 119 = .ok (.aload_n 0, 1) := by decide +kernel
theorem dX3_commit_120 : decode cX3_commit 120 = .ok (.iload 5, 2) := by decide +kernel
theorem dX3_commit_122 : decode cX3_commit 122 = .ok (.bipush 20, 2) := by decide +kernel
theorem dX3_commit_124 : decode cX3_commit 124 = .ok (.iadd, 1) := by decide +kernel
theorem dX3_commit_125 : decode cX3_commit 125 = .ok (.invokevirtual 213, 3) := by decide +kernel
theorem dX3_commit_128 : decode cX3_commit 128 = .ok (.aload_n 0, 1) := by decide +kernel
theorem dX3_commit_129 : decode cX3_commit 129 = .ok (.getfield 38, 3) := by decide +kernel
theorem dX3_commit_132 : decode cX3_commit 132 = .ok (.getfield 87, 3) := by decide +kernel
theorem dX3_commit_135 : decode cX3_commit 135 = .ok (.if_icmp .lt 6, 3) := by decide +kernel
theorem dX3_commit_138 : decode cX3_commit 138 = .ok (.bipush (-3), 2) := by decide +kernel
theorem dX3_commit_140 : decode cX3_commit 140 = .ok (.ireturn, 1) := by decide +kernel
theorem dX3_commit_141 : decode cX3_commit 141 = .ok (.aload_n 0, 1) := by decide +kernel
theorem dX3_commit_142 : decode cX3_commit 142 = .ok (.iload 5, 2) := by decide +kernel
theorem dX3_commit_144 : decode cX3_commit 144 = .ok (.iload 4, 2) := by decide +kernel
theorem dX3_commit_146 : decode cX3_commit 146 = .ok (.invokevirtual 238, 3) := by decide +kernel
theorem dX3_commit_149 : decode cX3_commit 149 = .ok (.ifCond .eq 6, 3) := by decide +kernel
theorem dX3_commit_152 : decode cX3_commit 152 = .ok (.iload 4, 2) := by decide +kernel
theorem dX3_commit_154 : decode cX3_commit 154 = .ok (.ireturn, 1) := by decide +kernel
theorem dX3_commit_155 : decode cX3_commit 155 = .ok (.aload_n 0, 1) := by decide +kernel
theorem dX3_commit_156 : decode cX3_commit 156 = .ok (.getfield 25, 3) := by decide +kernel
theorem dX3_commit_159 : decode cX3_commit 159 = .ok (.getfield 98, 3) := by decide +kernel
theorem dX3_commit_162 : decode cX3_commit 162 = .ok (.ifCond .eq 6, 3) := by decide +kernel
theorem dX3_commit_165 : decode cX3_commit 165 = .ok (.bipush (-4), 2) := by decide +kernel
theorem dX3_commit_167 : decode cX3_commit 167 = .ok (.ireturn, 1) := by decide +kernel
theorem dX3_commit_168 : decode cX3_commit 168 = .ok (.goto (-58), 3) := by decide +kernel
/-- WriteOnceDisc$Burner.commit(LWriteOnceDisc$Medium;LWriteOnceDisc$Medium;LWriteOnceDisc$Tree;I)I -/
def wX3_commit_B110 (post : Int32 → Hp → Prop) (rc110 : Hp → Prop) (x0 : Nat) (x4 : Int32) (σ : Hp) : Prop :=
(tg_ σ x0 = 3 ∧ (tg_ σ (fR_ σ 2 0 x0) = 7 ∧ (wX7_front (fR_ σ 2 0 x0)  σ (fun r3 => (∃ mc4 ms5 : Nat, (mc4 ≤ bc_ σ ∧ (ms5 ≤ bs_ σ ∧ (wX3_layOut x0 (r3 + (20 : Int32)) (bu_ σ mc4 ms5) (fun r8 σ9 => (∀ σ10, σ10 = bu_ σ9 (bc_ σ - mc4) (bs_ σ - ms5) → (tg_ σ10 x0 = 3 ∧ (tg_ σ10 (fR_ σ10 2 0 x0) = 7 ∧ ((r8 < (fI_ σ10 6 0 (fR_ σ10 2 0 x0)) →
  (∃ mc14 ms15 : Nat, (mc14 ≤ bc_ σ10 ∧ (ms15 ≤ bs_ σ10 ∧ (wX3_burns x0 r3 x4 (bu_ σ10 mc14 ms15) (fun r18 σ19 => (∀ σ20, σ20 = bu_ σ19 (bc_ σ10 - mc14) (bs_ σ10 - ms15) → ((r18 = 0 →
   (tg_ σ20 x0 = 3 ∧ (tg_ σ20 (fR_ σ20 2 2 x0) = 2 ∧ (((fI_ σ20 1 2 (fR_ σ20 2 2 x0)) = 0 →
    rc110 σ20) ∧
   (¬ (fI_ σ20 1 2 (fR_ σ20 2 2 x0)) = 0 →
    post (-4 : Int32) σ20))))) ∧
  (¬ r18 = 0 →
   post x4 σ20))))))))) ∧
 (¬ r8 < (fI_ σ10 6 0 (fR_ σ10 2 0 x0)) →
  post (-3 : Int32) σ10))))))))))))))
def wX3_commit_L110 (post : Int32 → Hp → Prop) (x0 : Nat) (x4 : Int32) (σ : Hp) : Prop :=
 ∃ (I : Hp → Prop) (μ : Hp → Nat), I σ ∧ ∀  (σ : Hp), I σ → wX3_commit_B110 post (fun σ' => I σ' ∧ μ σ' < μ σ) x0 x4 σ
def wX3_commit_L104 (post : Int32 → Hp → Prop) (rc18 : Int32 → Hp → Prop) (x0 : Nat) (x4 : Int32) (x5 : Int32) (σ : Hp) : Prop :=
(∀ y25 : Int32, y25 = x5 + 1 → rc18 y25 σ)
def wX3_commit_L88 (post : Int32 → Hp → Prop) (rc18 : Int32 → Hp → Prop) (x0 : Nat) (x4 : Int32) (x5 : Int32) (x6 : Nat) (σ : Hp) : Prop :=
(tg_ σ x0 = 3 ∧ (wX3_extent x0 x6 σ (fun r27 σ28 => (∀ σ29, σ29 = bu_ σ28 (bc_ σ) (bs_ σ) → ((r27 = 0 →
  wX3_commit_L104 post rc18 x0 x4 x5 σ29) ∧
 (¬ r27 = 0 →
  post r27 σ29))))))
def wX3_commit_B18 (post : Int32 → Hp → Prop) (rc18 : Int32 → Hp → Prop) (x0 : Nat) (x4 : Int32) (x5 : Int32) (σ : Hp) : Prop :=
(tg_ σ x0 = 3 ∧ (tg_ σ (fR_ σ 2 3 x0) = 5 ∧ (tg_ σ (fR_ σ 4 0 (fR_ σ 2 3 x0)) = 11 ∧ (wJ2_size (fR_ σ 4 0 (fR_ σ 2 3 x0))  σ (fun r34 => ((r34 ≤ x5 →
  wX3_commit_L110 post x0 x4 σ) ∧
 (¬ r34 ≤ x5 →
  (wJ2_get (fR_ σ 4 0 (fR_ σ 2 3 x0)) x5 σ (fun r36 => ((r36 = 0 ∨ tg_ σ r36 = 6) ∧ (tg_ σ r36 = 6 ∧ ((¬ (fI_ σ 5 1 r36) = 0 →
   wX3_commit_L104 post rc18 x0 x4 x5 σ) ∧
  ((fI_ σ 5 1 r36) = 0 →
   (((fI_ σ 5 3 r36) = 0 →
    wX3_commit_L104 post rc18 x0 x4 x5 σ) ∧
   (¬ (fI_ σ 5 3 r36) = 0 →
    (((fI_ σ 5 8 r36) = 0 →
     wX3_commit_L88 post rc18 x0 x4 x5 r36 σ) ∧
    (¬ (fI_ σ 5 8 r36) = 0 →
     ((¬ (fR_ σ 2 0 x0) = (fR_ σ 2 1 x0) →
      wX3_commit_L88 post rc18 x0 x4 x5 r36 σ) ∧
     ((fR_ σ 2 0 x0) = (fR_ σ 2 1 x0) →
      wX3_commit_L104 post rc18 x0 x4 x5 σ)))))))))))))))))))
def wX3_commit_L18 (post : Int32 → Hp → Prop) (x0 : Nat) (x4 : Int32) (x5 : Int32) (σ : Hp) : Prop :=
 ∃ (I : Int32 → Hp → Prop) (μ : Int32 → Hp → Nat), I x5 σ ∧ ∀ (x5 : Int32) (σ : Hp), I x5 σ → wX3_commit_B18 post (fun x5' σ' => I x5' σ' ∧ μ x5' σ' < μ x5 σ) x0 x4 x5 σ
def wX3_commit (x0 : Nat) (x1 : Nat) (x2 : Nat) (x3 : Nat) (x4 : Int32) (σ : Hp) (post : Int32 → Hp → Prop) : Prop :=
(tg_ σ x0 = 3 ∧ (∀ σ44, σ44 = sR_ σ 2 0 x0 x1 → (∀ σ45, σ45 = sR_ σ44 2 1 x0 x2 → (∀ σ46, σ46 = sR_ σ45 2 3 x0 x3 → wX3_commit_L18 post x0 x4 (0 : Int32) σ46))))
set_option maxHeartbeats 4000000 in
theorem sX3_commit_B110 {G : GG_} {p : Program} {l : Launch} {e : Env} {R : Room} {s : State} {m : MethodId} {args : Array Value} {below : List Frame} {meth : Method} {c : Code} {mc ms : Nat} (Y : MX_ G p R s m args meth c cX3_commit 8 RX3 (some Jvm.ClassFile.FieldType.int) 10 260 mc ms "commit") {post : Int32 → Hp → Prop} {rc110 : Hp → Prop} {x0 : Nat} {x4 : Int32} {σ : Hp} (hrc110 : ∀  (σ : Hp), rc110 σ → WG_ G p l e R s m args below meth c (MQ below (QI_ G post) args s mc ms (FR_ G)) (BU_ R) 8 110 [(0, rv_ x0), (4, .int x4)] [] σ) (hf : wX3_commit_B110 post rc110 x0 x4 σ) : WG_ G p l e R s m args below meth c (MQ below (QI_ G post) args s mc ms (FR_ G)) (BU_ R) 8 110 [(0, rv_ x0), (4, .int x4)] [] σ := by
  have ⟨X, hlk, hr, hRf, hRl, hRc, hnm⟩ := Y
  have ⟨⟨hx, hb, _, hown, hts⟩, _, _⟩ := X
  intro H locs cells slots ls hP hL hB hl
  unfold wX3_commit_B110 at hf
  refine p_aload_n hx hb dX3_commit_110 rfl (lv_at hl 0 rfl) ?_
  obtain ⟨ht1, hf⟩ := hf
  refine p_gR X cf2_ (k := 0) (by decide) rfl hP ht1 q185 (fun _ h => h) dX3_commit_111 ?_
  obtain ⟨ht2, hf⟩ := hf
  refine p_calli hL (p_runV X cf6_ hP ht2 (metX7_front l G _ _ _ X.2.2 hf) (cwV 0 hts (lw_V q817 q818 q819 q104 q820) rfl rfl rfl (by decide +kernel) ⟨Nat.le_trans (Nat.le_of_ble_eq_true rfl) hRf, Nat.le_trans (Nat.le_of_ble_eq_true rfl) hRl⟩) rfl hl.1 rfl (by decide) dX3_commit_114 (BU_call hB (Nat.zero_le _) (Nat.zero_le _))) (fun r3 σ₁ H locs hf hP hL => ?_)
  obtain ⟨e₁, hf⟩ := hf
  rw [e₁] at hP
  refine p_istore (i := 5) hx hb dX3_commit_117 hl (by decide) ⟨⟨ne_ rfl, Or.inl (ne_ rfl)⟩, ⟨⟨ne_ rfl, Or.inr rfl⟩, trivial⟩⟩ (fun ls hl => ?_)
  refine p_aload_n hx hb dX3_commit_119 rfl (lv_at hl 1 rfl) ?_
  refine lv_iload hx hb dX3_commit_120 (lv_at hl 0 rfl) ?_
  refine lv_bipush (v := 20) hx hb dX3_commit_122 (by decide) ?_
  refine lv_iadd hx hb dX3_commit_124 ?_
  obtain ⟨mc4, ms5, hf⟩ := hf
  obtain ⟨hb6, hf⟩ := hf
  obtain ⟨hb7, hf⟩ := hf
  refine p_calli hL (p_runV X cf2_ (Pic_bu hP mc4 ms5) ht1 (metX3_layOut l G _ _ _ _ _ _ X.2.2 hf) (cwV 1 hts (lw_V q845 q847 qs10 q87 q848) rfl rfl rfl (by decide +kernel) ⟨Nat.le_trans (Nat.le_of_ble_eq_true rfl) hRf, Nat.le_trans (Nat.le_of_ble_eq_true rfl) hRl⟩) rfl hl.1 rfl (by decide) dX3_commit_125 (BU_call hB hb6 hb7)) (fun r8 σ9 H locs hf hP hL => ?_)
  have hB := BU_back (τ := σ9) hB hb6 hb7
  have hP := Pic_bu hP (bc_ σ - mc4) (bs_ σ - ms5)
  refine p_nmPB hP hB (fun σ10 hσ10 hP hB => ?_)
  have hf := hf σ10 hσ10
  refine p_aload_n hx hb dX3_commit_128 rfl (lv_at hl 1 rfl) ?_
  obtain ⟨ht11, hf⟩ := hf
  refine p_gR X cf2_ (k := 0) (by decide) rfl hP ht11 q185 (fun _ h => h) dX3_commit_129 ?_
  obtain ⟨ht12, hf⟩ := hf
  refine p_gI X cf6_ (k := 0) (by decide) rfl hP ht12 q558 (fun _ h => h) dX3_commit_132 ?_
  refine lv_icmp_lt (tgt := 141) hx hb dX3_commit_135 (by decide) (fun c13 => ?_) (fun c13 => ?_)
  · have hf := hf.1 c13
    refine p_aload_n hx hb dX3_commit_141 rfl (lv_at hl 1 rfl) ?_
    refine lv_iload hx hb dX3_commit_142 (lv_at hl 0 rfl) ?_
    refine lv_iload hx hb dX3_commit_144 (lv_at hl 2 rfl) ?_
    obtain ⟨mc14, ms15, hf⟩ := hf
    obtain ⟨hb16, hf⟩ := hf
    obtain ⟨hb17, hf⟩ := hf
    refine p_calli hL (p_runV X cf2_ (Pic_bu hP mc14 ms15) ht11 (metX3_burns l G _ _ _ _ _ _ _ X.2.2 hf) (cwV 2 hts (lw_V q888 q890 qs11 q87 q891) rfl rfl rfl (by decide +kernel) ⟨Nat.le_trans (Nat.le_of_ble_eq_true rfl) hRf, Nat.le_trans (Nat.le_of_ble_eq_true rfl) hRl⟩) rfl hl.1 rfl (by decide) dX3_commit_146 (BU_call hB hb16 hb17)) (fun r18 σ19 H locs hf hP hL => ?_)
    have hB := BU_back (τ := σ19) hB hb16 hb17
    have hP := Pic_bu hP (bc_ σ10 - mc14) (bs_ σ10 - ms15)
    refine p_nmPB hP hB (fun σ20 hσ20 hP hB => ?_)
    have hf := hf σ20 hσ20
    refine lv_if_eq (tgt := 155) hx hb dX3_commit_149 (by decide) (fun c21 => ?_) (fun c21 => ?_)
    · have hf := hf.1 c21
      refine p_aload_n hx hb dX3_commit_155 rfl (lv_at hl 1 rfl) ?_
      obtain ⟨ht22, hf⟩ := hf
      refine p_gR X cf2_ (k := 2) (by decide) rfl hP ht22 q187 (fun _ h => h) dX3_commit_156 ?_
      obtain ⟨ht23, hf⟩ := hf
      refine p_gI X cf1_ (k := 2) (by decide) rfl hP ht23 q132 (fun _ h => h) dX3_commit_159 ?_
      refine lv_if_eq (tgt := 168) hx hb dX3_commit_162 (by decide) (fun c24 => ?_) (fun c24 => ?_)
      · have hf := hf.1 c24
        refine lv_goto (tgt := 110) hx hb dX3_commit_168 (by decide) ?_
        exact hrc110 _ hf _ _ _ _ _ hP hL hB (lv_sub hl [1, 2] rfl)
      · have hf := hf.2 c24
        refine lv_bipush (v := (-4)) hx hb dX3_commit_165 (by decide) ?_
        exact p_iret X hlk hP hL (BU_le hB hRc).1 (BU_le hB hRc).2 hr dX3_commit_167 hf
    · have hf := hf.2 c21
      refine lv_iload hx hb dX3_commit_152 (lv_at hl 2 rfl) ?_
      exact p_iret X hlk hP hL (BU_le hB hRc).1 (BU_le hB hRc).2 hr dX3_commit_154 hf
  · have hf := hf.2 c13
    refine lv_bipush (v := (-3)) hx hb dX3_commit_138 (by decide) ?_
    exact p_iret X hlk hP hL (BU_le hB hRc).1 (BU_le hB hRc).2 hr dX3_commit_140 hf
set_option maxHeartbeats 4000000 in
theorem sX3_commit_L110 {G : GG_} {p : Program} {l : Launch} {e : Env} {R : Room} {s : State} {m : MethodId} {args : Array Value} {below : List Frame} {meth : Method} {c : Code} {mc ms : Nat} (Y : MX_ G p R s m args meth c cX3_commit 8 RX3 (some Jvm.ClassFile.FieldType.int) 10 260 mc ms "commit") {post : Int32 → Hp → Prop} {x0 : Nat} {x4 : Int32} {σ : Hp} (hf : wX3_commit_L110 post x0 x4 σ) : WG_ G p l e R s m args below meth c (MQ below (QI_ G post) args s mc ms (FR_ G)) (BU_ R) 8 110 [(0, rv_ x0), (4, .int x4)] [] σ := by
  unfold wX3_commit_L110 at hf
  obtain ⟨I, μ, h0, hI⟩ := hf
  have key : ∀ (n : Nat)  (σ : Hp), I σ → μ σ < n → WG_ G p l e R s m args below meth c (MQ below (QI_ G post) args s mc ms (FR_ G)) (BU_ R) 8 110 [(0, rv_ x0), (4, .int x4)] [] σ := by
    intro n
    induction n with
    | zero => intro σ _ h; exact absurd h (Nat.not_lt_zero _)
    | succ n ih => intro σ hi hn; exact sX3_commit_B110 Y (fun σ' h => ih σ' h.1 (Nat.lt_of_lt_of_le h.2 (Nat.le_of_lt_succ hn))) (hI σ hi)
  exact key _ _ h0 (Nat.lt_succ_self _)
set_option maxHeartbeats 4000000 in
theorem sX3_commit_L104 {G : GG_} {p : Program} {l : Launch} {e : Env} {R : Room} {s : State} {m : MethodId} {args : Array Value} {below : List Frame} {meth : Method} {c : Code} {mc ms : Nat} (Y : MX_ G p R s m args meth c cX3_commit 8 RX3 (some Jvm.ClassFile.FieldType.int) 10 260 mc ms "commit") {post : Int32 → Hp → Prop} {rc18 : Int32 → Hp → Prop} {x0 : Nat} {x4 : Int32} {x5 : Int32} {σ : Hp} (hrc18 : ∀ (x5 : Int32) (σ : Hp), rc18 x5 σ → WG_ G p l e R s m args below meth c (MQ below (QI_ G post) args s mc ms (FR_ G)) (BU_ R) 8 18 [(0, rv_ x0), (4, .int x4), (5, .int x5)] [] σ) (hf : wX3_commit_L104 post rc18 x0 x4 x5 σ) : WG_ G p l e R s m args below meth c (MQ below (QI_ G post) args s mc ms (FR_ G)) (BU_ R) 8 104 [(0, rv_ x0), (4, .int x4), (5, .int x5)] [] σ := by
  have ⟨X, hlk, hr, hRf, hRl, hRc, hnm⟩ := Y
  have ⟨⟨hx, hb, _, hown, hts⟩, _, _⟩ := X
  intro H locs cells slots ls hP hL hB hl
  unfold wX3_commit_L104 at hf
  have hl := lv_sub hl [2, 0, 1] rfl
  refine p_iincc (i := 5) (k := 1) hx hb (by decide) dX3_commit_104 hl (by decide) ⟨⟨ne_ rfl, Or.inl (ne_ rfl)⟩, ⟨⟨ne_ rfl, Or.inr rfl⟩, trivial⟩⟩ (fun y25 hy25 ls hl => ?_)
  have hf := hf y25 hy25
  refine lv_goto (tgt := 18) hx hb dX3_commit_107 (by decide) ?_
  exact hrc18 _ _ hf _ _ _ _ _ hP hL hB (lv_sub hl [1, 2, 0] rfl)
set_option maxHeartbeats 4000000 in
theorem sX3_commit_L88 {G : GG_} {p : Program} {l : Launch} {e : Env} {R : Room} {s : State} {m : MethodId} {args : Array Value} {below : List Frame} {meth : Method} {c : Code} {mc ms : Nat} (Y : MX_ G p R s m args meth c cX3_commit 8 RX3 (some Jvm.ClassFile.FieldType.int) 10 260 mc ms "commit") {post : Int32 → Hp → Prop} {rc18 : Int32 → Hp → Prop} {x0 : Nat} {x4 : Int32} {x5 : Int32} {x6 : Nat} {σ : Hp} (hrc18 : ∀ (x5 : Int32) (σ : Hp), rc18 x5 σ → WG_ G p l e R s m args below meth c (MQ below (QI_ G post) args s mc ms (FR_ G)) (BU_ R) 8 18 [(0, rv_ x0), (4, .int x4), (5, .int x5)] [] σ) (hf : wX3_commit_L88 post rc18 x0 x4 x5 x6 σ) : WG_ G p l e R s m args below meth c (MQ below (QI_ G post) args s mc ms (FR_ G)) (BU_ R) 8 88 [(0, rv_ x0), (4, .int x4), (5, .int x5), (6, rv_ x6)] [] σ := by
  have ⟨X, hlk, hr, hRf, hRl, hRc, hnm⟩ := Y
  have ⟨⟨hx, hb, _, hown, hts⟩, _, _⟩ := X
  intro H locs cells slots ls hP hL hB hl
  unfold wX3_commit_L88 at hf
  refine p_aload_n hx hb dX3_commit_88 rfl (lv_at hl 0 rfl) ?_
  refine p_aload hx hb dX3_commit_89 (lv_at hl 3 rfl) ?_
  obtain ⟨ht26, hf⟩ := hf
  refine p_calli hL (p_runV X cf2_ hP ht26 (metX3_extent l G _ _ _ _ X.2.2 hf) (cwV 1 hts (lw_V q813 q815 qs6 q87 q816) rfl rfl rfl (by decide +kernel) ⟨Nat.le_trans (Nat.le_of_ble_eq_true rfl) hRf, Nat.le_trans (Nat.le_of_ble_eq_true rfl) hRl⟩) rfl hl.1 rfl (by decide) dX3_commit_91 (BU_call hB (Nat.zero_le _) (Nat.zero_le _))) (fun r27 σ28 H locs hf hP hL => ?_)
  have hB := BU_keep (τ := σ28) hB
  have hP := Pic_bu hP (bc_ σ) (bs_ σ)
  refine p_nmPB hP hB (fun σ29 hσ29 hP hB => ?_)
  have hf := hf σ29 hσ29
  have hl := lv_sub hl [0, 1, 2] rfl
  refine p_istore (i := 7) hx hb dX3_commit_94 hl (by decide) ⟨⟨ne_ rfl, Or.inl (ne_ rfl)⟩, ⟨⟨ne_ rfl, Or.inl (ne_ rfl)⟩, ⟨⟨ne_ rfl, Or.inl (ne_ rfl)⟩, trivial⟩⟩⟩ (fun ls hl => ?_)
  refine lv_iload hx hb dX3_commit_96 (lv_at hl 0 rfl) ?_
  refine lv_if_eq (tgt := 104) hx hb dX3_commit_98 (by decide) (fun c30 => ?_) (fun c30 => ?_)
  · have hf := hf.1 c30
    exact sX3_commit_L104 Y hrc18 hf _ _ _ _ _ hP hL hB (lv_sub hl [1, 2, 3] rfl)
  · have hf := hf.2 c30
    refine lv_iload hx hb dX3_commit_101 (lv_at hl 0 rfl) ?_
    exact p_iret X hlk hP hL (BU_le hB hRc).1 (BU_le hB hRc).2 hr dX3_commit_103 hf
set_option maxHeartbeats 4000000 in
theorem sX3_commit_B18 {G : GG_} {p : Program} {l : Launch} {e : Env} {R : Room} {s : State} {m : MethodId} {args : Array Value} {below : List Frame} {meth : Method} {c : Code} {mc ms : Nat} (Y : MX_ G p R s m args meth c cX3_commit 8 RX3 (some Jvm.ClassFile.FieldType.int) 10 260 mc ms "commit") {post : Int32 → Hp → Prop} {rc18 : Int32 → Hp → Prop} {x0 : Nat} {x4 : Int32} {x5 : Int32} {σ : Hp} (hrc18 : ∀ (x5 : Int32) (σ : Hp), rc18 x5 σ → WG_ G p l e R s m args below meth c (MQ below (QI_ G post) args s mc ms (FR_ G)) (BU_ R) 8 18 [(0, rv_ x0), (4, .int x4), (5, .int x5)] [] σ) (hf : wX3_commit_B18 post rc18 x0 x4 x5 σ) : WG_ G p l e R s m args below meth c (MQ below (QI_ G post) args s mc ms (FR_ G)) (BU_ R) 8 18 [(0, rv_ x0), (4, .int x4), (5, .int x5)] [] σ := by
  have ⟨X, hlk, hr, hRf, hRl, hRc, hnm⟩ := Y
  have ⟨⟨hx, hb, _, hown, hts⟩, _, _⟩ := X
  intro H locs cells slots ls hP hL hB hl
  unfold wX3_commit_B18 at hf
  refine lv_iload hx hb dX3_commit_18 (lv_at hl 2 rfl) ?_
  refine p_aload_n hx hb dX3_commit_20 rfl (lv_at hl 0 rfl) ?_
  obtain ⟨ht31, hf⟩ := hf
  refine p_gR X cf2_ (k := 3) (by decide) rfl hP ht31 q188 (fun _ h => h) dX3_commit_21 ?_
  obtain ⟨ht32, hf⟩ := hf
  refine p_gR X cf4_ (k := 0) (by decide) rfl hP ht32 q543 (fun _ h => h) dX3_commit_24 ?_
  obtain ⟨ht33, hf⟩ := hf
  refine p_calli hL (p_runV X cf10_ hP ht33 (metJ2_size l G _ _ _ X.2.2 hf) (cwV 0 hts (lw_V q810 q720 q721 q90 q722) rfl rfl rfl (by decide +kernel) ⟨Nat.le_trans (Nat.le_of_ble_eq_true rfl) hRf, Nat.le_trans (Nat.le_of_ble_eq_true rfl) hRl⟩) rfl hl.1 rfl (by rw [(ca_i ca_n)]; decide) dX3_commit_27 (BU_call hB (Nat.zero_le _) (Nat.zero_le _))) (fun r34 σ₁ H locs hf hP hL => ?_)
  obtain ⟨e₁, hf⟩ := hf
  rw [e₁] at hP
  refine lv_icmp_ge (tgt := 110) hx hb dX3_commit_30 (by decide) (fun c35 => ?_) (fun c35 => ?_)
  · have hf := hf.1 c35
    exact sX3_commit_L110 Y hf _ _ _ _ _ hP hL hB (lv_sub hl [0, 1] rfl)
  · have hf := hf.2 c35
    refine p_aload_n hx hb dX3_commit_33 rfl (lv_at hl 0 rfl) ?_
    refine p_gR X cf2_ (k := 3) (by decide) rfl hP ht31 q188 (fun _ h => h) dX3_commit_34 ?_
    refine p_gR X cf4_ (k := 0) (by decide) rfl hP ht32 q543 (fun _ h => h) dX3_commit_37 ?_
    refine lv_iload hx hb dX3_commit_40 (lv_at hl 2 rfl) ?_
    refine p_callr hL (p_runV X cf10_ hP ht33 (metJ2_get l G _ _ _ _ X.2.2 hf) (cwV 1 hts (lw_V q811 q724 q725 q90 q726) rfl rfl rfl (by decide +kernel) ⟨Nat.le_trans (Nat.le_of_ble_eq_true rfl) hRf, Nat.le_trans (Nat.le_of_ble_eq_true rfl) hRl⟩) rfl hl.1 rfl (by decide) dX3_commit_42 (BU_call hB (Nat.zero_le _) (Nat.zero_le _))) (fun r36 σ₁ H locs hf hP hL => ?_)
    obtain ⟨e₁, hf⟩ := hf
    rw [e₁] at hP
    obtain ⟨hc37, hf⟩ := hf
    refine p_cast X cf5_ hP hc37 q812 dX3_commit_45 ?_
    refine p_astore (i := 6) hx hb dX3_commit_48 hl (by decide) ⟨⟨ne_ rfl, Or.inl (ne_ rfl)⟩, ⟨⟨ne_ rfl, Or.inl (ne_ rfl)⟩, ⟨⟨ne_ rfl, Or.inr rfl⟩, trivial⟩⟩⟩ (fun ls hl => ?_)
    refine p_aload hx hb dX3_commit_50 (lv_at hl 0 rfl) ?_
    obtain ⟨ht38, hf⟩ := hf
    refine p_gI X cf5_ (k := 1) (by decide) rfl hP ht38 q442 (fun _ h => h) dX3_commit_52 ?_
    refine lv_if_ne (tgt := 104) hx hb dX3_commit_55 (by decide) (fun c39 => ?_) (fun c39 => ?_)
    · have hf := hf.1 c39
      exact sX3_commit_L104 Y hrc18 hf _ _ _ _ _ hP hL hB (lv_sub hl [1, 2, 3] rfl)
    · have hf := hf.2 c39
      refine p_aload hx hb dX3_commit_58 (lv_at hl 0 rfl) ?_
      refine p_gI X cf5_ (k := 3) (by decide) rfl hP ht38 q448 (fun _ h => h) dX3_commit_60 ?_
      refine lv_if_eq (tgt := 104) hx hb dX3_commit_63 (by decide) (fun c40 => ?_) (fun c40 => ?_)
      · have hf := hf.1 c40
        exact sX3_commit_L104 Y hrc18 hf _ _ _ _ _ hP hL hB (lv_sub hl [1, 2, 3] rfl)
      · have hf := hf.2 c40
        refine p_aload hx hb dX3_commit_66 (lv_at hl 0 rfl) ?_
        refine p_gI X cf5_ (k := 8) (by decide) rfl hP ht38 q461 (fun _ h => h) dX3_commit_68 ?_
        refine lv_if_eq (tgt := 88) hx hb dX3_commit_71 (by decide) (fun c41 => ?_) (fun c41 => ?_)
        · have hf := hf.1 c41
          exact sX3_commit_L88 Y hrc18 hf _ _ _ _ _ hP hL hB (lv_sub hl [1, 2, 3, 0] rfl)
        · have hf := hf.2 c41
          refine p_aload_n hx hb dX3_commit_74 rfl (lv_at hl 1 rfl) ?_
          refine p_gR X cf2_ (k := 0) (by decide) rfl hP ht31 q185 (fun _ h => h) dX3_commit_75 ?_
          refine p_aload_n hx hb dX3_commit_78 rfl (lv_at hl 1 rfl) ?_
          refine p_gR X cf2_ (k := 1) (by decide) rfl hP ht31 q186 (fun _ h => h) dX3_commit_79 ?_
          refine p_acmp_ne (tgt := 88) hx hb dX3_commit_82 (by decide) (fun c42 => ?_) (fun c42 => ?_)
          · have hf := hf.1 c42
            exact sX3_commit_L88 Y hrc18 hf _ _ _ _ _ hP hL hB (lv_sub hl [1, 2, 3, 0] rfl)
          · have hf := hf.2 c42
            refine lv_goto (tgt := 104) hx hb dX3_commit_85 (by decide) ?_
            exact sX3_commit_L104 Y hrc18 hf _ _ _ _ _ hP hL hB (lv_sub hl [1, 2, 3] rfl)
set_option maxHeartbeats 4000000 in
theorem sX3_commit_L18 {G : GG_} {p : Program} {l : Launch} {e : Env} {R : Room} {s : State} {m : MethodId} {args : Array Value} {below : List Frame} {meth : Method} {c : Code} {mc ms : Nat} (Y : MX_ G p R s m args meth c cX3_commit 8 RX3 (some Jvm.ClassFile.FieldType.int) 10 260 mc ms "commit") {post : Int32 → Hp → Prop} {x0 : Nat} {x4 : Int32} {x5 : Int32} {σ : Hp} (hf : wX3_commit_L18 post x0 x4 x5 σ) : WG_ G p l e R s m args below meth c (MQ below (QI_ G post) args s mc ms (FR_ G)) (BU_ R) 8 18 [(0, rv_ x0), (4, .int x4), (5, .int x5)] [] σ := by
  unfold wX3_commit_L18 at hf
  obtain ⟨I, μ, h0, hI⟩ := hf
  have key : ∀ (n : Nat) (x5 : Int32) (σ : Hp), I x5 σ → μ x5 σ < n → WG_ G p l e R s m args below meth c (MQ below (QI_ G post) args s mc ms (FR_ G)) (BU_ R) 8 18 [(0, rv_ x0), (4, .int x4), (5, .int x5)] [] σ := by
    intro n
    induction n with
    | zero => intro x5 σ _ h; exact absurd h (Nat.not_lt_zero _)
    | succ n ih => intro x5 σ hi hn; exact sX3_commit_B18 Y (fun x5' σ' h => ih x5' σ' h.1 (Nat.lt_of_lt_of_le h.2 (Nat.le_of_lt_succ hn))) (hI x5 σ hi)
  exact key _ _ _ h0 (Nat.lt_succ_self _)
set_option maxHeartbeats 4000000 in
theorem sX3_commit {G : GG_} {p : Program} {l : Launch} {e : Env} {R : Room} {s : State} {m : MethodId} {args : Array Value} {below : List Frame} {meth : Method} {c : Code} {mc ms : Nat} (Y : MX_ G p R s m args meth c cX3_commit 8 RX3 (some Jvm.ClassFile.FieldType.int) 10 260 mc ms "commit") {post : Int32 → Hp → Prop} {x0 : Nat} {x1 : Nat} {x2 : Nat} {x3 : Nat} {x4 : Int32} {σ : Hp} (hf : wX3_commit x0 x1 x2 x3 x4 σ post) : WG_ G p l e R s m args below meth c (MQ below (QI_ G post) args s mc ms (FR_ G)) (BU_ R) 8 0 [(0, rv_ x0), (1, rv_ x1), (2, rv_ x2), (3, rv_ x3), (4, .int x4)] [] σ := by
  have ⟨X, hlk, hr, hRf, hRl, hRc, hnm⟩ := Y
  have ⟨⟨hx, hb, _, hown, hts⟩, _, _⟩ := X
  intro H locs cells slots ls hP hL hB hl
  unfold wX3_commit at hf
  refine p_aload_n hx hb dX3_commit_0 rfl (lv_at hl 0 rfl) ?_
  refine p_aload_n hx hb dX3_commit_1 rfl (lv_at hl 1 rfl) ?_
  obtain ⟨ht43, hf⟩ := hf
  refine p_pR X cf2_ (k := 0) (by decide) rfl hP hL ht43 (p_ow hP ht43 rfl) q185 (fun _ h => h) (Or.inl rfl) dX3_commit_2 (fun H locs hP hL => ?_)
  refine p_nmPB hP hB (fun σ44 hσ44 hP hB => ?_)
  have hf := hf σ44 hσ44
  have ht43 : tg_ σ44 x0 = 3 := by rw [hσ44]; exact ht43
  refine p_aload_n hx hb dX3_commit_5 rfl (lv_at hl 0 rfl) ?_
  refine p_aload_n hx hb dX3_commit_6 rfl (lv_at hl 2 rfl) ?_
  refine p_pR X cf2_ (k := 1) (by decide) rfl hP hL ht43 (p_ow hP ht43 rfl) q186 (fun _ h => h) (Or.inl rfl) dX3_commit_7 (fun H locs hP hL => ?_)
  refine p_nmPB hP hB (fun σ45 hσ45 hP hB => ?_)
  have hf := hf σ45 hσ45
  have ht43 : tg_ σ45 x0 = 3 := by rw [hσ45]; exact ht43
  refine p_aload_n hx hb dX3_commit_10 rfl (lv_at hl 0 rfl) ?_
  refine p_aload_n hx hb dX3_commit_11 rfl (lv_at hl 3 rfl) ?_
  refine p_pR X cf2_ (k := 3) (by decide) rfl hP hL ht43 (p_ow hP ht43 rfl) q188 (fun _ h => h) (Or.inl rfl) dX3_commit_12 (fun H locs hP hL => ?_)
  refine p_nmPB hP hB (fun σ46 hσ46 hP hB => ?_)
  have hf := hf σ46 hσ46
  have ht43 : tg_ σ46 x0 = 3 := by rw [hσ46]; exact ht43
  refine lv_iconst (v := 0) hx hb dX3_commit_15 (by decide) ?_
  have hl := lv_sub hl [0, 4] rfl
  refine p_istore (i := 5) hx hb dX3_commit_16 hl (by decide) ⟨⟨ne_ rfl, Or.inl (ne_ rfl)⟩, ⟨⟨ne_ rfl, Or.inr rfl⟩, trivial⟩⟩ (fun ls hl => ?_)
  exact sX3_commit_L18 Y hf _ _ _ _ _ hP hL hB (lv_sub hl [1, 2, 0] rfl)
set_option maxHeartbeats 4000000 in
theorem metX3_commit (l : Launch) (G : GG_) (mc ms : Nat) (x0 : Nat) (x1 : Nat) (x2 : Nat) (x3 : Nat) (x4 : Int32) (σ : Hp) (post : Int32 → Hp → Prop) (hG : GOK_ G) (hf : wX3_commit x0 x1 x2 x3 x4 (bu_ σ mc ms) post) : Met l yX3_commit (ws_ yX3_commit cX3_commit 8 (some Jvm.ClassFile.FieldType.int)) { frames := 10, cells := mc, slots := ms, locals := 260 } (PC_ G [rv_ x0, rv_ x1, rv_ x2, rv_ x3, .int x4] (bu_ σ mc ms)) (QI_ G post) mc ms (FR_ G) := by
  refine Met.ofW (cc := cX3_commit) (maxL := 8) (ret := (some Jvm.ClassFile.FieldType.int)) (by decide) rfl ?_
  intro p e s m args below meth c s₁ B hml hv
  obtain ⟨rfl, hP, hW⟩ := hv
  have hts := atoms_spec (ws := ws_ yX3_commit cX3_commit 8 (some Jvm.ClassFile.FieldType.int)) B.pre
  have hts : ∀ w ∈ lw_all, w.before _ s = true := fun w h => hts w (List.mem_cons_of_mem _ h)
  rw [lg_entry_eq]
  have hl := en_entry [rv_ x0, rv_ x1, rv_ x2, rv_ x3, .int x4] [1, 1, 1, 1, 1] (n := 8) (ca_r (ca_r (ca_r (ca_r (ca_i ca_n))))) (by decide)
  exact sX3_commit ⟨⟨⟨B.exec, B.bytes, hml, findClass_of_methodNamed B.named, hts⟩, hW, hG⟩, B.notSynchronized, B.returns, Nat.le_refl _, Nat.le_refl _, ⟨rfl, rfl⟩, (name_of_methodNamed B.named B.method).1⟩ hf _ _ _ _ _ hP (LO_nil G) (BU_in ⟨rfl, rfl⟩) hl
abbrev cX1_commit : ByteArray := prog_1_method_16_code
def yX1_commit : MethodName := ⟨RX1, "commit", "()I"⟩
theorem dX1_commit_0 : decode cX1_commit 0 = .ok (.aload_n 0, 1) := by decide +kernel
theorem dX1_commit_1 : decode cX1_commit 1 = .ok (.getfield 39, 3) := by decide +kernel
theorem dX1_commit_4 : decode cX1_commit 4 = .ok (.getfield 115, 3) := by decide +kernel
theorem dX1_commit_7 : decode cX1_commit 7 = .ok (.ifCond .eq 6, 3) := by decide +kernel
theorem dX1_commit_10 : decode cX1_commit 10 = .ok (.bipush (-4), 2) := by decide +kernel
theorem dX1_commit_12 : decode cX1_commit 12 = .ok (.ireturn, 1) := by decide +kernel
theorem dX1_commit_13 : decode cX1_commit 13 = .ok (.aload_n 0, 1) := by decide +kernel
theorem dX1_commit_14 : decode cX1_commit 14 = .ok (.getfield 48, 3) := by decide +kernel
theorem dX1_commit_17 : decode cX1_commit 17 = .ok (.aload_n 0, 1) := by decide +kernel
theorem dX1_commit_18 : decode cX1_commit 18 = .ok (.getfield 64, 3) := by decide +kernel
theorem dX1_commit_21 : decode cX1_commit 21 = .ok (.aload_n 0, 1) := by decide +kernel
theorem dX1_commit_22 : decode cX1_commit 22 = .ok (.getfield 64, 3) := by decide +kernel
theorem dX1_commit_25 : decode cX1_commit 25 = .ok (.aload_n 0, 1) := by decide +kernel
theorem dX1_commit_26 : decode cX1_commit 26 = .ok (.getfield 55, 3) := by decide +kernel
theorem dX1_commit_29 : decode cX1_commit 29 = .ok (.aload_n 0, 1) := by decide +kernel
theorem dX1_commit_30 : decode cX1_commit 30 = .ok (.getfield 197, 3) := by decide +kernel
theorem dX1_commit_33 : decode cX1_commit 33 = .ok (.iconst 1, 1) := by decide +kernel
theorem dX1_commit_34 : decode cX1_commit 34 = .ok (.iadd, 1) := by decide +kernel
theorem dX1_commit_35 : decode cX1_commit 35 = .ok (.invokevirtual 200, 3) := by decide +kernel
theorem dX1_commit_38 : decode cX1_commit 38 = .ok (.istore_n 1, 1) := by decide +kernel
theorem dX1_commit_39 : decode cX1_commit 39 = .ok (.iload_n 1, 1) := by decide +kernel
theorem dX1_commit_40 : decode cX1_commit 40 = .ok (.aload_n 0, 1) := by decide +kernel
theorem dX1_commit_41 : decode cX1_commit 41 = .ok (.getfield 197, 3) := by decide +kernel
theorem dX1_commit_44 : decode cX1_commit 44 = .ok (.iconst 1, 1) := by decide +kernel
theorem dX1_commit_45 : decode cX1_commit 45 = .ok (.iadd, 1) := by decide +kernel
theorem dX1_commit_46 : decode cX1_commit 46 = .ok (.if_icmp .ne 13, 3) := by decide +kernel
theorem dX1_commit_49 : decode cX1_commit 49 = .ok (.aload_n 0, 1) := by decide +kernel
theorem dX1_commit_50 : decode cX1_commit 50 = .ok (.dup, 1) := by decide +kernel
theorem dX1_commit_51 : decode cX1_commit 51 = .ok (.getfield 197, 3) := by decide +kernel
theorem dX1_commit_54 : decode cX1_commit 54 = .ok (.iconst 1, 1) := by decide +kernel
theorem dX1_commit_55 : decode cX1_commit 55 = .ok (.iadd, 1) := by decide +kernel
theorem dX1_commit_56 : decode cX1_commit 56 = .ok (.putfield 197, 3) := by decide +kernel
theorem dX1_commit_59 : decode cX1_commit 59 = .ok (.iload_n 1, 1) := by decide +kernel
theorem dX1_commit_60 : decode cX1_commit 60 = .ok (.ireturn, 1) := by decide +kernel
/-- WriteOnceDisc.commit()I -/
def wX1_commit (x0 : Nat) (σ : Hp) (post : Int32 → Hp → Prop) : Prop :=
(tg_ σ x0 = 1 ∧ (tg_ σ (fR_ σ 0 0 x0) = 2 ∧ (((fI_ σ 1 2 (fR_ σ 0 0 x0)) = 0 →
  (tg_ σ (fR_ σ 0 1 x0) = 3 ∧ (∃ mc5 ms6 : Nat, (mc5 ≤ bc_ σ ∧ (ms6 ≤ bs_ σ ∧ (wX3_commit (fR_ σ 0 1 x0) (fR_ σ 0 2 x0) (fR_ σ 0 2 x0) (fR_ σ 0 4 x0) ((fI_ σ 0 9 x0) + (1 : Int32)) (bu_ σ mc5 ms6) (fun r9 σ10 => (∀ σ11, σ11 = bu_ σ10 (bc_ σ - mc5) (bs_ σ - ms6) → (tg_ σ11 x0 = 1 ∧ ((¬ r9 = ((fI_ σ11 0 9 x0) + (1 : Int32)) →
   post r9 σ11) ∧
  (r9 = ((fI_ σ11 0 9 x0) + (1 : Int32)) →
   (∀ σ14, σ14 = sI_ σ11 0 9 x0 ((fI_ σ11 0 9 x0) + (1 : Int32)) → post r9 σ14)))))))))))) ∧
 (¬ (fI_ σ 1 2 (fR_ σ 0 0 x0)) = 0 →
  post (-4 : Int32) σ))))
set_option maxHeartbeats 4000000 in
theorem sX1_commit {G : GG_} {p : Program} {l : Launch} {e : Env} {R : Room} {s : State} {m : MethodId} {args : Array Value} {below : List Frame} {meth : Method} {c : Code} {mc ms : Nat} (Y : MX_ G p R s m args meth c cX1_commit 2 RX1 (some Jvm.ClassFile.FieldType.int) 11 287 mc ms "commit") {post : Int32 → Hp → Prop} {x0 : Nat} {σ : Hp} (hf : wX1_commit x0 σ post) : WG_ G p l e R s m args below meth c (MQ below (QI_ G post) args s mc ms (FR_ G)) (BU_ R) 2 0 [(0, rv_ x0)] [] σ := by
  have ⟨X, hlk, hr, hRf, hRl, hRc, hnm⟩ := Y
  have ⟨⟨hx, hb, _, hown, hts⟩, _, _⟩ := X
  intro H locs cells slots ls hP hL hB hl
  unfold wX1_commit at hf
  refine p_aload_n hx hb dX1_commit_0 rfl (lv_at hl 0 rfl) ?_
  obtain ⟨ht1, hf⟩ := hf
  refine p_gR X cf0_ (k := 0) (by decide) rfl hP ht1 q626 (fun _ h => h) dX1_commit_1 ?_
  obtain ⟨ht2, hf⟩ := hf
  refine p_gI X cf1_ (k := 2) (by decide) rfl hP ht2 q133 (fun _ h => h) dX1_commit_4 ?_
  refine lv_if_eq (tgt := 13) hx hb dX1_commit_7 (by decide) (fun c3 => ?_) (fun c3 => ?_)
  · have hf := hf.1 c3
    refine p_aload_n hx hb dX1_commit_13 rfl (lv_at hl 0 rfl) ?_
    refine p_gR X cf0_ (k := 1) (by decide) rfl hP ht1 q627 (fun _ h => h) dX1_commit_14 ?_
    refine p_aload_n hx hb dX1_commit_17 rfl (lv_at hl 0 rfl) ?_
    refine p_gR X cf0_ (k := 2) (by decide) rfl hP ht1 q628 (fun _ h => h) dX1_commit_18 ?_
    refine p_aload_n hx hb dX1_commit_21 rfl (lv_at hl 0 rfl) ?_
    refine p_gR X cf0_ (k := 2) (by decide) rfl hP ht1 q628 (fun _ h => h) dX1_commit_22 ?_
    refine p_aload_n hx hb dX1_commit_25 rfl (lv_at hl 0 rfl) ?_
    refine p_gR X cf0_ (k := 4) (by decide) rfl hP ht1 q630 (fun _ h => h) dX1_commit_26 ?_
    refine p_aload_n hx hb dX1_commit_29 rfl (lv_at hl 0 rfl) ?_
    refine p_gI X cf0_ (k := 9) (by decide) rfl hP ht1 q635 (fun _ h => h) dX1_commit_30 ?_
    refine lv_iconst (v := 1) hx hb dX1_commit_33 (by decide) ?_
    refine lv_iadd hx hb dX1_commit_34 ?_
    obtain ⟨ht4, hf⟩ := hf
    obtain ⟨mc5, ms6, hf⟩ := hf
    obtain ⟨hb7, hf⟩ := hf
    obtain ⟨hb8, hf⟩ := hf
    refine p_calli hL (p_runV X cf2_ (Pic_bu hP mc5 ms6) ht4 (metX3_commit l G _ _ _ _ _ _ _ _ _ X.2.2 hf) (cwV 4 hts (lw_V q806 q807 q808 q87 q809) rfl rfl rfl (by decide +kernel) ⟨Nat.le_trans (Nat.le_of_ble_eq_true rfl) hRf, Nat.le_trans (Nat.le_of_ble_eq_true rfl) hRl⟩) rfl hl.1 rfl (by decide) dX1_commit_35 (BU_call hB hb7 hb8)) (fun r9 σ10 H locs hf hP hL => ?_)
    have hB := BU_back (τ := σ10) hB hb7 hb8
    have hP := Pic_bu hP (bc_ σ - mc5) (bs_ σ - ms6)
    refine p_nmPB hP hB (fun σ11 hσ11 hP hB => ?_)
    have hf := hf σ11 hσ11
    refine p_istore_n (i := 1) hx hb dX1_commit_38 rfl hl (by decide) ⟨⟨ne_ rfl, Or.inr (rv_cat _)⟩, trivial⟩ (fun ls hl => ?_)
    refine lv_iload_n hx hb dX1_commit_39 rfl (lv_at hl 0 rfl) ?_
    refine p_aload_n hx hb dX1_commit_40 rfl (lv_at hl 1 rfl) ?_
    obtain ⟨ht12, hf⟩ := hf
    refine p_gI X cf0_ (k := 9) (by decide) rfl hP ht12 q635 (fun _ h => h) dX1_commit_41 ?_
    refine lv_iconst (v := 1) hx hb dX1_commit_44 (by decide) ?_
    refine lv_iadd hx hb dX1_commit_45 ?_
    refine lv_icmp_ne (tgt := 59) hx hb dX1_commit_46 (by decide) (fun c13 => ?_) (fun c13 => ?_)
    · have hf := hf.1 c13
      refine lv_iload_n hx hb dX1_commit_59 rfl (lv_at hl 0 rfl) ?_
      exact p_iret X hlk hP hL (BU_le hB hRc).1 (BU_le hB hRc).2 hr dX1_commit_60 hf
    · have hf := hf.2 c13
      refine p_aload_n hx hb dX1_commit_49 rfl (lv_at hl 1 rfl) ?_
      refine lv_dup hx hb dX1_commit_50 (rv_cat _) ?_
      refine p_gI X cf0_ (k := 9) (by decide) rfl hP ht12 q635 (fun _ h => h) dX1_commit_51 ?_
      refine lv_iconst (v := 1) hx hb dX1_commit_54 (by decide) ?_
      refine lv_iadd hx hb dX1_commit_55 ?_
      refine p_pI X cf0_ (k := 9) (by decide) rfl hP hL ht12 (p_ow hP ht12 rfl) q635 (fun _ h => h) (Or.inl rfl) rfl rfl dX1_commit_56 (fun H locs hP hL => ?_)
      refine p_nmPB hP hB (fun σ14 hσ14 hP hB => ?_)
      have hf := hf σ14 hσ14
      have ht12 : tg_ σ14 x0 = 1 := by rw [hσ14]; exact ht12
      refine lv_iload_n hx hb dX1_commit_59 rfl (lv_at hl 0 rfl) ?_
      exact p_iret X hlk hP hL (BU_le hB hRc).1 (BU_le hB hRc).2 hr dX1_commit_60 hf
  · have hf := hf.2 c3
    refine lv_bipush (v := (-4)) hx hb dX1_commit_10 (by decide) ?_
    exact p_iret X hlk hP hL (BU_le hB hRc).1 (BU_le hB hRc).2 hr dX1_commit_12 hf
set_option maxHeartbeats 4000000 in
theorem metX1_commit (l : Launch) (G : GG_) (mc ms : Nat) (x0 : Nat) (σ : Hp) (post : Int32 → Hp → Prop) (hG : GOK_ G) (hf : wX1_commit x0 (bu_ σ mc ms) post) : Met l yX1_commit (ws_ yX1_commit cX1_commit 2 (some Jvm.ClassFile.FieldType.int)) { frames := 11, cells := mc, slots := ms, locals := 287 } (PC_ G [rv_ x0] (bu_ σ mc ms)) (QI_ G post) mc ms (FR_ G) := by
  refine Met.ofW (cc := cX1_commit) (maxL := 2) (ret := (some Jvm.ClassFile.FieldType.int)) (by decide) rfl ?_
  intro p e s m args below meth c s₁ B hml hv
  obtain ⟨rfl, hP, hW⟩ := hv
  have hts := atoms_spec (ws := ws_ yX1_commit cX1_commit 2 (some Jvm.ClassFile.FieldType.int)) B.pre
  have hts : ∀ w ∈ lw_all, w.before _ s = true := fun w h => hts w (List.mem_cons_of_mem _ h)
  rw [lg_entry_eq]
  have hl := en_entry [rv_ x0] [1] (n := 2) (ca_r ca_n) (by decide)
  exact sX1_commit ⟨⟨⟨B.exec, B.bytes, hml, findClass_of_methodNamed B.named, hts⟩, hW, hG⟩, B.notSynchronized, B.returns, Nat.le_refl _, Nat.le_refl _, ⟨rfl, rfl⟩, (name_of_methodNamed B.named B.method).1⟩ hf _ _ _ _ _ hP (LO_nil G) (BU_in ⟨rfl, rfl⟩) hl
abbrev cX7_at : ByteArray := prog_4_method_4_code
def yX7_at : MethodName := ⟨RX7, "at", "(J)I"⟩
theorem dX7_at_0 : decode cX7_at 0 = .ok (.aload_n 0, 1) := by decide +kernel
theorem dX7_at_1 : decode cX7_at 1 = .ok (.getfield 15, 3) := by decide +kernel
theorem dX7_at_4 : decode cX7_at 4 = .ok (.lload_n 1, 1) := by decide +kernel
theorem dX7_at_5 : decode cX7_at 5 = .ok (.l2i, 1) := by decide +kernel
theorem dX7_at_6 : decode cX7_at 6 = .ok (.baload, 1) := by decide +kernel
theorem dX7_at_7 : decode cX7_at 7 = .ok (.sipush 255, 3) := by decide +kernel
theorem dX7_at_10 : decode cX7_at 10 = .ok (.iand, 1) := by decide +kernel
theorem dX7_at_11 : decode cX7_at 11 = .ok (.ireturn, 1) := by decide +kernel
/-- WriteOnceDisc$Medium.at(J)I -/
def wX7_at (x0 : Nat) (x1 : Int64) (σ : Hp) (post : Int32 → Prop) : Prop :=
(tg_ σ x0 = 7 ∧ (tg_ σ (fR_ σ 6 1 x0) = 100 ∧ (vp_in (x1).toInt32 (ln_ σ (fR_ σ 6 1 x0)) ∧ post ((aI_ σ (fR_ σ 6 1 x0) ((x1).toInt32).toNatClampNeg) &&& (255 : Int32)))))
set_option maxHeartbeats 4000000 in
theorem sX7_at {G : GG_} {p : Program} {l : Launch} {e : Env} {R : Room} {s : State} {m : MethodId} {args : Array Value} {below : List Frame} {meth : Method} {c : Code} (Y : MX_ G p R s m args meth c cX7_at 3 RX7 (some Jvm.ClassFile.FieldType.int) 1 20 0 0 "at") {post : Int32 → Prop} {x0 : Nat} {x1 : Int64} {σ : Hp} (hf : wX7_at x0 x1 σ post) : WG_ G p l e R s m args below meth c (MQ below (QI_ G (fun r τ => τ = σ ∧ post r)) args s 0 0 (FR_ G)) BN_ 3 0 [(0, rv_ x0), (1, .long x1)] [] σ := by
  have ⟨X, hlk, hr, hRf, hRl, hRc, hnm⟩ := Y
  have ⟨⟨hx, hb, _, hown, hts⟩, _, _⟩ := X
  intro H locs cells slots ls hP hL hB hl
  obtain ⟨rfl, rfl⟩ := hB
  unfold wX7_at at hf
  refine p_aload_n hx hb dX7_at_0 rfl (lv_at hl 0 rfl) ?_
  obtain ⟨ht1, hf⟩ := hf
  refine p_gR X cf6_ (k := 1) (by decide) rfl hP ht1 q560 (fun _ h => h) dX7_at_1 ?_
  refine lv_lload_n hx hb dX7_at_4 rfl (lv_at hl 1 rfl) ?_
  refine lv_l2i hx hb dX7_at_5 rfl ?_
  obtain ⟨ht2, hf⟩ := hf
  obtain ⟨hi3, hf⟩ := hf
  refine p_bald X hP ht2 hi3 dX7_at_6 ?_
  refine lv_sipush (v := 255) hx hb dX7_at_7 (by decide) ?_
  refine lv_iand hx hb dX7_at_10 ?_
  exact p_iret X hlk hP hL (Nat.le_refl _) (Nat.le_refl _) hr dX7_at_11 ⟨rfl, hf⟩
set_option maxHeartbeats 4000000 in
theorem metX7_at (l : Launch) (G : GG_) (x0 : Nat) (x1 : Int64) (σ : Hp) (post : Int32 → Prop) (hG : GOK_ G) (hf : wX7_at x0 x1 σ post) : Met l yX7_at (ws_ yX7_at cX7_at 3 (some Jvm.ClassFile.FieldType.int)) { frames := 1, cells := 0, slots := 0, locals := 20 } (PC_ G [rv_ x0, .long x1] σ) (QI_ G (fun r τ => τ = σ ∧ post r)) 0 0 (FR_ G) := by
  refine Met.ofW (cc := cX7_at) (maxL := 3) (ret := (some Jvm.ClassFile.FieldType.int)) (by decide) rfl ?_
  intro p e s m args below meth c s₁ B hml hv
  obtain ⟨rfl, hP, hW⟩ := hv
  have hts := atoms_spec (ws := ws_ yX7_at cX7_at 3 (some Jvm.ClassFile.FieldType.int)) B.pre
  have hts : ∀ w ∈ lw_all, w.before _ s = true := fun w h => hts w (List.mem_cons_of_mem _ h)
  rw [lg_entry_eq]
  have hl := en_entry [rv_ x0, .long x1] [1, 2] (n := 3) (ca_r (ca_l ca_n)) (by decide)
  exact sX7_at ⟨⟨⟨B.exec, B.bytes, hml, findClass_of_methodNamed B.named, hts⟩, hW, hG⟩, B.notSynchronized, B.returns, Nat.le_refl _, Nat.le_refl _, ⟨rfl, rfl⟩, (name_of_methodNamed B.named B.method).1⟩ hf _ _ _ _ _ hP (LO_nil G) ⟨rfl, rfl⟩ hl
abbrev cX7_says : ByteArray := prog_4_method_7_code
def yX7_says : MethodName := ⟨RX7, "says", "(JLjava/lang/String;)Z"⟩
theorem dX7_says_0 : decode cX7_says 0 = .ok (.iconst 1, 1) := by decide +kernel
theorem dX7_says_1 : decode cX7_says 1 = .ok (.istore 4, 2) := by decide +kernel
theorem dX7_says_3 : decode cX7_says 3 = .ok (.iconst 0, 1) := by decide +kernel
theorem dX7_says_4 : decode cX7_says 4 = .ok (.istore 5, 2) := by decide +kernel
theorem dX7_says_6 : decode cX7_says 6 = .ok (.iload 5, 2) := by decide +kernel
theorem dX7_says_8 : decode cX7_says 8 = .ok (.aload_n 3, 1) := by decide +kernel
theorem dX7_says_9 : decode cX7_says 9 = .ok (.invokevirtual 31, 3) := by decide +kernel
theorem dX7_says_12 : decode cX7_says 12 = .ok (.if_icmp .ge 39, 3) := by decide +kernel
theorem dX7_says_15 : decode cX7_says 15 = .ok (.iload 4, 2) := by decide +kernel
theorem dX7_says_17 : decode cX7_says 17 = .ok (.ifCond .eq 34, 3) := by decide +kernel
theorem dX7_says_20 : decode cX7_says 20 = .ok (.aload_n 0, 1) := by decide +kernel
theorem dX7_says_21 : decode cX7_says 21 = .ok (.lload_n 1, 1) := by decide +kernel
theorem dX7_says_22 : decode cX7_says 22 = .ok (.iload 5, 2) := by decide +kernel
theorem dX7_says_24 : decode cX7_says 24 = .ok (.i2l, 1) := by decide +kernel
theorem dX7_says_25 : decode cX7_says 25 = .ok (.ladd, 1) := by decide +kernel
theorem dX7_says_26 : decode cX7_says 26 = .ok (.invokevirtual 27, 3) := by decide +kernel
theorem dX7_says_29 : decode cX7_says 29 = .ok (.aload_n 3, 1) := by decide +kernel
theorem dX7_says_30 : decode cX7_says 30 = .ok (.iload 5, 2) := by decide +kernel
theorem dX7_says_32 : decode cX7_says 32 = .ok (.invokevirtual 37, 3) := by decide +kernel
theorem dX7_says_35 : decode cX7_says 35 = .ok (.if_icmp .ne 7, 3) := by decide +kernel
theorem dX7_says_38 : decode cX7_says 38 = .ok (.iconst 1, 1) := by decide +kernel
theorem dX7_says_39 : decode cX7_says 39 = .ok (.goto 4, 3) := by decide +kernel
theorem dX7_says_42 : decode cX7_says 42 = .ok (.iconst 0, 1) := by decide +kernel
theorem dX7_says_43 : decode cX7_says 43 = .ok (.istore 4, 2) := by decide +kernel
theorem dX7_says_45 : decode cX7_says 45 = .ok (.iinc 5 1, 3) := by decide +kernel
theorem dX7_says_48 : decode cX7_says 48 = .ok (.goto (-42), 3) := by decide +kernel
theorem dX7_says_51 : decode cX7_says 51 = .ok (.iload 4, 2) := by decide +kernel
theorem dX7_says_53 : decode cX7_says 53 = .ok (.ireturn, 1) := by decide +kernel
/-- WriteOnceDisc$Medium.says(JLjava/lang/String;)Z -/
def wX7_says_L43 (post : Int32 → Prop) (rc6 : Int32 → Int32 → Prop) (x0 : Nat) (x1 : Int64) (x3 : Nat) (x5 : Int32) (s0 : Int32) (σ : Hp) : Prop :=
(∀ y1 : Int32, y1 = x5 + 1 → rc6 s0 y1)
def wX7_says_B6 (post : Int32 → Prop) (rc6 : Int32 → Int32 → Prop) (x0 : Nat) (x1 : Int64) (x3 : Nat) (x4 : Int32) (x5 : Int32) (σ : Hp) : Prop :=
(tg_ σ x3 = 13 ∧ (wJ5_length x3  σ (fun r3 => ((r3 ≤ x5 →
  (nr_ .boolean x4 ∧ post x4)) ∧
 (¬ r3 ≤ x5 →
  ((x4 = 0 →
   (nr_ .boolean x4 ∧ post x4)) ∧
  (¬ x4 = 0 →
   (tg_ σ x0 = 7 ∧ (wX7_at x0 (x1 + (x5).toInt64) σ (fun r9 => (wJ5_charAt x3 x5 σ (fun r10 => ((¬ r9 = r10 →
    wX7_says_L43 post rc6 x0 x1 x3 x5 (0 : Int32) σ) ∧
   (r9 = r10 →
    wX7_says_L43 post rc6 x0 x1 x3 x5 (1 : Int32) σ))))))))))))))
def wX7_says_L6 (post : Int32 → Prop) (x0 : Nat) (x1 : Int64) (x3 : Nat) (x4 : Int32) (x5 : Int32) (σ : Hp) : Prop :=
 ∃ (I : Int32 → Int32 → Prop) (μ : Int32 → Int32 → Nat), I x4 x5 ∧ ∀ (x4 : Int32) (x5 : Int32), I x4 x5 → wX7_says_B6 post (fun x4' x5' => I x4' x5' ∧ μ x4' x5' < μ x4 x5) x0 x1 x3 x4 x5 σ
def wX7_says (x0 : Nat) (x1 : Int64) (x3 : Nat) (σ : Hp) (post : Int32 → Prop) : Prop :=
wX7_says_L6 post x0 x1 x3 (1 : Int32) (0 : Int32) σ
set_option maxHeartbeats 4000000 in
theorem sX7_says_L43 {G : GG_} {p : Program} {l : Launch} {e : Env} {R : Room} {s : State} {m : MethodId} {args : Array Value} {below : List Frame} {meth : Method} {c : Code} (Y : MX_ G p R s m args meth c cX7_says 6 RX7 (some Jvm.ClassFile.FieldType.boolean) 5 105 0 0 "says") {post : Int32 → Prop} {rc6 : Int32 → Int32 → Prop} {x0 : Nat} {x1 : Int64} {x3 : Nat} {x5 : Int32} {s0 : Int32} {σ : Hp} (hrc6 : ∀ (x4 : Int32) (x5 : Int32), rc6 x4 x5 → WG_ G p l e R s m args below meth c (MQ below (QI_ G (fun r τ => τ = σ ∧ post r)) args s 0 0 (FR_ G)) BN_ 6 6 [(0, rv_ x0), (1, .long x1), (3, rv_ x3), (4, .int x4), (5, .int x5)] [] σ) (hf : wX7_says_L43 post rc6 x0 x1 x3 x5 s0 σ) : WG_ G p l e R s m args below meth c (MQ below (QI_ G (fun r τ => τ = σ ∧ post r)) args s 0 0 (FR_ G)) BN_ 6 43 [(0, rv_ x0), (1, .long x1), (3, rv_ x3), (5, .int x5)] [.int s0] σ := by
  have ⟨X, hlk, hr, hRf, hRl, hRc, hnm⟩ := Y
  have ⟨⟨hx, hb, _, hown, hts⟩, _, _⟩ := X
  intro H locs cells slots ls hP hL hB hl
  obtain ⟨rfl, rfl⟩ := hB
  unfold wX7_says_L43 at hf
  refine p_istore (i := 4) hx hb dX7_says_43 hl (by decide) ⟨⟨ne_ rfl, Or.inl (ne_ rfl)⟩, ⟨⟨ne_ rfl, Or.inl (ne_ rfl)⟩, ⟨⟨ne_ rfl, Or.inr (rv_cat _)⟩, ⟨⟨ne_ rfl, Or.inl (ne_ rfl)⟩, trivial⟩⟩⟩⟩ (fun ls hl => ?_)
  have hl := lv_sub hl [4, 0, 1, 2, 3] rfl
  refine p_iincc (i := 5) (k := 1) hx hb (by decide) dX7_says_45 hl (by decide) ⟨⟨ne_ rfl, Or.inr rfl⟩, ⟨⟨ne_ rfl, Or.inl (ne_ rfl)⟩, ⟨⟨ne_ rfl, Or.inl (ne_ rfl)⟩, ⟨⟨ne_ rfl, Or.inl (ne_ rfl)⟩, trivial⟩⟩⟩⟩ (fun y1 hy1 ls hl => ?_)
  have hf := hf y1 hy1
  refine lv_goto (tgt := 6) hx hb dX7_says_48 (by decide) ?_
  exact hrc6 _ _ hf _ _ _ _ _ hP hL ⟨rfl, rfl⟩ (lv_sub hl [2, 3, 4, 1, 0] rfl)
set_option maxHeartbeats 4000000 in
theorem sX7_says_B6 {G : GG_} {p : Program} {l : Launch} {e : Env} {R : Room} {s : State} {m : MethodId} {args : Array Value} {below : List Frame} {meth : Method} {c : Code} (Y : MX_ G p R s m args meth c cX7_says 6 RX7 (some Jvm.ClassFile.FieldType.boolean) 5 105 0 0 "says") {post : Int32 → Prop} {rc6 : Int32 → Int32 → Prop} {x0 : Nat} {x1 : Int64} {x3 : Nat} {x4 : Int32} {x5 : Int32} {σ : Hp} (hrc6 : ∀ (x4 : Int32) (x5 : Int32), rc6 x4 x5 → WG_ G p l e R s m args below meth c (MQ below (QI_ G (fun r τ => τ = σ ∧ post r)) args s 0 0 (FR_ G)) BN_ 6 6 [(0, rv_ x0), (1, .long x1), (3, rv_ x3), (4, .int x4), (5, .int x5)] [] σ) (hf : wX7_says_B6 post rc6 x0 x1 x3 x4 x5 σ) : WG_ G p l e R s m args below meth c (MQ below (QI_ G (fun r τ => τ = σ ∧ post r)) args s 0 0 (FR_ G)) BN_ 6 6 [(0, rv_ x0), (1, .long x1), (3, rv_ x3), (4, .int x4), (5, .int x5)] [] σ := by
  have ⟨X, hlk, hr, hRf, hRl, hRc, hnm⟩ := Y
  have ⟨⟨hx, hb, _, hown, hts⟩, _, _⟩ := X
  intro H locs cells slots ls hP hL hB hl
  obtain ⟨rfl, rfl⟩ := hB
  unfold wX7_says_B6 at hf
  refine lv_iload hx hb dX7_says_6 (lv_at hl 4 rfl) ?_
  refine p_aload_n hx hb dX7_says_8 rfl (lv_at hl 2 rfl) ?_
  obtain ⟨ht2, hf⟩ := hf
  refine p_calli hL (p_runV X cf12_ hP ht2 (metJ5_length l G _ _ _ X.2.2 hf) (cwV 0 hts (lw_V q965 q332 q333 q96 q334) rfl rfl rfl (by decide +kernel) ⟨Nat.le_trans (Nat.le_of_ble_eq_true rfl) hRf, Nat.le_trans (Nat.le_of_ble_eq_true rfl) hRl⟩) rfl hl.1 rfl (by rw [(ca_i ca_n)]; decide) dX7_says_9 ⟨Nat.zero_le _, Nat.zero_le _⟩) (fun r3 σ₁ H locs hf hP hL => ?_)
  obtain ⟨e₁, hf⟩ := hf
  rw [e₁] at hP
  refine lv_icmp_ge (tgt := 51) hx hb dX7_says_12 (by decide) (fun c4 => ?_) (fun c4 => ?_)
  · have hf := hf.1 c4
    refine lv_iload hx hb dX7_says_51 (lv_at hl 3 rfl) ?_
    obtain ⟨hn5, hf⟩ := hf
    exact p_zret X hlk hP hL (Nat.le_refl _) (Nat.le_refl _) hr hn5 dX7_says_53 ⟨rfl, hf⟩
  · have hf := hf.2 c4
    refine lv_iload hx hb dX7_says_15 (lv_at hl 3 rfl) ?_
    refine lv_if_eq (tgt := 51) hx hb dX7_says_17 (by decide) (fun c6 => ?_) (fun c6 => ?_)
    · have hf := hf.1 c6
      refine lv_iload hx hb dX7_says_51 (lv_at hl 3 rfl) ?_
      obtain ⟨hn7, hf⟩ := hf
      exact p_zret X hlk hP hL (Nat.le_refl _) (Nat.le_refl _) hr hn7 dX7_says_53 ⟨rfl, hf⟩
    · have hf := hf.2 c6
      refine p_aload_n hx hb dX7_says_20 rfl (lv_at hl 0 rfl) ?_
      refine lv_lload_n hx hb dX7_says_21 rfl (lv_at hl 1 rfl) ?_
      refine lv_iload hx hb dX7_says_22 (lv_at hl 4 rfl) ?_
      refine lv_i2l hx hb dX7_says_24 rfl ?_
      refine lv_ladd hx hb dX7_says_25 ?_
      obtain ⟨ht8, hf⟩ := hf
      refine p_calli hL (p_runV X cf6_ hP ht8 (metX7_at l G _ _ _ _ X.2.2 hf) (cwV 1 hts (lw_V q966 q967 q968 q104 q969) rfl rfl rfl (by decide +kernel) ⟨Nat.le_trans (Nat.le_of_ble_eq_true rfl) hRf, Nat.le_trans (Nat.le_of_ble_eq_true rfl) hRl⟩) rfl hl.1 rfl (by decide) dX7_says_26 ⟨Nat.zero_le _, Nat.zero_le _⟩) (fun r9 σ₁ H locs hf hP hL => ?_)
      obtain ⟨e₁, hf⟩ := hf
      rw [e₁] at hP
      refine p_aload_n hx hb dX7_says_29 rfl (lv_at hl 2 rfl) ?_
      refine lv_iload hx hb dX7_says_30 (lv_at hl 4 rfl) ?_
      refine p_calli hL (p_runV X cf12_ hP ht2 (metJ5_charAt l G _ _ _ _ X.2.2 hf) (cwV 1 hts (lw_V q970 q863 q864 q96 q865) rfl rfl rfl (by decide +kernel) ⟨Nat.le_trans (Nat.le_of_ble_eq_true rfl) hRf, Nat.le_trans (Nat.le_of_ble_eq_true rfl) hRl⟩) rfl hl.1 rfl (by rw [(ca_i ca_n)]; decide) dX7_says_32 ⟨Nat.zero_le _, Nat.zero_le _⟩) (fun r10 σ₁ H locs hf hP hL => ?_)
      obtain ⟨e₁, hf⟩ := hf
      rw [e₁] at hP
      refine lv_icmp_ne (tgt := 42) hx hb dX7_says_35 (by decide) (fun c11 => ?_) (fun c11 => ?_)
      · have hf := hf.1 c11
        refine lv_iconst (v := 0) hx hb dX7_says_42 (by decide) ?_
        exact sX7_says_L43 Y hrc6 hf _ _ _ _ _ hP hL ⟨rfl, rfl⟩ (lv_sub hl [0, 1, 2, 4] rfl)
      · have hf := hf.2 c11
        refine lv_iconst (v := 1) hx hb dX7_says_38 (by decide) ?_
        refine lv_goto (tgt := 43) hx hb dX7_says_39 (by decide) ?_
        exact sX7_says_L43 Y hrc6 hf _ _ _ _ _ hP hL ⟨rfl, rfl⟩ (lv_sub hl [0, 1, 2, 4] rfl)
set_option maxHeartbeats 4000000 in
theorem sX7_says_L6 {G : GG_} {p : Program} {l : Launch} {e : Env} {R : Room} {s : State} {m : MethodId} {args : Array Value} {below : List Frame} {meth : Method} {c : Code} (Y : MX_ G p R s m args meth c cX7_says 6 RX7 (some Jvm.ClassFile.FieldType.boolean) 5 105 0 0 "says") {post : Int32 → Prop} {x0 : Nat} {x1 : Int64} {x3 : Nat} {x4 : Int32} {x5 : Int32} {σ : Hp} (hf : wX7_says_L6 post x0 x1 x3 x4 x5 σ) : WG_ G p l e R s m args below meth c (MQ below (QI_ G (fun r τ => τ = σ ∧ post r)) args s 0 0 (FR_ G)) BN_ 6 6 [(0, rv_ x0), (1, .long x1), (3, rv_ x3), (4, .int x4), (5, .int x5)] [] σ := by
  unfold wX7_says_L6 at hf
  obtain ⟨I, μ, h0, hI⟩ := hf
  have key : ∀ (n : Nat) (x4 : Int32) (x5 : Int32), I x4 x5 → μ x4 x5 < n → WG_ G p l e R s m args below meth c (MQ below (QI_ G (fun r τ => τ = σ ∧ post r)) args s 0 0 (FR_ G)) BN_ 6 6 [(0, rv_ x0), (1, .long x1), (3, rv_ x3), (4, .int x4), (5, .int x5)] [] σ := by
    intro n
    induction n with
    | zero => intro x4 x5 _ h; exact absurd h (Nat.not_lt_zero _)
    | succ n ih => intro x4 x5 hi hn; exact sX7_says_B6 Y (fun x4' x5' h => ih x4' x5' h.1 (Nat.lt_of_lt_of_le h.2 (Nat.le_of_lt_succ hn))) (hI x4 x5 hi)
  exact key _ _ _ h0 (Nat.lt_succ_self _)
set_option maxHeartbeats 4000000 in
theorem sX7_says {G : GG_} {p : Program} {l : Launch} {e : Env} {R : Room} {s : State} {m : MethodId} {args : Array Value} {below : List Frame} {meth : Method} {c : Code} (Y : MX_ G p R s m args meth c cX7_says 6 RX7 (some Jvm.ClassFile.FieldType.boolean) 5 105 0 0 "says") {post : Int32 → Prop} {x0 : Nat} {x1 : Int64} {x3 : Nat} {σ : Hp} (hf : wX7_says x0 x1 x3 σ post) : WG_ G p l e R s m args below meth c (MQ below (QI_ G (fun r τ => τ = σ ∧ post r)) args s 0 0 (FR_ G)) BN_ 6 0 [(0, rv_ x0), (1, .long x1), (3, rv_ x3)] [] σ := by
  have ⟨X, hlk, hr, hRf, hRl, hRc, hnm⟩ := Y
  have ⟨⟨hx, hb, _, hown, hts⟩, _, _⟩ := X
  intro H locs cells slots ls hP hL hB hl
  obtain ⟨rfl, rfl⟩ := hB
  unfold wX7_says at hf
  refine lv_iconst (v := 1) hx hb dX7_says_0 (by decide) ?_
  refine p_istore (i := 4) hx hb dX7_says_1 hl (by decide) ⟨⟨ne_ rfl, Or.inl (ne_ rfl)⟩, ⟨⟨ne_ rfl, Or.inl (ne_ rfl)⟩, ⟨⟨ne_ rfl, Or.inr (rv_cat _)⟩, trivial⟩⟩⟩ (fun ls hl => ?_)
  refine lv_iconst (v := 0) hx hb dX7_says_3 (by decide) ?_
  refine p_istore (i := 5) hx hb dX7_says_4 hl (by decide) ⟨⟨ne_ rfl, Or.inr rfl⟩, ⟨⟨ne_ rfl, Or.inl (ne_ rfl)⟩, ⟨⟨ne_ rfl, Or.inl (ne_ rfl)⟩, ⟨⟨ne_ rfl, Or.inl (ne_ rfl)⟩, trivial⟩⟩⟩⟩ (fun ls hl => ?_)
  exact sX7_says_L6 Y hf _ _ _ _ _ hP hL ⟨rfl, rfl⟩ (lv_sub hl [2, 3, 4, 1, 0] rfl)
set_option maxHeartbeats 4000000 in
theorem metX7_says (l : Launch) (G : GG_) (x0 : Nat) (x1 : Int64) (x3 : Nat) (σ : Hp) (post : Int32 → Prop) (hG : GOK_ G) (hf : wX7_says x0 x1 x3 σ post) : Met l yX7_says (ws_ yX7_says cX7_says 6 (some Jvm.ClassFile.FieldType.boolean)) { frames := 5, cells := 0, slots := 0, locals := 105 } (PC_ G [rv_ x0, .long x1, rv_ x3] σ) (QI_ G (fun r τ => τ = σ ∧ post r)) 0 0 (FR_ G) := by
  refine Met.ofW (cc := cX7_says) (maxL := 6) (ret := (some Jvm.ClassFile.FieldType.boolean)) (by decide) rfl ?_
  intro p e s m args below meth c s₁ B hml hv
  obtain ⟨rfl, hP, hW⟩ := hv
  have hts := atoms_spec (ws := ws_ yX7_says cX7_says 6 (some Jvm.ClassFile.FieldType.boolean)) B.pre
  have hts : ∀ w ∈ lw_all, w.before _ s = true := fun w h => hts w (List.mem_cons_of_mem _ h)
  rw [lg_entry_eq]
  have hl := en_entry [rv_ x0, .long x1, rv_ x3] [1, 2, 1] (n := 6) (ca_r (ca_l (ca_r ca_n))) (by decide)
  exact sX7_says ⟨⟨⟨B.exec, B.bytes, hml, findClass_of_methodNamed B.named, hts⟩, hW, hG⟩, B.notSynchronized, B.returns, Nat.le_refl _, Nat.le_refl _, ⟨rfl, rfl⟩, (name_of_methodNamed B.named B.method).1⟩ hf _ _ _ _ _ hP (LO_nil G) ⟨rfl, rfl⟩ hl
abbrev cX7_low : ByteArray := prog_4_method_5_code
def yX7_low : MethodName := ⟨RX7, "low", "(JI)I"⟩
theorem dX7_low_0 : decode cX7_low 0 = .ok (.iconst 0, 1) := by decide +kernel
theorem dX7_low_1 : decode cX7_low 1 = .ok (.istore 4, 2) := by decide +kernel
theorem dX7_low_3 : decode cX7_low 3 = .ok (.iload_n 3, 1) := by decide +kernel
theorem dX7_low_4 : decode cX7_low 4 = .ok (.iconst 1, 1) := by decide +kernel
theorem dX7_low_5 : decode cX7_low 5 = .ok (.isub, 1) := by decide +kernel
theorem dX7_low_6 : decode cX7_low 6 = .ok (.istore 5, 2) := by decide +kernel
theorem dX7_low_8 : decode cX7_low 8 = .ok (.iload 5, 2) := by decide +kernel
theorem dX7_low_10 : decode cX7_low 10 = .ok (.ifCond .lt 26, 3) := by decide +kernel
theorem dX7_low_13 : decode cX7_low 13 = .ok (.iload 4, 2) := by decide +kernel
theorem dX7_low_15 : decode cX7_low 15 = .ok (.bipush 8, 2) := by decide +kernel
theorem dX7_low_17 : decode cX7_low 17 = .ok (.ishl, 1) := by decide +kernel
theorem dX7_low_18 : decode cX7_low 18 = .ok (.aload_n 0, 1) := by decide +kernel
theorem dX7_low_19 : decode cX7_low 19 = .ok (.lload_n 1, 1) := by decide +kernel
theorem dX7_low_20 : decode cX7_low 20 = .ok (.iload 5, 2) := by decide +kernel
theorem dX7_low_22 : decode cX7_low 22 = .ok (.i2l, 1) := by decide +kernel
theorem dX7_low_23 : decode cX7_low 23 = .ok (.ladd, 1) := by decide +kernel
theorem dX7_low_24 : decode cX7_low 24 = .ok (.invokevirtual 27, 3) := by decide +kernel
theorem dX7_low_27 : decode cX7_low 27 = .ok (.ior, 1) := by decide +kernel
theorem dX7_low_28 : decode cX7_low 28 = .ok (.istore 4, 2) := by decide +kernel
theorem dX7_low_30 : decode cX7_low 30 = .ok (.iinc 5 (-1), 3) := by decide +kernel
theorem dX7_low_33 : decode cX7_low 33 = .ok (.goto (-25), 3) := by decide +kernel
theorem dX7_low_36 : decode cX7_low 36 = .ok (.iload 4, 2) := by decide +kernel
theorem dX7_low_38 : decode cX7_low 38 = .ok (.ireturn, 1) := by decide +kernel
/-- WriteOnceDisc$Medium.low(JI)I -/
def wX7_low_B8 (post : Int32 → Prop) (rc8 : Int32 → Int32 → Prop) (x0 : Nat) (x1 : Int64) (x4 : Int32) (x5 : Int32) (σ : Hp) : Prop :=
((x5 < 0 →
  post x4) ∧
 (¬ x5 < 0 →
  (tg_ σ x0 = 7 ∧ (wX7_at x0 (x1 + (x5).toInt64) σ (fun r3 => (∀ y4 : Int32, y4 = ((x4 <<< ((8 : Int32) &&& 31)) ||| r3) → (∀ y5 : Int32, y5 = x5 + (-1) → rc8 y4 y5)))))))
def wX7_low_L8 (post : Int32 → Prop) (x0 : Nat) (x1 : Int64) (x4 : Int32) (x5 : Int32) (σ : Hp) : Prop :=
 ∃ (I : Int32 → Int32 → Prop) (μ : Int32 → Int32 → Nat), I x4 x5 ∧ ∀ (x4 : Int32) (x5 : Int32), I x4 x5 → wX7_low_B8 post (fun x4' x5' => I x4' x5' ∧ μ x4' x5' < μ x4 x5) x0 x1 x4 x5 σ
def wX7_low (x0 : Nat) (x1 : Int64) (x3 : Int32) (σ : Hp) (post : Int32 → Prop) : Prop :=
(∀ y6 : Int32, y6 = (x3 - (1 : Int32)) → wX7_low_L8 post x0 x1 (0 : Int32) y6 σ)
set_option maxHeartbeats 4000000 in
theorem sX7_low_B8 {G : GG_} {p : Program} {l : Launch} {e : Env} {R : Room} {s : State} {m : MethodId} {args : Array Value} {below : List Frame} {meth : Method} {c : Code} (Y : MX_ G p R s m args meth c cX7_low 6 RX7 (some Jvm.ClassFile.FieldType.int) 2 42 0 0 "low") {post : Int32 → Prop} {rc8 : Int32 → Int32 → Prop} {x0 : Nat} {x1 : Int64} {x4 : Int32} {x5 : Int32} {σ : Hp} (hrc8 : ∀ (x4 : Int32) (x5 : Int32), rc8 x4 x5 → WG_ G p l e R s m args below meth c (MQ below (QI_ G (fun r τ => τ = σ ∧ post r)) args s 0 0 (FR_ G)) BN_ 6 8 [(0, rv_ x0), (1, .long x1), (4, .int x4), (5, .int x5)] [] σ) (hf : wX7_low_B8 post rc8 x0 x1 x4 x5 σ) : WG_ G p l e R s m args below meth c (MQ below (QI_ G (fun r τ => τ = σ ∧ post r)) args s 0 0 (FR_ G)) BN_ 6 8 [(0, rv_ x0), (1, .long x1), (4, .int x4), (5, .int x5)] [] σ := by
  have ⟨X, hlk, hr, hRf, hRl, hRc, hnm⟩ := Y
  have ⟨⟨hx, hb, _, hown, hts⟩, _, _⟩ := X
  intro H locs cells slots ls hP hL hB hl
  obtain ⟨rfl, rfl⟩ := hB
  unfold wX7_low_B8 at hf
  refine lv_iload hx hb dX7_low_8 (lv_at hl 3 rfl) ?_
  refine lv_if_lt (tgt := 36) hx hb dX7_low_10 (by decide) (fun c1 => ?_) (fun c1 => ?_)
  · have hf := hf.1 c1
    refine lv_iload hx hb dX7_low_36 (lv_at hl 2 rfl) ?_
    exact p_iret X hlk hP hL (Nat.le_refl _) (Nat.le_refl _) hr dX7_low_38 ⟨rfl, hf⟩
  · have hf := hf.2 c1
    refine lv_iload hx hb dX7_low_13 (lv_at hl 2 rfl) ?_
    refine lv_bipush (v := 8) hx hb dX7_low_15 (by decide) ?_
    refine lv_ishl hx hb dX7_low_17 ?_
    refine p_aload_n hx hb dX7_low_18 rfl (lv_at hl 0 rfl) ?_
    refine lv_lload_n hx hb dX7_low_19 rfl (lv_at hl 1 rfl) ?_
    refine lv_iload hx hb dX7_low_20 (lv_at hl 3 rfl) ?_
    refine lv_i2l hx hb dX7_low_22 rfl ?_
    refine lv_ladd hx hb dX7_low_23 ?_
    obtain ⟨ht2, hf⟩ := hf
    refine p_calli hL (p_runV X cf6_ hP ht2 (metX7_at l G _ _ _ _ X.2.2 hf) (cwV 1 hts (lw_V q966 q967 q968 q104 q969) rfl rfl rfl (by decide +kernel) ⟨Nat.le_trans (Nat.le_of_ble_eq_true rfl) hRf, Nat.le_trans (Nat.le_of_ble_eq_true rfl) hRl⟩) rfl hl.1 rfl (by rw [(ca_i ca_n)]; decide) dX7_low_24 ⟨Nat.zero_le _, Nat.zero_le _⟩) (fun r3 σ₁ H locs hf hP hL => ?_)
    obtain ⟨e₁, hf⟩ := hf
    rw [e₁] at hP
    refine lv_ior hx hb dX7_low_27 ?_
    have hl := lv_sub hl [0, 1, 3] rfl
    refine lv_topi (fun y4 hy4 => ?_)
    have hf := hf y4 hy4
    refine p_istore (i := 4) hx hb dX7_low_28 hl (by decide) ⟨⟨ne_ rfl, Or.inl (ne_ rfl)⟩, ⟨⟨ne_ rfl, Or.inl (ne_ rfl)⟩, ⟨⟨ne_ rfl, Or.inl (ne_ rfl)⟩, trivial⟩⟩⟩ (fun ls hl => ?_)
    have hl := lv_sub hl [3, 0, 1, 2] rfl
    refine p_iincc (i := 5) (k := (-1)) hx hb (by decide) dX7_low_30 hl (by decide) ⟨⟨ne_ rfl, Or.inr rfl⟩, ⟨⟨ne_ rfl, Or.inl (ne_ rfl)⟩, ⟨⟨ne_ rfl, Or.inl (ne_ rfl)⟩, trivial⟩⟩⟩ (fun y5 hy5 ls hl => ?_)
    have hf := hf y5 hy5
    refine lv_goto (tgt := 8) hx hb dX7_low_33 (by decide) ?_
    exact hrc8 _ _ hf _ _ _ _ _ hP hL ⟨rfl, rfl⟩ (lv_sub hl [2, 3, 1, 0] rfl)
set_option maxHeartbeats 4000000 in
theorem sX7_low_L8 {G : GG_} {p : Program} {l : Launch} {e : Env} {R : Room} {s : State} {m : MethodId} {args : Array Value} {below : List Frame} {meth : Method} {c : Code} (Y : MX_ G p R s m args meth c cX7_low 6 RX7 (some Jvm.ClassFile.FieldType.int) 2 42 0 0 "low") {post : Int32 → Prop} {x0 : Nat} {x1 : Int64} {x4 : Int32} {x5 : Int32} {σ : Hp} (hf : wX7_low_L8 post x0 x1 x4 x5 σ) : WG_ G p l e R s m args below meth c (MQ below (QI_ G (fun r τ => τ = σ ∧ post r)) args s 0 0 (FR_ G)) BN_ 6 8 [(0, rv_ x0), (1, .long x1), (4, .int x4), (5, .int x5)] [] σ := by
  unfold wX7_low_L8 at hf
  obtain ⟨I, μ, h0, hI⟩ := hf
  have key : ∀ (n : Nat) (x4 : Int32) (x5 : Int32), I x4 x5 → μ x4 x5 < n → WG_ G p l e R s m args below meth c (MQ below (QI_ G (fun r τ => τ = σ ∧ post r)) args s 0 0 (FR_ G)) BN_ 6 8 [(0, rv_ x0), (1, .long x1), (4, .int x4), (5, .int x5)] [] σ := by
    intro n
    induction n with
    | zero => intro x4 x5 _ h; exact absurd h (Nat.not_lt_zero _)
    | succ n ih => intro x4 x5 hi hn; exact sX7_low_B8 Y (fun x4' x5' h => ih x4' x5' h.1 (Nat.lt_of_lt_of_le h.2 (Nat.le_of_lt_succ hn))) (hI x4 x5 hi)
  exact key _ _ _ h0 (Nat.lt_succ_self _)
set_option maxHeartbeats 4000000 in
theorem sX7_low {G : GG_} {p : Program} {l : Launch} {e : Env} {R : Room} {s : State} {m : MethodId} {args : Array Value} {below : List Frame} {meth : Method} {c : Code} (Y : MX_ G p R s m args meth c cX7_low 6 RX7 (some Jvm.ClassFile.FieldType.int) 2 42 0 0 "low") {post : Int32 → Prop} {x0 : Nat} {x1 : Int64} {x3 : Int32} {σ : Hp} (hf : wX7_low x0 x1 x3 σ post) : WG_ G p l e R s m args below meth c (MQ below (QI_ G (fun r τ => τ = σ ∧ post r)) args s 0 0 (FR_ G)) BN_ 6 0 [(0, rv_ x0), (1, .long x1), (3, .int x3)] [] σ := by
  have ⟨X, hlk, hr, hRf, hRl, hRc, hnm⟩ := Y
  have ⟨⟨hx, hb, _, hown, hts⟩, _, _⟩ := X
  intro H locs cells slots ls hP hL hB hl
  obtain ⟨rfl, rfl⟩ := hB
  unfold wX7_low at hf
  refine lv_iconst (v := 0) hx hb dX7_low_0 (by decide) ?_
  refine p_istore (i := 4) hx hb dX7_low_1 hl (by decide) ⟨⟨ne_ rfl, Or.inl (ne_ rfl)⟩, ⟨⟨ne_ rfl, Or.inl (ne_ rfl)⟩, ⟨⟨ne_ rfl, Or.inr rfl⟩, trivial⟩⟩⟩ (fun ls hl => ?_)
  refine lv_iload_n hx hb dX7_low_3 rfl (lv_at hl 3 rfl) ?_
  refine lv_iconst (v := 1) hx hb dX7_low_4 (by decide) ?_
  refine lv_isub hx hb dX7_low_5 ?_
  have hl := lv_sub hl [0, 1, 2] rfl
  refine lv_topi (fun y6 hy6 => ?_)
  have hf := hf y6 hy6
  refine p_istore (i := 5) hx hb dX7_low_6 hl (by decide) ⟨⟨ne_ rfl, Or.inr rfl⟩, ⟨⟨ne_ rfl, Or.inl (ne_ rfl)⟩, ⟨⟨ne_ rfl, Or.inl (ne_ rfl)⟩, trivial⟩⟩⟩ (fun ls hl => ?_)
  exact sX7_low_L8 Y hf _ _ _ _ _ hP hL ⟨rfl, rfl⟩ (lv_sub hl [2, 3, 1, 0] rfl)
set_option maxHeartbeats 4000000 in
theorem metX7_low (l : Launch) (G : GG_) (x0 : Nat) (x1 : Int64) (x3 : Int32) (σ : Hp) (post : Int32 → Prop) (hG : GOK_ G) (hf : wX7_low x0 x1 x3 σ post) : Met l yX7_low (ws_ yX7_low cX7_low 6 (some Jvm.ClassFile.FieldType.int)) { frames := 2, cells := 0, slots := 0, locals := 42 } (PC_ G [rv_ x0, .long x1, .int x3] σ) (QI_ G (fun r τ => τ = σ ∧ post r)) 0 0 (FR_ G) := by
  refine Met.ofW (cc := cX7_low) (maxL := 6) (ret := (some Jvm.ClassFile.FieldType.int)) (by decide) rfl ?_
  intro p e s m args below meth c s₁ B hml hv
  obtain ⟨rfl, hP, hW⟩ := hv
  have hts := atoms_spec (ws := ws_ yX7_low cX7_low 6 (some Jvm.ClassFile.FieldType.int)) B.pre
  have hts : ∀ w ∈ lw_all, w.before _ s = true := fun w h => hts w (List.mem_cons_of_mem _ h)
  rw [lg_entry_eq]
  have hl := en_entry [rv_ x0, .long x1, .int x3] [1, 2, 1] (n := 6) (ca_r (ca_l (ca_i ca_n))) (by decide)
  exact sX7_low ⟨⟨⟨B.exec, B.bytes, hml, findClass_of_methodNamed B.named, hts⟩, hW, hG⟩, B.notSynchronized, B.returns, Nat.le_refl _, Nat.le_refl _, ⟨rfl, rfl⟩, (name_of_methodNamed B.named B.method).1⟩ hf _ _ _ _ _ hP (LO_nil G) ⟨rfl, rfl⟩ hl
abbrev cX1_marks : ByteArray := prog_1_method_17_code
def yX1_marks : MethodName := ⟨RX1, "marks", "()[I"⟩
theorem dX1_marks_0 : decode cX1_marks 0 = .ok (.aload_n 0, 1) := by decide +kernel
theorem dX1_marks_1 : decode cX1_marks 1 = .ok (.getfield 86, 3) := by decide +kernel
theorem dX1_marks_4 : decode cX1_marks 4 = .ok (.astore_n 1, 1) := by decide +kernel
theorem dX1_marks_5 : decode cX1_marks 5 = .ok (.iconst 0, 1) := by decide +kernel
theorem dX1_marks_6 : decode cX1_marks 6 = .ok (.istore_n 2, 1) := by decide +kernel
theorem dX1_marks_7 : decode cX1_marks 7 = .ok (.iconst 0, 1) := by decide +kernel
theorem dX1_marks_8 : decode cX1_marks 8 = .ok (.istore_n 3, 1) := by decide +kernel
theorem dX1_marks_9 : decode cX1_marks 9 = .ok (.iload_n 3, 1) := by decide +kernel
theorem dX1_marks_10 : decode cX1_marks 10 = .ok (.aload_n 0, 1) := by decide +kernel
theorem dX1_marks_11 : decode cX1_marks 11 = .ok (.getfield 64, 3) := by decide +kernel
theorem dX1_marks_14 : decode cX1_marks 14 = .ok (.getfield 90, 3) := by decide +kernel
theorem dX1_marks_17 : decode cX1_marks 17 = .ok (.if_icmp .ge 92, 3) := by decide +kernel
theorem dX1_marks_20 : decode cX1_marks 20 = .ok (.iload_n 3, 1) := by decide +kernel
theorem dX1_marks_21 : decode cX1_marks 21 = .ok (.i2l, 1) := by decide +kernel
theorem dX1_marks_22 : decode cX1_marks 22 = .ok (.ldc2_w 204, 3) := by decide +kernel
theorem dX1_marks_25 : decode cX1_marks 25 = .ok (.lmul, 1) := by decide +kernel
theorem dX1_marks_26 : decode cX1_marks 26 = .ok (.lstore 4, 2) := by decide +kernel
theorem dX1_marks_28 : decode cX1_marks 28 = .ok (.aload_n 0, 1) := by decide +kernel
theorem dX1_marks_29 : decode cX1_marks 29 = .ok (.getfield 64, 3) := by decide +kernel
theorem dX1_marks_32 : decode cX1_marks 32 = .ok (.getfield 206, 3) := by decide +kernel
theorem dX1_marks_35 : decode cX1_marks 35 = .ok (.iload_n 3, 1) := by decide +kernel
theorem dX1_marks_36 : decode cX1_marks 36 = .ok (.iaload, 1) := by decide +kernel
theorem dX1_marks_37 : decode cX1_marks 37 = .ok (.iconst 1, 1) := by decide +kernel
theorem dX1_marks_38 : decode cX1_marks 38 = .ok (.if_icmp .ne 65, 3) := by decide +kernel
theorem dX1_marks_41 : decode cX1_marks 41 = .ok (.aload_n 0, 1) := by decide +kernel
theorem dX1_marks_42 : decode cX1_marks 42 = .ok (.getfield 64, 3) := by decide +kernel
theorem dX1_marks_45 : decode cX1_marks 45 = .ok (.lload 4, 2) := by decide +kernel
theorem dX1_marks_47 : decode cX1_marks 47 = .ok (.ldc 209, 2) := by decide +kernel
theorem dX1_marks_49 : decode cX1_marks 49 = .ok (.invokevirtual 211, 3) := by decide +kernel
theorem dX1_marks_52 : decode cX1_marks 52 = .ok (.ifCond .eq 51, 3) := by decide +kernel
theorem dX1_marks_55 : decode cX1_marks 55 = .ok (.aload_n 0, 1) := by decide +kernel
theorem dX1_marks_56 : decode cX1_marks 56 = .ok (.getfield 64, 3) := by decide +kernel
theorem dX1_marks_59 : decode cX1_marks 59 = .ok (.lload 4, 2) := by decide +kernel
theorem dX1_marks_61 : decode cX1_marks 61 = .ok (.ldc2_w 215, 3) := by decide +kernel
theorem dX1_marks_64 : decode cX1_marks 64 = .ok (.ladd, 1) := by decide +kernel
theorem dX1_marks_65 : decode cX1_marks 65 = .ok (.iconst 4, 1) := by decide +kernel
theorem dX1_marks_66 : decode cX1_marks 66 = .ok (.invokevirtual 217, 3) := by decide +kernel
theorem dX1_marks_69 : decode cX1_marks 69 = .ok (.iconst 0, 1) := by decide +kernel
theorem dX1_marks_70 : decode cX1_marks 70 = .ok (.iload_n 3, 1) := by decide +kernel
theorem dX1_marks_71 : decode cX1_marks 71 = .ok (.iconst 1, 1) := by decide +kernel
theorem dX1_marks_72 : decode cX1_marks 72 = .ok (.isub, 1) := by decide +kernel
theorem dX1_marks_73 : decode cX1_marks 73 = .ok (.invokestatic 94, 3) := by decide +kernel
theorem dX1_marks_76 : decode cX1_marks 76 = .ok (.ifCond .eq 27, 3) := by decide +kernel
theorem dX1_marks_79 : decode cX1_marks 79 = .ok (.aload_n 0, 1) := by decide +kernel
theorem dX1_marks_80 : decode cX1_marks 80 = .ok (.getfield 64, 3) := by decide +kernel
theorem dX1_marks_83 : decode cX1_marks 83 = .ok (.lload 4, 2) := by decide +kernel
theorem dX1_marks_85 : decode cX1_marks 85 = .ok (.ldc2_w 221, 3) := by decide +kernel
theorem dX1_marks_88 : decode cX1_marks 88 = .ok (.ladd, 1) := by decide +kernel
theorem dX1_marks_89 : decode cX1_marks 89 = .ok (.iconst 4, 1) := by decide +kernel
theorem dX1_marks_90 : decode cX1_marks 90 = .ok (.invokevirtual 217, 3) := by decide +kernel
theorem dX1_marks_93 : decode cX1_marks 93 = .ok (.ifCond .le 10, 3) := by decide +kernel
theorem dX1_marks_96 : decode cX1_marks 96 = .ok (.aload_n 1, 1) := by decide +kernel
theorem dX1_marks_97 : decode cX1_marks 97 = .ok (.iload_n 2, 1) := by decide +kernel
theorem dX1_marks_98 : decode cX1_marks 98 = .ok (.iload_n 3, 1) := by decide +kernel
theorem dX1_marks_99 : decode cX1_marks 99 = .ok (.iastore, 1) := by decide +kernel
theorem dX1_marks_100 : decode cX1_marks 100 = .ok (.iinc 2 1, 3) := by decide +kernel
theorem dX1_marks_103 : decode cX1_marks 103 = .ok (.iinc 3 1, 3) := by decide +kernel
theorem dX1_marks_106 : decode cX1_marks 106 = .ok (.goto (-97), 3) := by decide +kernel
theorem dX1_marks_109 : decode cX1_marks 109 = .ok (.aload_n 1, 1) := by decide +kernel
theorem dX1_marks_110 : decode cX1_marks 110 = .ok (.iload_n 2, 1) := by decide +kernel
theorem dX1_marks_111 : decode cX1_marks 111 = .ok (.iconst (-1), 1) := by decide +kernel
theorem dX1_marks_112 : decode cX1_marks 112 = .ok (.iastore, 1) := by decide +kernel
theorem dX1_marks_113 : decode cX1_marks 113 = .ok (.aload_n 0, 1) := by decide +kernel
theorem dX1_marks_114 : decode cX1_marks 114 = .ok (.iload_n 2, 1) := by decide +kernel
theorem dX1_marks_115 : decode cX1_marks 115 = .ok (.putfield 223, 3) := by decide +kernel
theorem dX1_marks_118 : decode cX1_marks 118 = .ok (.aload_n 1, 1) := by decide +kernel
theorem dX1_marks_119 : decode cX1_marks 119 = .ok (.areturn, 1) := by decide +kernel
/-- WriteOnceDisc.marks()[I -/
def wX1_marks_L103 (post : Nat → Hp → Prop) (rc9 : Int32 → Int32 → Hp → Prop) (x0 : Nat) (x1 : Nat) (x2 : Int32) (x3 : Int32) (σ : Hp) : Prop :=
(∀ y1 : Int32, y1 = x3 + 1 → rc9 x2 y1 σ)
def wX1_marks_B9 (post : Nat → Hp → Prop) (rc9 : Int32 → Int32 → Hp → Prop) (x0 : Nat) (x1 : Nat) (x2 : Int32) (x3 : Int32) (σ : Hp) : Prop :=
(tg_ σ x0 = 1 ∧ (tg_ σ (fR_ σ 0 2 x0) = 7 ∧ (((fI_ σ 6 0 (fR_ σ 0 2 x0)) ≤ x3 →
  (tg_ σ x1 = 102 ∧ (lo_ σ < x1 ∧ (vp_in x2 (ln_ σ x1) ∧ (∀ σ8, σ8 = wI_ σ x1 (x2).toNatClampNeg (-1 : Int32) → (∀ σ9, σ9 = sI_ σ8 0 10 x0 x2 → post x1 σ9)))))) ∧
 (¬ (fI_ σ 6 0 (fR_ σ 0 2 x0)) ≤ x3 →
  (∀ y10 : Int64, y10 = ((x3).toInt64 * (2048 : Int64)) → (tg_ σ (fR_ σ 6 2 (fR_ σ 0 2 x0)) = 102 ∧ (vp_in x3 (ln_ σ (fR_ σ 6 2 (fR_ σ 0 2 x0))) ∧ ((¬ (aI_ σ (fR_ σ 6 2 (fR_ σ 0 2 x0)) (x3).toNatClampNeg) = (1 : Int32) →
   wX1_marks_L103 post rc9 x0 x1 x2 x3 σ) ∧
  ((aI_ σ (fR_ σ 6 2 (fR_ σ 0 2 x0)) (x3).toNatClampNeg) = (1 : Int32) →
   (wX7_says (fR_ σ 0 2 x0) y10 (fR_ σ 101 1 0) σ (fun r14 => ((r14 = 0 →
    wX1_marks_L103 post rc9 x0 x1 x2 x3 σ) ∧
   (¬ r14 = 0 →
    (wX7_low (fR_ σ 0 2 x0) (y10 + (4 : Int64)) (4 : Int32) σ (fun r16 => (wX1_in r16 (0 : Int32) (x3 - (1 : Int32)) σ (fun r17 => ((r17 = 0 →
     wX1_marks_L103 post rc9 x0 x1 x2 x3 σ) ∧
    (¬ r17 = 0 →
     (wX7_low (fR_ σ 0 2 x0) (y10 + (8 : Int64)) (4 : Int32) σ (fun r19 => ((r19 ≤ 0 →
      wX1_marks_L103 post rc9 x0 x1 x2 x3 σ) ∧
     (¬ r19 ≤ 0 →
      (tg_ σ x1 = 102 ∧ (lo_ σ < x1 ∧ (vp_in x2 (ln_ σ x1) ∧ (∀ σ24, σ24 = wI_ σ x1 (x2).toNatClampNeg x3 → (∀ y25 : Int32, y25 = x2 + 1 → wX1_marks_L103 post rc9 x0 x1 y25 x3 σ24))))))))))))))))))))))))))))
def wX1_marks_L9 (post : Nat → Hp → Prop) (x0 : Nat) (x1 : Nat) (x2 : Int32) (x3 : Int32) (σ : Hp) : Prop :=
 ∃ (I : Int32 → Int32 → Hp → Prop) (μ : Int32 → Int32 → Hp → Nat), I x2 x3 σ ∧ ∀ (x2 : Int32) (x3 : Int32) (σ : Hp), I x2 x3 σ → wX1_marks_B9 post (fun x2' x3' σ' => I x2' x3' σ' ∧ μ x2' x3' σ' < μ x2 x3 σ) x0 x1 x2 x3 σ
def wX1_marks (x0 : Nat) (σ : Hp) (post : Nat → Hp → Prop) : Prop :=
(tg_ σ x0 = 1 ∧ (∀ y27 : Nat, y27 = (fR_ σ 0 8 x0) → wX1_marks_L9 post x0 y27 (0 : Int32) (0 : Int32) σ))
set_option maxHeartbeats 4000000 in
theorem sX1_marks_L103 {G : GG_} {p : Program} {l : Launch} {e : Env} {R : Room} {s : State} {m : MethodId} {args : Array Value} {below : List Frame} {meth : Method} {c : Code} (Y : MX_ G p R s m args meth c cX1_marks 6 RX1 (some ((Jvm.ClassFile.FieldType.array Jvm.ClassFile.FieldType.int))) 6 130 0 0 "marks") {post : Nat → Hp → Prop} {rc9 : Int32 → Int32 → Hp → Prop} {x0 : Nat} {x1 : Nat} {x2 : Int32} {x3 : Int32} {σ : Hp} (hrc9 : ∀ (x2 : Int32) (x3 : Int32) (σ : Hp), rc9 x2 x3 σ → WG_ G p l e R s m args below meth c (MQ below (QR_ G post) args s 0 0 (FR_ G)) BN_ 6 9 [(0, rv_ x0), (1, rv_ x1), (2, .int x2), (3, .int x3)] [] σ) (hf : wX1_marks_L103 post rc9 x0 x1 x2 x3 σ) : WG_ G p l e R s m args below meth c (MQ below (QR_ G post) args s 0 0 (FR_ G)) BN_ 6 103 [(0, rv_ x0), (1, rv_ x1), (2, .int x2), (3, .int x3)] [] σ := by
  have ⟨X, hlk, hr, hRf, hRl, hRc, hnm⟩ := Y
  have ⟨⟨hx, hb, _, hown, hts⟩, _, _⟩ := X
  intro H locs cells slots ls hP hL hB hl
  obtain ⟨rfl, rfl⟩ := hB
  unfold wX1_marks_L103 at hf
  have hl := lv_sub hl [3, 0, 1, 2] rfl
  refine p_iincc (i := 3) (k := 1) hx hb (by decide) dX1_marks_103 hl (by decide) ⟨⟨ne_ rfl, Or.inl (ne_ rfl)⟩, ⟨⟨ne_ rfl, Or.inl (ne_ rfl)⟩, ⟨⟨ne_ rfl, Or.inr rfl⟩, trivial⟩⟩⟩ (fun y1 hy1 ls hl => ?_)
  have hf := hf y1 hy1
  refine lv_goto (tgt := 9) hx hb dX1_marks_106 (by decide) ?_
  exact hrc9 _ _ _ hf _ _ _ _ _ hP hL ⟨rfl, rfl⟩ (lv_sub hl [1, 2, 3, 0] rfl)
set_option maxHeartbeats 4000000 in
theorem sX1_marks_B9 {G : GG_} {p : Program} {l : Launch} {e : Env} {R : Room} {s : State} {m : MethodId} {args : Array Value} {below : List Frame} {meth : Method} {c : Code} (Y : MX_ G p R s m args meth c cX1_marks 6 RX1 (some ((Jvm.ClassFile.FieldType.array Jvm.ClassFile.FieldType.int))) 6 130 0 0 "marks") {post : Nat → Hp → Prop} {rc9 : Int32 → Int32 → Hp → Prop} {x0 : Nat} {x1 : Nat} {x2 : Int32} {x3 : Int32} {σ : Hp} (hrc9 : ∀ (x2 : Int32) (x3 : Int32) (σ : Hp), rc9 x2 x3 σ → WG_ G p l e R s m args below meth c (MQ below (QR_ G post) args s 0 0 (FR_ G)) BN_ 6 9 [(0, rv_ x0), (1, rv_ x1), (2, .int x2), (3, .int x3)] [] σ) (hf : wX1_marks_B9 post rc9 x0 x1 x2 x3 σ) : WG_ G p l e R s m args below meth c (MQ below (QR_ G post) args s 0 0 (FR_ G)) BN_ 6 9 [(0, rv_ x0), (1, rv_ x1), (2, .int x2), (3, .int x3)] [] σ := by
  have ⟨X, hlk, hr, hRf, hRl, hRc, hnm⟩ := Y
  have ⟨⟨hx, hb, _, hown, hts⟩, _, _⟩ := X
  intro H locs cells slots ls hP hL hB hl
  obtain ⟨rfl, rfl⟩ := hB
  unfold wX1_marks_B9 at hf
  refine lv_iload_n hx hb dX1_marks_9 rfl (lv_at hl 3 rfl) ?_
  refine p_aload_n hx hb dX1_marks_10 rfl (lv_at hl 0 rfl) ?_
  obtain ⟨ht2, hf⟩ := hf
  refine p_gR X cf0_ (k := 2) (by decide) rfl hP ht2 q628 (fun _ h => h) dX1_marks_11 ?_
  obtain ⟨ht3, hf⟩ := hf
  refine p_gI X cf6_ (k := 0) (by decide) rfl hP ht3 q559 (fun _ h => h) dX1_marks_14 ?_
  refine lv_icmp_ge (tgt := 109) hx hb dX1_marks_17 (by decide) (fun c4 => ?_) (fun c4 => ?_)
  · have hf := hf.1 c4
    refine p_aload_n hx hb dX1_marks_109 rfl (lv_at hl 1 rfl) ?_
    refine lv_iload_n hx hb dX1_marks_110 rfl (lv_at hl 2 rfl) ?_
    refine lv_iconst (v := (-1)) hx hb dX1_marks_111 (by decide) ?_
    obtain ⟨ht5, hf⟩ := hf
    obtain ⟨hlo6, hf⟩ := hf
    obtain ⟨hi7, hf⟩ := hf
    refine p_iast X hP hL ht5 hlo6 hi7 dX1_marks_112 (fun H locs hP hL => ?_)
    refine p_nmP hP (fun σ8 hσ8 hP => ?_)
    have hf := hf σ8 hσ8
    have ht2 : tg_ σ8 x0 = 1 := by rw [hσ8]; exact ht2
    have ht5 : tg_ σ8 x1 = 102 := by rw [hσ8]; exact ht5
    refine p_aload_n hx hb dX1_marks_113 rfl (lv_at hl 0 rfl) ?_
    refine lv_iload_n hx hb dX1_marks_114 rfl (lv_at hl 2 rfl) ?_
    refine p_pI X cf0_ (k := 10) (by decide) rfl hP hL ht2 (p_ow hP ht2 rfl) q636 (fun _ h => h) (Or.inl rfl) rfl rfl dX1_marks_115 (fun H locs hP hL => ?_)
    refine p_nmP hP (fun σ9 hσ9 hP => ?_)
    have hf := hf σ9 hσ9
    have ht2 : tg_ σ9 x0 = 1 := by rw [hσ9]; exact ht2
    have ht5 : tg_ σ9 x1 = 102 := by rw [hσ9]; exact ht5
    refine p_aload_n hx hb dX1_marks_118 rfl (lv_at hl 1 rfl) ?_
    exact p_aret X hlk hP hL (Nat.le_refl _) (Nat.le_refl _) hr (Or.inr ⟨_, rfl⟩) dX1_marks_119 hf
  · have hf := hf.2 c4
    refine lv_iload_n hx hb dX1_marks_20 rfl (lv_at hl 3 rfl) ?_
    refine lv_i2l hx hb dX1_marks_21 rfl ?_
    refine lv_ldc2 hx hb hown (hts _ q959) dX1_marks_22 ?_
    refine lv_lmul hx hb dX1_marks_25 ?_
    refine lv_topl (fun y10 hy10 => ?_)
    have hf := hf y10 hy10
    refine p_lstore (i := 4) hx hb dX1_marks_26 hl (by decide) ⟨⟨ne_ rfl, ne_ rfl, Or.inl (ne_ rfl)⟩, ⟨⟨ne_ rfl, ne_ rfl, Or.inl (ne_ rfl)⟩, ⟨⟨ne_ rfl, ne_ rfl, Or.inl (ne_ rfl)⟩, ⟨⟨ne_ rfl, ne_ rfl, Or.inr rfl⟩, trivial⟩⟩⟩⟩ (fun ls hl => ?_)
    refine p_aload_n hx hb dX1_marks_28 rfl (lv_at hl 1 rfl) ?_
    refine p_gR X cf0_ (k := 2) (by decide) rfl hP ht2 q628 (fun _ h => h) dX1_marks_29 ?_
    refine p_gR X cf6_ (k := 2) (by decide) rfl hP ht3 q565 (fun _ h => h) dX1_marks_32 ?_
    refine lv_iload_n hx hb dX1_marks_35 rfl (lv_at hl 4 rfl) ?_
    obtain ⟨ht11, hf⟩ := hf
    obtain ⟨hi12, hf⟩ := hf
    refine p_iald X hP ht11 hi12 dX1_marks_36 ?_
    refine lv_iconst (v := 1) hx hb dX1_marks_37 (by decide) ?_
    refine lv_icmp_ne (tgt := 103) hx hb dX1_marks_38 (by decide) (fun c13 => ?_) (fun c13 => ?_)
    · have hf := hf.1 c13
      exact sX1_marks_L103 Y hrc9 hf _ _ _ _ _ hP hL ⟨rfl, rfl⟩ (lv_sub hl [1, 2, 3, 4] rfl)
    · have hf := hf.2 c13
      refine p_aload_n hx hb dX1_marks_41 rfl (lv_at hl 1 rfl) ?_
      refine p_gR X cf0_ (k := 2) (by decide) rfl hP ht2 q628 (fun _ h => h) dX1_marks_42 ?_
      refine lv_lload hx hb dX1_marks_45 (lv_at hl 0 rfl) ?_
      refine p_ldcS X hP (j := 1) rfl dX1_marks_47 ?_
      refine p_calli hL (p_runV X cf6_ hP ht3 (metX7_says l G _ _ _ _ _ X.2.2 hf) (cwV 2 hts (lw_V q961 q962 q963 q104 q964) rfl rfl rfl (by decide +kernel) ⟨Nat.le_trans (Nat.le_of_ble_eq_true rfl) hRf, Nat.le_trans (Nat.le_of_ble_eq_true rfl) hRl⟩) rfl hl.1 rfl (by decide) dX1_marks_49 ⟨Nat.zero_le _, Nat.zero_le _⟩) (fun r14 σ₁ H locs hf hP hL => ?_)
      obtain ⟨e₁, hf⟩ := hf
      rw [e₁] at hP
      refine lv_if_eq (tgt := 103) hx hb dX1_marks_52 (by decide) (fun c15 => ?_) (fun c15 => ?_)
      · have hf := hf.1 c15
        exact sX1_marks_L103 Y hrc9 hf _ _ _ _ _ hP hL ⟨rfl, rfl⟩ (lv_sub hl [1, 2, 3, 4] rfl)
      · have hf := hf.2 c15
        refine p_aload_n hx hb dX1_marks_55 rfl (lv_at hl 1 rfl) ?_
        refine p_gR X cf0_ (k := 2) (by decide) rfl hP ht2 q628 (fun _ h => h) dX1_marks_56 ?_
        refine lv_lload hx hb dX1_marks_59 (lv_at hl 0 rfl) ?_
        refine lv_ldc2 hx hb hown (hts _ q971) dX1_marks_61 ?_
        refine lv_ladd hx hb dX1_marks_64 ?_
        refine lv_iconst (v := 4) hx hb dX1_marks_65 (by decide) ?_
        refine p_calli hL (p_runV X cf6_ hP ht3 (metX7_low l G _ _ _ _ _ X.2.2 hf) (cwV 2 hts (lw_V q972 q973 q974 q104 q975) rfl rfl rfl (by decide +kernel) ⟨Nat.le_trans (Nat.le_of_ble_eq_true rfl) hRf, Nat.le_trans (Nat.le_of_ble_eq_true rfl) hRl⟩) rfl hl.1 rfl (by decide) dX1_marks_66 ⟨Nat.zero_le _, Nat.zero_le _⟩) (fun r16 σ₁ H locs hf hP hL => ?_)
        obtain ⟨e₁, hf⟩ := hf
        rw [e₁] at hP
        refine lv_iconst (v := 0) hx hb dX1_marks_69 (by decide) ?_
        refine lv_iload_n hx hb dX1_marks_70 rfl (lv_at hl 4 rfl) ?_
        refine lv_iconst (v := 1) hx hb dX1_marks_71 (by decide) ?_
        refine lv_isub hx hb dX1_marks_72 ?_
        refine p_calli hL (p_runS X hP (metX1_in l G _ _ _ _ _ X.2.2 hf) (va_cwS 3 hts (lw_S q664 q665 q85 q666) rfl rfl rfl (by decide +kernel) ⟨Nat.le_trans (Nat.le_of_ble_eq_true rfl) hRf, Nat.le_trans (Nat.le_of_ble_eq_true rfl) hRl⟩) rfl hl.1 rfl (by decide) dX1_marks_73 ⟨Nat.zero_le _, Nat.zero_le _⟩) (fun r17 σ₁ H locs hf hP hL => ?_)
        obtain ⟨e₁, hf⟩ := hf
        rw [e₁] at hP
        refine lv_if_eq (tgt := 103) hx hb dX1_marks_76 (by decide) (fun c18 => ?_) (fun c18 => ?_)
        · have hf := hf.1 c18
          exact sX1_marks_L103 Y hrc9 hf _ _ _ _ _ hP hL ⟨rfl, rfl⟩ (lv_sub hl [1, 2, 3, 4] rfl)
        · have hf := hf.2 c18
          refine p_aload_n hx hb dX1_marks_79 rfl (lv_at hl 1 rfl) ?_
          refine p_gR X cf0_ (k := 2) (by decide) rfl hP ht2 q628 (fun _ h => h) dX1_marks_80 ?_
          refine lv_lload hx hb dX1_marks_83 (lv_at hl 0 rfl) ?_
          refine lv_ldc2 hx hb hown (hts _ q976) dX1_marks_85 ?_
          refine lv_ladd hx hb dX1_marks_88 ?_
          refine lv_iconst (v := 4) hx hb dX1_marks_89 (by decide) ?_
          refine p_calli hL (p_runV X cf6_ hP ht3 (metX7_low l G _ _ _ _ _ X.2.2 hf) (cwV 2 hts (lw_V q972 q973 q974 q104 q975) rfl rfl rfl (by decide +kernel) ⟨Nat.le_trans (Nat.le_of_ble_eq_true rfl) hRf, Nat.le_trans (Nat.le_of_ble_eq_true rfl) hRl⟩) rfl hl.1 rfl (by decide) dX1_marks_90 ⟨Nat.zero_le _, Nat.zero_le _⟩) (fun r19 σ₁ H locs hf hP hL => ?_)
          obtain ⟨e₁, hf⟩ := hf
          rw [e₁] at hP
          refine lv_if_le (tgt := 103) hx hb dX1_marks_93 (by decide) (fun c20 => ?_) (fun c20 => ?_)
          · have hf := hf.1 c20
            exact sX1_marks_L103 Y hrc9 hf _ _ _ _ _ hP hL ⟨rfl, rfl⟩ (lv_sub hl [1, 2, 3, 4] rfl)
          · have hf := hf.2 c20
            refine p_aload_n hx hb dX1_marks_96 rfl (lv_at hl 2 rfl) ?_
            refine lv_iload_n hx hb dX1_marks_97 rfl (lv_at hl 3 rfl) ?_
            refine lv_iload_n hx hb dX1_marks_98 rfl (lv_at hl 4 rfl) ?_
            obtain ⟨ht21, hf⟩ := hf
            obtain ⟨hlo22, hf⟩ := hf
            obtain ⟨hi23, hf⟩ := hf
            refine p_iast X hP hL ht21 hlo22 hi23 dX1_marks_99 (fun H locs hP hL => ?_)
            refine p_nmP hP (fun σ24 hσ24 hP => ?_)
            have hf := hf σ24 hσ24
            have ht2 : tg_ σ24 x0 = 1 := by rw [hσ24]; exact ht2
            have ht21 : tg_ σ24 x1 = 102 := by rw [hσ24]; exact ht21
            have hl := lv_sub hl [3, 1, 2, 4] rfl
            refine p_iincc (i := 2) (k := 1) hx hb (by decide) dX1_marks_100 hl (by decide) ⟨⟨ne_ rfl, Or.inl (ne_ rfl)⟩, ⟨⟨ne_ rfl, Or.inr (rv_cat _)⟩, ⟨⟨ne_ rfl, Or.inl (ne_ rfl)⟩, trivial⟩⟩⟩ (fun y25 hy25 ls hl => ?_)
            have hf := hf y25 hy25
            exact sX1_marks_L103 Y hrc9 hf _ _ _ _ _ hP hL ⟨rfl, rfl⟩ (lv_sub hl [1, 2, 0, 3] rfl)
set_option maxHeartbeats 4000000 in
theorem sX1_marks_L9 {G : GG_} {p : Program} {l : Launch} {e : Env} {R : Room} {s : State} {m : MethodId} {args : Array Value} {below : List Frame} {meth : Method} {c : Code} (Y : MX_ G p R s m args meth c cX1_marks 6 RX1 (some ((Jvm.ClassFile.FieldType.array Jvm.ClassFile.FieldType.int))) 6 130 0 0 "marks") {post : Nat → Hp → Prop} {x0 : Nat} {x1 : Nat} {x2 : Int32} {x3 : Int32} {σ : Hp} (hf : wX1_marks_L9 post x0 x1 x2 x3 σ) : WG_ G p l e R s m args below meth c (MQ below (QR_ G post) args s 0 0 (FR_ G)) BN_ 6 9 [(0, rv_ x0), (1, rv_ x1), (2, .int x2), (3, .int x3)] [] σ := by
  unfold wX1_marks_L9 at hf
  obtain ⟨I, μ, h0, hI⟩ := hf
  have key : ∀ (n : Nat) (x2 : Int32) (x3 : Int32) (σ : Hp), I x2 x3 σ → μ x2 x3 σ < n → WG_ G p l e R s m args below meth c (MQ below (QR_ G post) args s 0 0 (FR_ G)) BN_ 6 9 [(0, rv_ x0), (1, rv_ x1), (2, .int x2), (3, .int x3)] [] σ := by
    intro n
    induction n with
    | zero => intro x2 x3 σ _ h; exact absurd h (Nat.not_lt_zero _)
    | succ n ih => intro x2 x3 σ hi hn; exact sX1_marks_B9 Y (fun x2' x3' σ' h => ih x2' x3' σ' h.1 (Nat.lt_of_lt_of_le h.2 (Nat.le_of_lt_succ hn))) (hI x2 x3 σ hi)
  exact key _ _ _ _ h0 (Nat.lt_succ_self _)
set_option maxHeartbeats 4000000 in
theorem sX1_marks {G : GG_} {p : Program} {l : Launch} {e : Env} {R : Room} {s : State} {m : MethodId} {args : Array Value} {below : List Frame} {meth : Method} {c : Code} (Y : MX_ G p R s m args meth c cX1_marks 6 RX1 (some ((Jvm.ClassFile.FieldType.array Jvm.ClassFile.FieldType.int))) 6 130 0 0 "marks") {post : Nat → Hp → Prop} {x0 : Nat} {σ : Hp} (hf : wX1_marks x0 σ post) : WG_ G p l e R s m args below meth c (MQ below (QR_ G post) args s 0 0 (FR_ G)) BN_ 6 0 [(0, rv_ x0)] [] σ := by
  have ⟨X, hlk, hr, hRf, hRl, hRc, hnm⟩ := Y
  have ⟨⟨hx, hb, _, hown, hts⟩, _, _⟩ := X
  intro H locs cells slots ls hP hL hB hl
  obtain ⟨rfl, rfl⟩ := hB
  unfold wX1_marks at hf
  refine p_aload_n hx hb dX1_marks_0 rfl (lv_at hl 0 rfl) ?_
  obtain ⟨ht26, hf⟩ := hf
  refine p_gR X cf0_ (k := 8) (by decide) rfl hP ht26 q634 (fun _ h => h) dX1_marks_1 ?_
  refine p_topr (fun y27 hy27 => ?_)
  have hf := hf y27 hy27
  refine p_astore_n (i := 1) hx hb dX1_marks_4 rfl hl (by decide) ⟨⟨ne_ rfl, Or.inr (rv_cat _)⟩, trivial⟩ (fun ls hl => ?_)
  refine lv_iconst (v := 0) hx hb dX1_marks_5 (by decide) ?_
  refine p_istore_n (i := 2) hx hb dX1_marks_6 rfl hl (by decide) ⟨⟨ne_ rfl, Or.inr (rv_cat _)⟩, ⟨⟨ne_ rfl, Or.inl (ne_ rfl)⟩, trivial⟩⟩ (fun ls hl => ?_)
  refine lv_iconst (v := 0) hx hb dX1_marks_7 (by decide) ?_
  refine p_istore_n (i := 3) hx hb dX1_marks_8 rfl hl (by decide) ⟨⟨ne_ rfl, Or.inr rfl⟩, ⟨⟨ne_ rfl, Or.inl (ne_ rfl)⟩, ⟨⟨ne_ rfl, Or.inl (ne_ rfl)⟩, trivial⟩⟩⟩ (fun ls hl => ?_)
  exact sX1_marks_L9 Y hf _ _ _ _ _ hP hL ⟨rfl, rfl⟩ (lv_sub hl [3, 2, 1, 0] rfl)
set_option maxHeartbeats 4000000 in
theorem metX1_marks (l : Launch) (G : GG_) (x0 : Nat) (σ : Hp) (post : Nat → Hp → Prop) (hG : GOK_ G) (hf : wX1_marks x0 σ post) : Met l yX1_marks (ws_ yX1_marks cX1_marks 6 (some ((Jvm.ClassFile.FieldType.array Jvm.ClassFile.FieldType.int)))) { frames := 6, cells := 0, slots := 0, locals := 130 } (PC_ G [rv_ x0] σ) (QR_ G post) 0 0 (FR_ G) := by
  refine Met.ofW (cc := cX1_marks) (maxL := 6) (ret := (some ((Jvm.ClassFile.FieldType.array Jvm.ClassFile.FieldType.int)))) (by decide) rfl ?_
  intro p e s m args below meth c s₁ B hml hv
  obtain ⟨rfl, hP, hW⟩ := hv
  have hts := atoms_spec (ws := ws_ yX1_marks cX1_marks 6 (some ((Jvm.ClassFile.FieldType.array Jvm.ClassFile.FieldType.int)))) B.pre
  have hts : ∀ w ∈ lw_all, w.before _ s = true := fun w h => hts w (List.mem_cons_of_mem _ h)
  rw [lg_entry_eq]
  have hl := en_entry [rv_ x0] [1] (n := 6) (ca_r ca_n) (by decide)
  exact sX1_marks ⟨⟨⟨B.exec, B.bytes, hml, findClass_of_methodNamed B.named, hts⟩, hW, hG⟩, B.notSynchronized, B.returns, Nat.le_refl _, Nat.le_refl _, ⟨rfl, rfl⟩, (name_of_methodNamed B.named B.method).1⟩ hf _ _ _ _ _ hP (LO_nil G) ⟨rfl, rfl⟩ hl
abbrev cX8_begin : ByteArray := prog_8_method_2_code
def yX8_begin : MethodName := ⟨RX8, "begin", "(LWriteOnceDisc$Medium;)V"⟩
theorem dX8_begin_0 : decode cX8_begin 0 = .ok (.aload_n 0, 1) := by decide +kernel
theorem dX8_begin_1 : decode cX8_begin 1 = .ok (.aload_n 1, 1) := by decide +kernel
theorem dX8_begin_2 : decode cX8_begin 2 = .ok (.putfield 28, 3) := by decide +kernel
theorem dX8_begin_5 : decode cX8_begin 5 = .ok (.aload_n 0, 1) := by decide +kernel
theorem dX8_begin_6 : decode cX8_begin 6 = .ok (.getfield 12, 3) := by decide +kernel
theorem dX8_begin_9 : decode cX8_begin 9 = .ok (.invokevirtual 32, 3) := by decide +kernel
theorem dX8_begin_12 : decode cX8_begin 12 = .ok (.return_, 1) := by decide +kernel
/-- WriteOnceDisc$Reader.begin(LWriteOnceDisc$Medium;)V -/
def wX8_begin (x0 : Nat) (x1 : Nat) (σ : Hp) (post : Hp → Prop) : Prop :=
(tg_ σ x0 = 8 ∧ (∀ σ2, σ2 = sR_ σ 7 3 x0 x1 → (tg_ σ2 (fR_ σ2 7 0 x0) = 11 ∧ (wJ2_clear (fR_ σ2 7 0 x0)  σ2 (fun σ4 => post σ4)))))
set_option maxHeartbeats 4000000 in
theorem sX8_begin {G : GG_} {p : Program} {l : Launch} {e : Env} {R : Room} {s : State} {m : MethodId} {args : Array Value} {below : List Frame} {meth : Method} {c : Code} (Y : MX_ G p R s m args meth c cX8_begin 2 RX8 none 2 43 0 0 "begin") {post : Hp → Prop} {x0 : Nat} {x1 : Nat} {σ : Hp} (hf : wX8_begin x0 x1 σ post) : WG_ G p l e R s m args below meth c (MQ below (QV_ G post) args s 0 0 (FR_ G)) BN_ 2 0 [(0, rv_ x0), (1, rv_ x1)] [] σ := by
  have ⟨X, hlk, hr, hRf, hRl, hRc, hnm⟩ := Y
  have ⟨⟨hx, hb, _, hown, hts⟩, _, _⟩ := X
  intro H locs cells slots ls hP hL hB hl
  obtain ⟨rfl, rfl⟩ := hB
  unfold wX8_begin at hf
  refine p_aload_n hx hb dX8_begin_0 rfl (lv_at hl 0 rfl) ?_
  refine p_aload_n hx hb dX8_begin_1 rfl (lv_at hl 1 rfl) ?_
  obtain ⟨ht1, hf⟩ := hf
  refine p_pR X cf7_ (k := 3) (by decide) rfl hP hL ht1 (p_ow hP ht1 rfl) q594 (fun _ h => h) (Or.inl rfl) dX8_begin_2 (fun H locs hP hL => ?_)
  refine p_nmP hP (fun σ2 hσ2 hP => ?_)
  have hf := hf σ2 hσ2
  have ht1 : tg_ σ2 x0 = 8 := by rw [hσ2]; exact ht1
  refine p_aload_n hx hb dX8_begin_5 rfl (lv_at hl 0 rfl) ?_
  refine p_gR X cf7_ (k := 0) (by decide) rfl hP ht1 q590 (fun _ h => h) dX8_begin_6 ?_
  obtain ⟨ht3, hf⟩ := hf
  refine p_callv hL (p_runV X cf10_ hP ht3 (metJ2_clear l G _ _ _ X.2.2 hf) (cwV 0 hts (lw_V q981 q850 q851 q90 q852) rfl rfl rfl (by decide +kernel) ⟨Nat.le_trans (Nat.le_of_ble_eq_true rfl) hRf, Nat.le_trans (Nat.le_of_ble_eq_true rfl) hRl⟩) rfl hl.1 rfl (by decide) dX8_begin_9 ⟨Nat.zero_le _, Nat.zero_le _⟩) (fun σ4 H locs hf hP hL => ?_)
  exact p_vret X hlk hP hL (Nat.le_refl _) (Nat.le_refl _) hr dX8_begin_12 hf
set_option maxHeartbeats 4000000 in
theorem metX8_begin (l : Launch) (G : GG_) (x0 : Nat) (x1 : Nat) (σ : Hp) (post : Hp → Prop) (hG : GOK_ G) (hf : wX8_begin x0 x1 σ post) : Met l yX8_begin (ws_ yX8_begin cX8_begin 2 none) { frames := 2, cells := 0, slots := 0, locals := 43 } (PC_ G [rv_ x0, rv_ x1] σ) (QV_ G post) 0 0 (FR_ G) := by
  refine Met.ofW (cc := cX8_begin) (maxL := 2) (ret := none) (by decide) rfl ?_
  intro p e s m args below meth c s₁ B hml hv
  obtain ⟨rfl, hP, hW⟩ := hv
  have hts := atoms_spec (ws := ws_ yX8_begin cX8_begin 2 none) B.pre
  have hts : ∀ w ∈ lw_all, w.before _ s = true := fun w h => hts w (List.mem_cons_of_mem _ h)
  rw [lg_entry_eq]
  have hl := en_entry [rv_ x0, rv_ x1] [1, 1] (n := 2) (ca_r (ca_r ca_n)) (by decide)
  exact sX8_begin ⟨⟨⟨B.exec, B.bytes, hml, findClass_of_methodNamed B.named, hts⟩, hW, hG⟩, B.notSynchronized, B.returns, Nat.le_refl _, Nat.le_refl _, ⟨rfl, rfl⟩, (name_of_methodNamed B.named B.method).1⟩ hf _ _ _ _ _ hP (LO_nil G) ⟨rfl, rfl⟩ hl
abbrev cX1_base : ByteArray := prog_1_method_18_code
def yX1_base : MethodName := ⟨RX1, "base", "(I)I"⟩
theorem dX1_base_0 : decode cX1_base 0 = .ok (.aload_n 0, 1) := by decide +kernel
theorem dX1_base_1 : decode cX1_base 1 = .ok (.getfield 64, 3) := by decide +kernel
theorem dX1_base_4 : decode cX1_base 4 = .ok (.iload_n 1, 1) := by decide +kernel
theorem dX1_base_5 : decode cX1_base 5 = .ok (.i2l, 1) := by decide +kernel
theorem dX1_base_6 : decode cX1_base 6 = .ok (.ldc2_w 204, 3) := by decide +kernel
theorem dX1_base_9 : decode cX1_base 9 = .ok (.lmul, 1) := by decide +kernel
theorem dX1_base_10 : decode cX1_base 10 = .ok (.ldc2_w 215, 3) := by decide +kernel
theorem dX1_base_13 : decode cX1_base 13 = .ok (.ladd, 1) := by decide +kernel
theorem dX1_base_14 : decode cX1_base 14 = .ok (.iconst 4, 1) := by decide +kernel
theorem dX1_base_15 : decode cX1_base 15 = .ok (.invokevirtual 217, 3) := by decide +kernel
theorem dX1_base_18 : decode cX1_base 18 = .ok (.ireturn, 1) := by decide +kernel
/-- WriteOnceDisc.base(I)I -/
def wX1_base (x0 : Nat) (x1 : Int32) (σ : Hp) (post : Int32 → Prop) : Prop :=
(tg_ σ x0 = 1 ∧ (tg_ σ (fR_ σ 0 2 x0) = 7 ∧ (wX7_low (fR_ σ 0 2 x0) (((x1).toInt64 * (2048 : Int64)) + (4 : Int64)) (4 : Int32) σ (fun r3 => post r3))))
set_option maxHeartbeats 4000000 in
theorem sX1_base {G : GG_} {p : Program} {l : Launch} {e : Env} {R : Room} {s : State} {m : MethodId} {args : Array Value} {below : List Frame} {meth : Method} {c : Code} (Y : MX_ G p R s m args meth c cX1_base 2 RX1 (some Jvm.ClassFile.FieldType.int) 3 67 0 0 "base") {post : Int32 → Prop} {x0 : Nat} {x1 : Int32} {σ : Hp} (hf : wX1_base x0 x1 σ post) : WG_ G p l e R s m args below meth c (MQ below (QI_ G (fun r τ => τ = σ ∧ post r)) args s 0 0 (FR_ G)) BN_ 2 0 [(0, rv_ x0), (1, .int x1)] [] σ := by
  have ⟨X, hlk, hr, hRf, hRl, hRc, hnm⟩ := Y
  have ⟨⟨hx, hb, _, hown, hts⟩, _, _⟩ := X
  intro H locs cells slots ls hP hL hB hl
  obtain ⟨rfl, rfl⟩ := hB
  unfold wX1_base at hf
  refine p_aload_n hx hb dX1_base_0 rfl (lv_at hl 0 rfl) ?_
  obtain ⟨ht1, hf⟩ := hf
  refine p_gR X cf0_ (k := 2) (by decide) rfl hP ht1 q628 (fun _ h => h) dX1_base_1 ?_
  refine lv_iload_n hx hb dX1_base_4 rfl (lv_at hl 1 rfl) ?_
  refine lv_i2l hx hb dX1_base_5 rfl ?_
  refine lv_ldc2 hx hb hown (hts _ q959) dX1_base_6 ?_
  refine lv_lmul hx hb dX1_base_9 ?_
  refine lv_ldc2 hx hb hown (hts _ q971) dX1_base_10 ?_
  refine lv_ladd hx hb dX1_base_13 ?_
  refine lv_iconst (v := 4) hx hb dX1_base_14 (by decide) ?_
  obtain ⟨ht2, hf⟩ := hf
  refine p_calli hL (p_runV X cf6_ hP ht2 (metX7_low l G _ _ _ _ _ X.2.2 hf) (cwV 2 hts (lw_V q972 q973 q974 q104 q975) rfl rfl rfl (by decide +kernel) ⟨Nat.le_trans (Nat.le_of_ble_eq_true rfl) hRf, Nat.le_trans (Nat.le_of_ble_eq_true rfl) hRl⟩) rfl hl.1 rfl (by decide) dX1_base_15 ⟨Nat.zero_le _, Nat.zero_le _⟩) (fun r3 σ₁ H locs hf hP hL => ?_)
  obtain ⟨e₁, hf⟩ := hf
  rw [e₁] at hP
  exact p_iret X hlk hP hL (Nat.le_refl _) (Nat.le_refl _) hr dX1_base_18 ⟨rfl, hf⟩
set_option maxHeartbeats 4000000 in
theorem metX1_base (l : Launch) (G : GG_) (x0 : Nat) (x1 : Int32) (σ : Hp) (post : Int32 → Prop) (hG : GOK_ G) (hf : wX1_base x0 x1 σ post) : Met l yX1_base (ws_ yX1_base cX1_base 2 (some Jvm.ClassFile.FieldType.int)) { frames := 3, cells := 0, slots := 0, locals := 67 } (PC_ G [rv_ x0, .int x1] σ) (QI_ G (fun r τ => τ = σ ∧ post r)) 0 0 (FR_ G) := by
  refine Met.ofW (cc := cX1_base) (maxL := 2) (ret := (some Jvm.ClassFile.FieldType.int)) (by decide) rfl ?_
  intro p e s m args below meth c s₁ B hml hv
  obtain ⟨rfl, hP, hW⟩ := hv
  have hts := atoms_spec (ws := ws_ yX1_base cX1_base 2 (some Jvm.ClassFile.FieldType.int)) B.pre
  have hts : ∀ w ∈ lw_all, w.before _ s = true := fun w h => hts w (List.mem_cons_of_mem _ h)
  rw [lg_entry_eq]
  have hl := en_entry [rv_ x0, .int x1] [1, 1] (n := 2) (ca_r (ca_i ca_n)) (by decide)
  exact sX1_base ⟨⟨⟨B.exec, B.bytes, hml, findClass_of_methodNamed B.named, hts⟩, hW, hG⟩, B.notSynchronized, B.returns, Nat.le_refl _, Nat.le_refl _, ⟨rfl, rfl⟩, (name_of_methodNamed B.named B.method).1⟩ hf _ _ _ _ _ hP (LO_nil G) ⟨rfl, rfl⟩ hl
abbrev cX7_hasWritten : ByteArray := prog_4_method_8_code
def yX7_hasWritten : MethodName := ⟨RX7, "hasWritten", "(JJ)Z"⟩
theorem dX7_hasWritten_0 : decode cX7_hasWritten 0 = .ok (.lload_n 1, 1) := by decide +kernel
theorem dX7_hasWritten_1 : decode cX7_hasWritten 1 = .ok (.lconst 0, 1) := by decide +kernel
theorem dX7_hasWritten_2 : decode cX7_hasWritten 2 = .ok (.lcmp, 1) := by decide +kernel
theorem dX7_hasWritten_3 : decode cX7_hasWritten 3 = .ok (.ifCond .lt 25, 3) := by decide +kernel
theorem dX7_hasWritten_6 : decode cX7_hasWritten 6 = .ok (.lload_n 3, 1) := by decide +kernel
theorem dX7_hasWritten_7 : decode cX7_hasWritten 7 = .ok (.aload_n 0, 1) := by decide +kernel
theorem dX7_hasWritten_8 : decode cX7_hasWritten 8 = .ok (.getfield 9, 3) := by decide +kernel
theorem dX7_hasWritten_11 : decode cX7_hasWritten 11 = .ok (.i2l, 1) := by decide +kernel
theorem dX7_hasWritten_12 : decode cX7_hasWritten 12 = .ok (.lcmp, 1) := by decide +kernel
theorem dX7_hasWritten_13 : decode cX7_hasWritten 13 = .ok (.ifCond .gt 15, 3) := by decide +kernel
theorem dX7_hasWritten_16 : decode cX7_hasWritten 16 = .ok (.lload_n 1, 1) := by decide +kernel
theorem dX7_hasWritten_17 : decode cX7_hasWritten 17 = .ok (.lload_n 3, 1) := by decide +kernel
theorem dX7_hasWritten_18 : decode cX7_hasWritten 18 = .ok (.ladd, 1) := by decide +kernel
theorem dX7_hasWritten_19 : decode cX7_hasWritten 19 = .ok (.aload_n 0, 1) := by decide +kernel
theorem dX7_hasWritten_20 : decode cX7_hasWritten 20 = .ok (.getfield 9, 3) := by decide +kernel
theorem dX7_hasWritten_23 : decode cX7_hasWritten 23 = .ok (.i2l, 1) := by decide +kernel
theorem dX7_hasWritten_24 : decode cX7_hasWritten 24 = .ok (.lcmp, 1) := by decide +kernel
theorem dX7_hasWritten_25 : decode cX7_hasWritten 25 = .ok (.ifCond .le 5, 3) := by decide +kernel
theorem dX7_hasWritten_28 : decode cX7_hasWritten 28 = .ok (.iconst 0, 1) := by decide +kernel
theorem dX7_hasWritten_29 : decode cX7_hasWritten 29 = .ok (.ireturn, 1) := by decide +kernel
theorem dX7_hasWritten_30 : decode cX7_hasWritten 30 = .ok (.iconst 1, 1) := by decide +kernel
theorem dX7_hasWritten_31 : decode cX7_hasWritten 31 = .ok (.istore 5, 2) := by decide +kernel
theorem dX7_hasWritten_33 : decode cX7_hasWritten 33 = .ok (.iconst 0, 1) := by decide +kernel
theorem dX7_hasWritten_34 : decode cX7_hasWritten 34 = .ok (.istore 6, 2) := by decide +kernel
theorem dX7_hasWritten_36 : decode cX7_hasWritten 36 = .ok (.iload 6, 2) := by decide +kernel
theorem dX7_hasWritten_38 : decode cX7_hasWritten 38 = .ok (.i2l, 1) := by decide +kernel
theorem dX7_hasWritten_39 : decode cX7_hasWritten 39 = .ok (.lload_n 3, 1) := by decide +kernel
theorem dX7_hasWritten_40 : decode cX7_hasWritten 40 = .ok (.lcmp, 1) := by decide +kernel
theorem dX7_hasWritten_41 : decode cX7_hasWritten 41 = .ok (.ifCond .ge 35, 3) := by decide +kernel
theorem dX7_hasWritten_44 : decode cX7_hasWritten 44 = .ok (.iload 5, 2) := by decide +kernel
theorem dX7_hasWritten_46 : decode cX7_hasWritten 46 = .ok (.ifCond .eq 21, 3) := by decide +kernel
theorem dX7_hasWritten_49 : decode cX7_hasWritten 49 = .ok (.aload_n 0, 1) := by decide +kernel
theorem dX7_hasWritten_50 : decode cX7_hasWritten 50 = .ok (.getfield 19, 3) := by decide +kernel
theorem dX7_hasWritten_53 : decode cX7_hasWritten 53 = .ok (.lload_n 1, 1) := by decide +kernel
theorem dX7_hasWritten_54 : decode cX7_hasWritten 54 = .ok (.l2i, 1) := by decide +kernel
theorem dX7_hasWritten_55 : decode cX7_hasWritten 55 = .ok (.iload 6, 2) := by decide +kernel
theorem dX7_hasWritten_57 : decode cX7_hasWritten 57 = .ok (.iadd, 1) := by decide +kernel
theorem dX7_hasWritten_58 : decode cX7_hasWritten 58 = .ok (.iaload, 1) := by decide +kernel
theorem dX7_hasWritten_59 : decode cX7_hasWritten 59 = .ok (.iconst 1, 1) := by decide +kernel
theorem dX7_hasWritten_60 : decode cX7_hasWritten 60 = .ok (.if_icmp .ne 7, 3) := by decide +kernel
theorem dX7_hasWritten_63 : decode cX7_hasWritten 63 = .ok (.iconst 1, 1) := by decide +kernel
theorem dX7_hasWritten_64 : decode cX7_hasWritten 64 = .ok (.goto 4, 3) := by decide +kernel
theorem dX7_hasWritten_67 : decode cX7_hasWritten 67 = .ok (.iconst 0, 1) := by decide +kernel
theorem dX7_hasWritten_68 : decode cX7_hasWritten 68 = .ok (.istore 5, 2) := by decide +kernel
theorem dX7_hasWritten_70 : decode cX7_hasWritten 70 = .ok (.iinc 6 1, 3) := by decide +kernel
theorem dX7_hasWritten_73 : decode cX7_hasWritten 73 = .ok (.goto (-37), 3) := by decide +kernel
theorem dX7_hasWritten_76 : decode cX7_hasWritten 76 = .ok (.iload 5, 2) := by decide +kernel
theorem dX7_hasWritten_78 : decode cX7_hasWritten 78 = .ok (.ireturn, 1) := by decide +kernel
/-- WriteOnceDisc$Medium.hasWritten(JJ)Z -/
def wX7_hasWritten_L68 (post : Int32 → Prop) (rc36 : Int32 → Int32 → Prop) (x0 : Nat) (x1 : Int64) (x3 : Int64) (x6 : Int32) (s0 : Int32) (σ : Hp) : Prop :=
(∀ y1 : Int32, y1 = x6 + 1 → rc36 s0 y1)
def wX7_hasWritten_L67 (post : Int32 → Prop) (rc36 : Int32 → Int32 → Prop) (x0 : Nat) (x1 : Int64) (x3 : Int64) (x6 : Int32) (σ : Hp) : Prop :=
wX7_hasWritten_L68 post rc36 x0 x1 x3 x6 (0 : Int32) σ
def wX7_hasWritten_B36 (post : Int32 → Prop) (rc36 : Int32 → Int32 → Prop) (x0 : Nat) (x1 : Int64) (x3 : Int64) (x5 : Int32) (x6 : Int32) (σ : Hp) : Prop :=
((0 ≤ (lg_cmp (x6).toInt64 x3) →
  (nr_ .boolean x5 ∧ post x5)) ∧
 (¬ 0 ≤ (lg_cmp (x6).toInt64 x3) →
  ((x5 = 0 →
   wX7_hasWritten_L67 post rc36 x0 x1 x3 x6 σ) ∧
  (¬ x5 = 0 →
   (tg_ σ x0 = 7 ∧ (tg_ σ (fR_ σ 6 2 x0) = 102 ∧ (vp_in ((x1).toInt32 + x6) (ln_ σ (fR_ σ 6 2 x0)) ∧ ((¬ (aI_ σ (fR_ σ 6 2 x0) (((x1).toInt32 + x6)).toNatClampNeg) = (1 : Int32) →
    wX7_hasWritten_L67 post rc36 x0 x1 x3 x6 σ) ∧
   ((aI_ σ (fR_ σ 6 2 x0) (((x1).toInt32 + x6)).toNatClampNeg) = (1 : Int32) →
    wX7_hasWritten_L68 post rc36 x0 x1 x3 x6 (1 : Int32) σ)))))))))
def wX7_hasWritten_L36 (post : Int32 → Prop) (x0 : Nat) (x1 : Int64) (x3 : Int64) (x5 : Int32) (x6 : Int32) (σ : Hp) : Prop :=
 ∃ (I : Int32 → Int32 → Prop) (μ : Int32 → Int32 → Nat), I x5 x6 ∧ ∀ (x5 : Int32) (x6 : Int32), I x5 x6 → wX7_hasWritten_B36 post (fun x5' x6' => I x5' x6' ∧ μ x5' x6' < μ x5 x6) x0 x1 x3 x5 x6 σ
def wX7_hasWritten (x0 : Nat) (x1 : Int64) (x3 : Int64) (σ : Hp) (post : Int32 → Prop) : Prop :=
(((lg_cmp x1 (0 : Int64)) < 0 →
  post (0 : Int32)) ∧
 (¬ (lg_cmp x1 (0 : Int64)) < 0 →
  (tg_ σ x0 = 7 ∧ ((0 < (lg_cmp x3 ((fI_ σ 6 0 x0)).toInt64) →
   post (0 : Int32)) ∧
  (¬ 0 < (lg_cmp x3 ((fI_ σ 6 0 x0)).toInt64) →
   (((lg_cmp (x1 + x3) ((fI_ σ 6 0 x0)).toInt64) ≤ 0 →
    wX7_hasWritten_L36 post x0 x1 x3 (1 : Int32) (0 : Int32) σ) ∧
   (¬ (lg_cmp (x1 + x3) ((fI_ σ 6 0 x0)).toInt64) ≤ 0 →
    post (0 : Int32))))))))
set_option maxHeartbeats 4000000 in
theorem sX7_hasWritten_L68 {G : GG_} {p : Program} {l : Launch} {e : Env} {R : Room} {s : State} {m : MethodId} {args : Array Value} {below : List Frame} {meth : Method} {c : Code} (Y : MX_ G p R s m args meth c cX7_hasWritten 7 RX7 (some Jvm.ClassFile.FieldType.boolean) 1 20 0 0 "hasWritten") {post : Int32 → Prop} {rc36 : Int32 → Int32 → Prop} {x0 : Nat} {x1 : Int64} {x3 : Int64} {x6 : Int32} {s0 : Int32} {σ : Hp} (hrc36 : ∀ (x5 : Int32) (x6 : Int32), rc36 x5 x6 → WG_ G p l e R s m args below meth c (MQ below (QI_ G (fun r τ => τ = σ ∧ post r)) args s 0 0 (FR_ G)) BN_ 7 36 [(0, rv_ x0), (1, .long x1), (3, .long x3), (5, .int x5), (6, .int x6)] [] σ) (hf : wX7_hasWritten_L68 post rc36 x0 x1 x3 x6 s0 σ) : WG_ G p l e R s m args below meth c (MQ below (QI_ G (fun r τ => τ = σ ∧ post r)) args s 0 0 (FR_ G)) BN_ 7 68 [(0, rv_ x0), (1, .long x1), (3, .long x3), (6, .int x6)] [.int s0] σ := by
  have ⟨X, hlk, hr, hRf, hRl, hRc, hnm⟩ := Y
  have ⟨⟨hx, hb, _, hown, hts⟩, _, _⟩ := X
  intro H locs cells slots ls hP hL hB hl
  obtain ⟨rfl, rfl⟩ := hB
  unfold wX7_hasWritten_L68 at hf
  refine p_istore (i := 5) hx hb dX7_hasWritten_68 hl (by decide) ⟨⟨ne_ rfl, Or.inl (ne_ rfl)⟩, ⟨⟨ne_ rfl, Or.inl (ne_ rfl)⟩, ⟨⟨ne_ rfl, Or.inl (ne_ rfl)⟩, ⟨⟨ne_ rfl, Or.inl (ne_ rfl)⟩, trivial⟩⟩⟩⟩ (fun ls hl => ?_)
  have hl := lv_sub hl [4, 0, 1, 2, 3] rfl
  refine p_iincc (i := 6) (k := 1) hx hb (by decide) dX7_hasWritten_70 hl (by decide) ⟨⟨ne_ rfl, Or.inr rfl⟩, ⟨⟨ne_ rfl, Or.inl (ne_ rfl)⟩, ⟨⟨ne_ rfl, Or.inl (ne_ rfl)⟩, ⟨⟨ne_ rfl, Or.inl (ne_ rfl)⟩, trivial⟩⟩⟩⟩ (fun y1 hy1 ls hl => ?_)
  have hf := hf y1 hy1
  refine lv_goto (tgt := 36) hx hb dX7_hasWritten_73 (by decide) ?_
  exact hrc36 _ _ hf _ _ _ _ _ hP hL ⟨rfl, rfl⟩ (lv_sub hl [2, 3, 4, 1, 0] rfl)
set_option maxHeartbeats 4000000 in
theorem sX7_hasWritten_L67 {G : GG_} {p : Program} {l : Launch} {e : Env} {R : Room} {s : State} {m : MethodId} {args : Array Value} {below : List Frame} {meth : Method} {c : Code} (Y : MX_ G p R s m args meth c cX7_hasWritten 7 RX7 (some Jvm.ClassFile.FieldType.boolean) 1 20 0 0 "hasWritten") {post : Int32 → Prop} {rc36 : Int32 → Int32 → Prop} {x0 : Nat} {x1 : Int64} {x3 : Int64} {x6 : Int32} {σ : Hp} (hrc36 : ∀ (x5 : Int32) (x6 : Int32), rc36 x5 x6 → WG_ G p l e R s m args below meth c (MQ below (QI_ G (fun r τ => τ = σ ∧ post r)) args s 0 0 (FR_ G)) BN_ 7 36 [(0, rv_ x0), (1, .long x1), (3, .long x3), (5, .int x5), (6, .int x6)] [] σ) (hf : wX7_hasWritten_L67 post rc36 x0 x1 x3 x6 σ) : WG_ G p l e R s m args below meth c (MQ below (QI_ G (fun r τ => τ = σ ∧ post r)) args s 0 0 (FR_ G)) BN_ 7 67 [(0, rv_ x0), (1, .long x1), (3, .long x3), (6, .int x6)] [] σ := by
  have ⟨X, hlk, hr, hRf, hRl, hRc, hnm⟩ := Y
  have ⟨⟨hx, hb, _, hown, hts⟩, _, _⟩ := X
  intro H locs cells slots ls hP hL hB hl
  obtain ⟨rfl, rfl⟩ := hB
  unfold wX7_hasWritten_L67 at hf
  refine lv_iconst (v := 0) hx hb dX7_hasWritten_67 (by decide) ?_
  exact sX7_hasWritten_L68 Y hrc36 hf _ _ _ _ _ hP hL ⟨rfl, rfl⟩ (lv_sub hl [0, 1, 2, 3] rfl)
set_option maxHeartbeats 4000000 in
theorem sX7_hasWritten_B36 {G : GG_} {p : Program} {l : Launch} {e : Env} {R : Room} {s : State} {m : MethodId} {args : Array Value} {below : List Frame} {meth : Method} {c : Code} (Y : MX_ G p R s m args meth c cX7_hasWritten 7 RX7 (some Jvm.ClassFile.FieldType.boolean) 1 20 0 0 "hasWritten") {post : Int32 → Prop} {rc36 : Int32 → Int32 → Prop} {x0 : Nat} {x1 : Int64} {x3 : Int64} {x5 : Int32} {x6 : Int32} {σ : Hp} (hrc36 : ∀ (x5 : Int32) (x6 : Int32), rc36 x5 x6 → WG_ G p l e R s m args below meth c (MQ below (QI_ G (fun r τ => τ = σ ∧ post r)) args s 0 0 (FR_ G)) BN_ 7 36 [(0, rv_ x0), (1, .long x1), (3, .long x3), (5, .int x5), (6, .int x6)] [] σ) (hf : wX7_hasWritten_B36 post rc36 x0 x1 x3 x5 x6 σ) : WG_ G p l e R s m args below meth c (MQ below (QI_ G (fun r τ => τ = σ ∧ post r)) args s 0 0 (FR_ G)) BN_ 7 36 [(0, rv_ x0), (1, .long x1), (3, .long x3), (5, .int x5), (6, .int x6)] [] σ := by
  have ⟨X, hlk, hr, hRf, hRl, hRc, hnm⟩ := Y
  have ⟨⟨hx, hb, _, hown, hts⟩, _, _⟩ := X
  intro H locs cells slots ls hP hL hB hl
  obtain ⟨rfl, rfl⟩ := hB
  unfold wX7_hasWritten_B36 at hf
  refine lv_iload hx hb dX7_hasWritten_36 (lv_at hl 4 rfl) ?_
  refine lv_i2l hx hb dX7_hasWritten_38 rfl ?_
  refine lv_lload_n hx hb dX7_hasWritten_39 rfl (lv_at hl 2 rfl) ?_
  refine W.lcmp hx hb dX7_hasWritten_40 ?_
  refine lv_if_ge (tgt := 76) hx hb dX7_hasWritten_41 (by decide) (fun c2 => ?_) (fun c2 => ?_)
  · have hf := hf.1 c2
    refine lv_iload hx hb dX7_hasWritten_76 (lv_at hl 3 rfl) ?_
    obtain ⟨hn3, hf⟩ := hf
    exact p_zret X hlk hP hL (Nat.le_refl _) (Nat.le_refl _) hr hn3 dX7_hasWritten_78 ⟨rfl, hf⟩
  · have hf := hf.2 c2
    refine lv_iload hx hb dX7_hasWritten_44 (lv_at hl 3 rfl) ?_
    refine lv_if_eq (tgt := 67) hx hb dX7_hasWritten_46 (by decide) (fun c4 => ?_) (fun c4 => ?_)
    · have hf := hf.1 c4
      exact sX7_hasWritten_L67 Y hrc36 hf _ _ _ _ _ hP hL ⟨rfl, rfl⟩ (lv_sub hl [0, 1, 2, 4] rfl)
    · have hf := hf.2 c4
      refine p_aload_n hx hb dX7_hasWritten_49 rfl (lv_at hl 0 rfl) ?_
      obtain ⟨ht5, hf⟩ := hf
      refine p_gR X cf6_ (k := 2) (by decide) rfl hP ht5 q563 (fun _ h => h) dX7_hasWritten_50 ?_
      refine lv_lload_n hx hb dX7_hasWritten_53 rfl (lv_at hl 1 rfl) ?_
      refine lv_l2i hx hb dX7_hasWritten_54 rfl ?_
      refine lv_iload hx hb dX7_hasWritten_55 (lv_at hl 4 rfl) ?_
      refine lv_iadd hx hb dX7_hasWritten_57 ?_
      obtain ⟨ht6, hf⟩ := hf
      obtain ⟨hi7, hf⟩ := hf
      refine p_iald X hP ht6 hi7 dX7_hasWritten_58 ?_
      refine lv_iconst (v := 1) hx hb dX7_hasWritten_59 (by decide) ?_
      refine lv_icmp_ne (tgt := 67) hx hb dX7_hasWritten_60 (by decide) (fun c8 => ?_) (fun c8 => ?_)
      · have hf := hf.1 c8
        exact sX7_hasWritten_L67 Y hrc36 hf _ _ _ _ _ hP hL ⟨rfl, rfl⟩ (lv_sub hl [0, 1, 2, 4] rfl)
      · have hf := hf.2 c8
        refine lv_iconst (v := 1) hx hb dX7_hasWritten_63 (by decide) ?_
        refine lv_goto (tgt := 68) hx hb dX7_hasWritten_64 (by decide) ?_
        exact sX7_hasWritten_L68 Y hrc36 hf _ _ _ _ _ hP hL ⟨rfl, rfl⟩ (lv_sub hl [0, 1, 2, 4] rfl)
set_option maxHeartbeats 4000000 in
theorem sX7_hasWritten_L36 {G : GG_} {p : Program} {l : Launch} {e : Env} {R : Room} {s : State} {m : MethodId} {args : Array Value} {below : List Frame} {meth : Method} {c : Code} (Y : MX_ G p R s m args meth c cX7_hasWritten 7 RX7 (some Jvm.ClassFile.FieldType.boolean) 1 20 0 0 "hasWritten") {post : Int32 → Prop} {x0 : Nat} {x1 : Int64} {x3 : Int64} {x5 : Int32} {x6 : Int32} {σ : Hp} (hf : wX7_hasWritten_L36 post x0 x1 x3 x5 x6 σ) : WG_ G p l e R s m args below meth c (MQ below (QI_ G (fun r τ => τ = σ ∧ post r)) args s 0 0 (FR_ G)) BN_ 7 36 [(0, rv_ x0), (1, .long x1), (3, .long x3), (5, .int x5), (6, .int x6)] [] σ := by
  unfold wX7_hasWritten_L36 at hf
  obtain ⟨I, μ, h0, hI⟩ := hf
  have key : ∀ (n : Nat) (x5 : Int32) (x6 : Int32), I x5 x6 → μ x5 x6 < n → WG_ G p l e R s m args below meth c (MQ below (QI_ G (fun r τ => τ = σ ∧ post r)) args s 0 0 (FR_ G)) BN_ 7 36 [(0, rv_ x0), (1, .long x1), (3, .long x3), (5, .int x5), (6, .int x6)] [] σ := by
    intro n
    induction n with
    | zero => intro x5 x6 _ h; exact absurd h (Nat.not_lt_zero _)
    | succ n ih => intro x5 x6 hi hn; exact sX7_hasWritten_B36 Y (fun x5' x6' h => ih x5' x6' h.1 (Nat.lt_of_lt_of_le h.2 (Nat.le_of_lt_succ hn))) (hI x5 x6 hi)
  exact key _ _ _ h0 (Nat.lt_succ_self _)
set_option maxHeartbeats 4000000 in
theorem sX7_hasWritten {G : GG_} {p : Program} {l : Launch} {e : Env} {R : Room} {s : State} {m : MethodId} {args : Array Value} {below : List Frame} {meth : Method} {c : Code} (Y : MX_ G p R s m args meth c cX7_hasWritten 7 RX7 (some Jvm.ClassFile.FieldType.boolean) 1 20 0 0 "hasWritten") {post : Int32 → Prop} {x0 : Nat} {x1 : Int64} {x3 : Int64} {σ : Hp} (hf : wX7_hasWritten x0 x1 x3 σ post) : WG_ G p l e R s m args below meth c (MQ below (QI_ G (fun r τ => τ = σ ∧ post r)) args s 0 0 (FR_ G)) BN_ 7 0 [(0, rv_ x0), (1, .long x1), (3, .long x3)] [] σ := by
  have ⟨X, hlk, hr, hRf, hRl, hRc, hnm⟩ := Y
  have ⟨⟨hx, hb, _, hown, hts⟩, _, _⟩ := X
  intro H locs cells slots ls hP hL hB hl
  obtain ⟨rfl, rfl⟩ := hB
  unfold wX7_hasWritten at hf
  refine lv_lload_n hx hb dX7_hasWritten_0 rfl (lv_at hl 1 rfl) ?_
  refine lv_lconst (v := 0) hx hb dX7_hasWritten_1 (by decide) ?_
  refine W.lcmp hx hb dX7_hasWritten_2 ?_
  refine lv_if_lt (tgt := 28) hx hb dX7_hasWritten_3 (by decide) (fun c9 => ?_) (fun c9 => ?_)
  · have hf := hf.1 c9
    refine lv_iconst (v := 0) hx hb dX7_hasWritten_28 (by decide) ?_
    exact p_zret X hlk hP hL (Nat.le_refl _) (Nat.le_refl _) hr nr_0 dX7_hasWritten_29 ⟨rfl, hf⟩
  · have hf := hf.2 c9
    refine lv_lload_n hx hb dX7_hasWritten_6 rfl (lv_at hl 2 rfl) ?_
    refine p_aload_n hx hb dX7_hasWritten_7 rfl (lv_at hl 0 rfl) ?_
    obtain ⟨ht10, hf⟩ := hf
    refine p_gI X cf6_ (k := 0) (by decide) rfl hP ht10 q557 (fun _ h => h) dX7_hasWritten_8 ?_
    refine lv_i2l hx hb dX7_hasWritten_11 rfl ?_
    refine W.lcmp hx hb dX7_hasWritten_12 ?_
    refine lv_if_gt (tgt := 28) hx hb dX7_hasWritten_13 (by decide) (fun c11 => ?_) (fun c11 => ?_)
    · have hf := hf.1 c11
      refine lv_iconst (v := 0) hx hb dX7_hasWritten_28 (by decide) ?_
      exact p_zret X hlk hP hL (Nat.le_refl _) (Nat.le_refl _) hr nr_0 dX7_hasWritten_29 ⟨rfl, hf⟩
    · have hf := hf.2 c11
      refine lv_lload_n hx hb dX7_hasWritten_16 rfl (lv_at hl 1 rfl) ?_
      refine lv_lload_n hx hb dX7_hasWritten_17 rfl (lv_at hl 2 rfl) ?_
      refine lv_ladd hx hb dX7_hasWritten_18 ?_
      refine p_aload_n hx hb dX7_hasWritten_19 rfl (lv_at hl 0 rfl) ?_
      refine p_gI X cf6_ (k := 0) (by decide) rfl hP ht10 q557 (fun _ h => h) dX7_hasWritten_20 ?_
      refine lv_i2l hx hb dX7_hasWritten_23 rfl ?_
      refine W.lcmp hx hb dX7_hasWritten_24 ?_
      refine lv_if_le (tgt := 30) hx hb dX7_hasWritten_25 (by decide) (fun c12 => ?_) (fun c12 => ?_)
      · have hf := hf.1 c12
        refine lv_iconst (v := 1) hx hb dX7_hasWritten_30 (by decide) ?_
        refine p_istore (i := 5) hx hb dX7_hasWritten_31 hl (by decide) ⟨⟨ne_ rfl, Or.inl (ne_ rfl)⟩, ⟨⟨ne_ rfl, Or.inl (ne_ rfl)⟩, ⟨⟨ne_ rfl, Or.inl (ne_ rfl)⟩, trivial⟩⟩⟩ (fun ls hl => ?_)
        refine lv_iconst (v := 0) hx hb dX7_hasWritten_33 (by decide) ?_
        refine p_istore (i := 6) hx hb dX7_hasWritten_34 hl (by decide) ⟨⟨ne_ rfl, Or.inr rfl⟩, ⟨⟨ne_ rfl, Or.inl (ne_ rfl)⟩, ⟨⟨ne_ rfl, Or.inl (ne_ rfl)⟩, ⟨⟨ne_ rfl, Or.inl (ne_ rfl)⟩, trivial⟩⟩⟩⟩ (fun ls hl => ?_)
        exact sX7_hasWritten_L36 Y hf _ _ _ _ _ hP hL ⟨rfl, rfl⟩ (lv_sub hl [2, 3, 4, 1, 0] rfl)
      · have hf := hf.2 c12
        refine lv_iconst (v := 0) hx hb dX7_hasWritten_28 (by decide) ?_
        exact p_zret X hlk hP hL (Nat.le_refl _) (Nat.le_refl _) hr nr_0 dX7_hasWritten_29 ⟨rfl, hf⟩
set_option maxHeartbeats 4000000 in
theorem metX7_hasWritten (l : Launch) (G : GG_) (x0 : Nat) (x1 : Int64) (x3 : Int64) (σ : Hp) (post : Int32 → Prop) (hG : GOK_ G) (hf : wX7_hasWritten x0 x1 x3 σ post) : Met l yX7_hasWritten (ws_ yX7_hasWritten cX7_hasWritten 7 (some Jvm.ClassFile.FieldType.boolean)) { frames := 1, cells := 0, slots := 0, locals := 20 } (PC_ G [rv_ x0, .long x1, .long x3] σ) (QI_ G (fun r τ => τ = σ ∧ post r)) 0 0 (FR_ G) := by
  refine Met.ofW (cc := cX7_hasWritten) (maxL := 7) (ret := (some Jvm.ClassFile.FieldType.boolean)) (by decide) rfl ?_
  intro p e s m args below meth c s₁ B hml hv
  obtain ⟨rfl, hP, hW⟩ := hv
  have hts := atoms_spec (ws := ws_ yX7_hasWritten cX7_hasWritten 7 (some Jvm.ClassFile.FieldType.boolean)) B.pre
  have hts : ∀ w ∈ lw_all, w.before _ s = true := fun w h => hts w (List.mem_cons_of_mem _ h)
  rw [lg_entry_eq]
  have hl := en_entry [rv_ x0, .long x1, .long x3] [1, 2, 2] (n := 7) (ca_r (ca_l (ca_l ca_n))) (by decide)
  exact sX7_hasWritten ⟨⟨⟨B.exec, B.bytes, hml, findClass_of_methodNamed B.named, hts⟩, hW, hG⟩, B.notSynchronized, B.returns, Nat.le_refl _, Nat.le_refl _, ⟨rfl, rfl⟩, (name_of_methodNamed B.named B.method).1⟩ hf _ _ _ _ _ hP (LO_nil G) ⟨rfl, rfl⟩ hl
abbrev cX8_bad : ByteArray := prog_8_method_3_code
def yX8_bad : MethodName := ⟨RX8, "bad", "(J)Z"⟩
theorem dX8_bad_0 : decode cX8_bad 0 = .ok (.aload_n 0, 1) := by decide +kernel
theorem dX8_bad_1 : decode cX8_bad 1 = .ok (.lload_n 1, 1) := by decide +kernel
theorem dX8_bad_2 : decode cX8_bad 2 = .ok (.l2i, 1) := by decide +kernel
theorem dX8_bad_3 : decode cX8_bad 3 = .ok (.putfield 35, 3) := by decide +kernel
theorem dX8_bad_6 : decode cX8_bad 6 = .ok (.iconst 0, 1) := by decide +kernel
theorem dX8_bad_7 : decode cX8_bad 7 = .ok (.ireturn, 1) := by decide +kernel
/-- WriteOnceDisc$Reader.bad(J)Z -/
def wX8_bad (x0 : Nat) (x1 : Int64) (σ : Hp) (post : Int32 → Hp → Prop) : Prop :=
(tg_ σ x0 = 8 ∧ (∀ σ2, σ2 = sI_ σ 7 8 x0 (x1).toInt32 → post (0 : Int32) σ2))
set_option maxHeartbeats 4000000 in
theorem sX8_bad {G : GG_} {p : Program} {l : Launch} {e : Env} {R : Room} {s : State} {m : MethodId} {args : Array Value} {below : List Frame} {meth : Method} {c : Code} (Y : MX_ G p R s m args meth c cX8_bad 3 RX8 (some Jvm.ClassFile.FieldType.boolean) 1 20 0 0 "bad") {post : Int32 → Hp → Prop} {x0 : Nat} {x1 : Int64} {σ : Hp} (hf : wX8_bad x0 x1 σ post) : WG_ G p l e R s m args below meth c (MQ below (QI_ G post) args s 0 0 (FR_ G)) BN_ 3 0 [(0, rv_ x0), (1, .long x1)] [] σ := by
  have ⟨X, hlk, hr, hRf, hRl, hRc, hnm⟩ := Y
  have ⟨⟨hx, hb, _, hown, hts⟩, _, _⟩ := X
  intro H locs cells slots ls hP hL hB hl
  obtain ⟨rfl, rfl⟩ := hB
  unfold wX8_bad at hf
  refine p_aload_n hx hb dX8_bad_0 rfl (lv_at hl 0 rfl) ?_
  refine lv_lload_n hx hb dX8_bad_1 rfl (lv_at hl 1 rfl) ?_
  refine lv_l2i hx hb dX8_bad_2 rfl ?_
  obtain ⟨ht1, hf⟩ := hf
  refine p_pI X cf7_ (k := 8) (by decide) rfl hP hL ht1 (p_ow hP ht1 rfl) q599 (fun _ h => h) (Or.inl rfl) rfl rfl dX8_bad_3 (fun H locs hP hL => ?_)
  refine p_nmP hP (fun σ2 hσ2 hP => ?_)
  have hf := hf σ2 hσ2
  have ht1 : tg_ σ2 x0 = 8 := by rw [hσ2]; exact ht1
  refine lv_iconst (v := 0) hx hb dX8_bad_6 (by decide) ?_
  exact p_zret X hlk hP hL (Nat.le_refl _) (Nat.le_refl _) hr nr_0 dX8_bad_7 hf
set_option maxHeartbeats 4000000 in
theorem metX8_bad (l : Launch) (G : GG_) (x0 : Nat) (x1 : Int64) (σ : Hp) (post : Int32 → Hp → Prop) (hG : GOK_ G) (hf : wX8_bad x0 x1 σ post) : Met l yX8_bad (ws_ yX8_bad cX8_bad 3 (some Jvm.ClassFile.FieldType.boolean)) { frames := 1, cells := 0, slots := 0, locals := 20 } (PC_ G [rv_ x0, .long x1] σ) (QI_ G post) 0 0 (FR_ G) := by
  refine Met.ofW (cc := cX8_bad) (maxL := 3) (ret := (some Jvm.ClassFile.FieldType.boolean)) (by decide) rfl ?_
  intro p e s m args below meth c s₁ B hml hv
  obtain ⟨rfl, hP, hW⟩ := hv
  have hts := atoms_spec (ws := ws_ yX8_bad cX8_bad 3 (some Jvm.ClassFile.FieldType.boolean)) B.pre
  have hts : ∀ w ∈ lw_all, w.before _ s = true := fun w h => hts w (List.mem_cons_of_mem _ h)
  rw [lg_entry_eq]
  have hl := en_entry [rv_ x0, .long x1] [1, 2] (n := 3) (ca_r (ca_l ca_n)) (by decide)
  exact sX8_bad ⟨⟨⟨B.exec, B.bytes, hml, findClass_of_methodNamed B.named, hts⟩, hW, hG⟩, B.notSynchronized, B.returns, Nat.le_refl _, Nat.le_refl _, ⟨rfl, rfl⟩, (name_of_methodNamed B.named B.method).1⟩ hf _ _ _ _ _ hP (LO_nil G) ⟨rfl, rfl⟩ hl
abbrev cX8_isHead : ByteArray := prog_8_method_4_code
def yX8_isHead : MethodName := ⟨RX8, "isHead", "(JI)Z"⟩
theorem dX8_isHead_0 : decode cX8_isHead 0 = .ok (.aload_n 0, 1) := by decide +kernel
theorem dX8_isHead_1 : decode cX8_isHead 1 = .ok (.getfield 28, 3) := by decide +kernel
theorem dX8_isHead_4 : decode cX8_isHead 4 = .ok (.lload_n 1, 1) := by decide +kernel
theorem dX8_isHead_5 : decode cX8_isHead 5 = .ok (.invokevirtual 39, 3) := by decide +kernel
theorem dX8_isHead_8 : decode cX8_isHead 8 = .ok (.iload_n 3, 1) := by decide +kernel
theorem dX8_isHead_9 : decode cX8_isHead 9 = .ok (.if_icmp .ne 38, 3) := by decide +kernel
theorem dX8_isHead_12 : decode cX8_isHead 12 = .ok (.aload_n 0, 1) := by decide +kernel
theorem dX8_isHead_13 : decode cX8_isHead 13 = .ok (.getfield 28, 3) := by decide +kernel
theorem dX8_isHead_16 : decode cX8_isHead 16 = .ok (.lload_n 1, 1) := by decide +kernel
theorem dX8_isHead_17 : decode cX8_isHead 17 = .ok (.lconst 1, 1) := by decide +kernel
theorem dX8_isHead_18 : decode cX8_isHead 18 = .ok (.ladd, 1) := by decide +kernel
theorem dX8_isHead_19 : decode cX8_isHead 19 = .ok (.ldc 45, 2) := by decide +kernel
theorem dX8_isHead_21 : decode cX8_isHead 21 = .ok (.invokevirtual 47, 3) := by decide +kernel
theorem dX8_isHead_24 : decode cX8_isHead 24 = .ok (.ifCond .eq 23, 3) := by decide +kernel
theorem dX8_isHead_27 : decode cX8_isHead 27 = .ok (.aload_n 0, 1) := by decide +kernel
theorem dX8_isHead_28 : decode cX8_isHead 28 = .ok (.getfield 28, 3) := by decide +kernel
theorem dX8_isHead_31 : decode cX8_isHead 31 = .ok (.lload_n 1, 1) := by decide +kernel
theorem dX8_isHead_32 : decode cX8_isHead 32 = .ok (.ldc2_w 51, 3) := by decide +kernel
theorem dX8_isHead_35 : decode cX8_isHead 35 = .ok (.ladd, 1) := by decide +kernel
theorem dX8_isHead_36 : decode cX8_isHead 36 = .ok (.invokevirtual 39, 3) := by decide +kernel
theorem dX8_isHead_39 : decode cX8_isHead 39 = .ok (.iconst 1, 1) := by decide +kernel
theorem dX8_isHead_40 : decode cX8_isHead 40 = .ok (.if_icmp .ne 7, 3) := by decide +kernel
theorem dX8_isHead_43 : decode cX8_isHead 43 = .ok (.iconst 1, 1) := by decide +kernel
theorem dX8_isHead_44 : decode cX8_isHead 44 = .ok (.goto 4, 3) := by decide +kernel
theorem dX8_isHead_47 : decode cX8_isHead 47 = .ok (.iconst 0, 1) := by decide +kernel
theorem dX8_isHead_48 : decode cX8_isHead 48 = .ok (.ireturn, 1) := by decide +kernel
/-- WriteOnceDisc$Reader.isHead(JI)Z -/
def wX8_isHead (x0 : Nat) (x1 : Int64) (x3 : Int32) (σ : Hp) (post : Int32 → Prop) : Prop :=
(tg_ σ x0 = 8 ∧ (tg_ σ (fR_ σ 7 3 x0) = 7 ∧ (wX7_at (fR_ σ 7 3 x0) x1 σ (fun r3 => ((¬ r3 = x3 →
  post (0 : Int32)) ∧
 (r3 = x3 →
  (wX7_says (fR_ σ 7 3 x0) (x1 + (1 : Int64)) (fR_ σ 101 7 0) σ (fun r5 => ((r5 = 0 →
   post (0 : Int32)) ∧
  (¬ r5 = 0 →
   (wX7_at (fR_ σ 7 3 x0) (x1 + (6 : Int64)) σ (fun r7 => ((¬ r7 = (1 : Int32) →
    post (0 : Int32)) ∧
   (r7 = (1 : Int32) →
    post (1 : Int32)))))))))))))))
set_option maxHeartbeats 4000000 in
theorem sX8_isHead {G : GG_} {p : Program} {l : Launch} {e : Env} {R : Room} {s : State} {m : MethodId} {args : Array Value} {below : List Frame} {meth : Method} {c : Code} (Y : MX_ G p R s m args meth c cX8_isHead 4 RX8 (some Jvm.ClassFile.FieldType.boolean) 6 130 0 0 "isHead") {post : Int32 → Prop} {x0 : Nat} {x1 : Int64} {x3 : Int32} {σ : Hp} (hf : wX8_isHead x0 x1 x3 σ post) : WG_ G p l e R s m args below meth c (MQ below (QI_ G (fun r τ => τ = σ ∧ post r)) args s 0 0 (FR_ G)) BN_ 4 0 [(0, rv_ x0), (1, .long x1), (3, .int x3)] [] σ := by
  have ⟨X, hlk, hr, hRf, hRl, hRc, hnm⟩ := Y
  have ⟨⟨hx, hb, _, hown, hts⟩, _, _⟩ := X
  intro H locs cells slots ls hP hL hB hl
  obtain ⟨rfl, rfl⟩ := hB
  unfold wX8_isHead at hf
  refine p_aload_n hx hb dX8_isHead_0 rfl (lv_at hl 0 rfl) ?_
  obtain ⟨ht1, hf⟩ := hf
  refine p_gR X cf7_ (k := 3) (by decide) rfl hP ht1 q594 (fun _ h => h) dX8_isHead_1 ?_
  refine lv_lload_n hx hb dX8_isHead_4 rfl (lv_at hl 1 rfl) ?_
  obtain ⟨ht2, hf⟩ := hf
  refine p_calli hL (p_runV X cf6_ hP ht2 (metX7_at l G _ _ _ _ X.2.2 hf) (cwV 1 hts (lw_V q1004 q967 q968 q104 q969) rfl rfl rfl (by decide +kernel) ⟨Nat.le_trans (Nat.le_of_ble_eq_true rfl) hRf, Nat.le_trans (Nat.le_of_ble_eq_true rfl) hRl⟩) rfl hl.1 rfl (by decide) dX8_isHead_5 ⟨Nat.zero_le _, Nat.zero_le _⟩) (fun r3 σ₁ H locs hf hP hL => ?_)
  obtain ⟨e₁, hf⟩ := hf
  rw [e₁] at hP
  refine lv_iload_n hx hb dX8_isHead_8 rfl (lv_at hl 2 rfl) ?_
  refine lv_icmp_ne (tgt := 47) hx hb dX8_isHead_9 (by decide) (fun c4 => ?_) (fun c4 => ?_)
  · have hf := hf.1 c4
    refine lv_iconst (v := 0) hx hb dX8_isHead_47 (by decide) ?_
    exact p_zret X hlk hP hL (Nat.le_refl _) (Nat.le_refl _) hr nr_0 dX8_isHead_48 ⟨rfl, hf⟩
  · have hf := hf.2 c4
    refine p_aload_n hx hb dX8_isHead_12 rfl (lv_at hl 0 rfl) ?_
    refine p_gR X cf7_ (k := 3) (by decide) rfl hP ht1 q594 (fun _ h => h) dX8_isHead_13 ?_
    refine lv_lload_n hx hb dX8_isHead_16 rfl (lv_at hl 1 rfl) ?_
    refine lv_lconst (v := 1) hx hb dX8_isHead_17 (by decide) ?_
    refine lv_ladd hx hb dX8_isHead_18 ?_
    refine p_ldcS X hP (j := 7) rfl dX8_isHead_19 ?_
    refine p_calli hL (p_runV X cf6_ hP ht2 (metX7_says l G _ _ _ _ _ X.2.2 hf) (cwV 2 hts (lw_V q1006 q962 q963 q104 q964) rfl rfl rfl (by decide +kernel) ⟨Nat.le_trans (Nat.le_of_ble_eq_true rfl) hRf, Nat.le_trans (Nat.le_of_ble_eq_true rfl) hRl⟩) rfl hl.1 rfl (by decide) dX8_isHead_21 ⟨Nat.zero_le _, Nat.zero_le _⟩) (fun r5 σ₁ H locs hf hP hL => ?_)
    obtain ⟨e₁, hf⟩ := hf
    rw [e₁] at hP
    refine lv_if_eq (tgt := 47) hx hb dX8_isHead_24 (by decide) (fun c6 => ?_) (fun c6 => ?_)
    · have hf := hf.1 c6
      refine lv_iconst (v := 0) hx hb dX8_isHead_47 (by decide) ?_
      exact p_zret X hlk hP hL (Nat.le_refl _) (Nat.le_refl _) hr nr_0 dX8_isHead_48 ⟨rfl, hf⟩
    · have hf := hf.2 c6
      refine p_aload_n hx hb dX8_isHead_27 rfl (lv_at hl 0 rfl) ?_
      refine p_gR X cf7_ (k := 3) (by decide) rfl hP ht1 q594 (fun _ h => h) dX8_isHead_28 ?_
      refine lv_lload_n hx hb dX8_isHead_31 rfl (lv_at hl 1 rfl) ?_
      refine lv_ldc2 hx hb hown (hts _ q1007) dX8_isHead_32 ?_
      refine lv_ladd hx hb dX8_isHead_35 ?_
      refine p_calli hL (p_runV X cf6_ hP ht2 (metX7_at l G _ _ _ _ X.2.2 hf) (cwV 1 hts (lw_V q1004 q967 q968 q104 q969) rfl rfl rfl (by decide +kernel) ⟨Nat.le_trans (Nat.le_of_ble_eq_true rfl) hRf, Nat.le_trans (Nat.le_of_ble_eq_true rfl) hRl⟩) rfl hl.1 rfl (by decide) dX8_isHead_36 ⟨Nat.zero_le _, Nat.zero_le _⟩) (fun r7 σ₁ H locs hf hP hL => ?_)
      obtain ⟨e₁, hf⟩ := hf
      rw [e₁] at hP
      refine lv_iconst (v := 1) hx hb dX8_isHead_39 (by decide) ?_
      refine lv_icmp_ne (tgt := 47) hx hb dX8_isHead_40 (by decide) (fun c8 => ?_) (fun c8 => ?_)
      · have hf := hf.1 c8
        refine lv_iconst (v := 0) hx hb dX8_isHead_47 (by decide) ?_
        exact p_zret X hlk hP hL (Nat.le_refl _) (Nat.le_refl _) hr nr_0 dX8_isHead_48 ⟨rfl, hf⟩
      · have hf := hf.2 c8
        refine lv_iconst (v := 1) hx hb dX8_isHead_43 (by decide) ?_
        refine lv_goto (tgt := 48) hx hb dX8_isHead_44 (by decide) ?_
        exact p_zret X hlk hP hL (Nat.le_refl _) (Nat.le_refl _) hr nr_1 dX8_isHead_48 ⟨rfl, hf⟩
set_option maxHeartbeats 4000000 in
theorem metX8_isHead (l : Launch) (G : GG_) (x0 : Nat) (x1 : Int64) (x3 : Int32) (σ : Hp) (post : Int32 → Prop) (hG : GOK_ G) (hf : wX8_isHead x0 x1 x3 σ post) : Met l yX8_isHead (ws_ yX8_isHead cX8_isHead 4 (some Jvm.ClassFile.FieldType.boolean)) { frames := 6, cells := 0, slots := 0, locals := 130 } (PC_ G [rv_ x0, .long x1, .int x3] σ) (QI_ G (fun r τ => τ = σ ∧ post r)) 0 0 (FR_ G) := by
  refine Met.ofW (cc := cX8_isHead) (maxL := 4) (ret := (some Jvm.ClassFile.FieldType.boolean)) (by decide) rfl ?_
  intro p e s m args below meth c s₁ B hml hv
  obtain ⟨rfl, hP, hW⟩ := hv
  have hts := atoms_spec (ws := ws_ yX8_isHead cX8_isHead 4 (some Jvm.ClassFile.FieldType.boolean)) B.pre
  have hts : ∀ w ∈ lw_all, w.before _ s = true := fun w h => hts w (List.mem_cons_of_mem _ h)
  rw [lg_entry_eq]
  have hl := en_entry [rv_ x0, .long x1, .int x3] [1, 2, 1] (n := 4) (ca_r (ca_l (ca_i ca_n))) (by decide)
  exact sX8_isHead ⟨⟨⟨B.exec, B.bytes, hml, findClass_of_methodNamed B.named, hts⟩, hW, hG⟩, B.notSynchronized, B.returns, Nat.le_refl _, Nat.le_refl _, ⟨rfl, rfl⟩, (name_of_methodNamed B.named B.method).1⟩ hf _ _ _ _ _ hP (LO_nil G) ⟨rfl, rfl⟩ hl
