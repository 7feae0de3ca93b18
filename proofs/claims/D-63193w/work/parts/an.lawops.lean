/-! the law: a plain operation (printed by gen/g6.py) -/
section
variable {D x sc L j : Nat} {xs : Nat → Int32} {SC : Hp → Prop} {rc : Int32 → Hp → Prop} {S S2 : AS} {σ τ : Hp}
theorem L_defect (h : LE D x sc L xs j SC rc S σ) : wL_law_L144 SC (fun r _ => r = 1) rc sc x (x + 31) D (nI (1 + 6 * j)) σ := by
  obtain ⟨hSC, hV, hI, hs, ⟨hj, hL⟩, ⟨hb1, hb2⟩, hr⟩ := id h
  have ok := hI.1
  have V0 := hV.2.2.2.1
  unfold wL_law_L144
  have q1 : (nI (1 + 6 * j) + (1 : Int32)).toNatClampNeg = 1 + 6 * j + 1 := lidx hj hL 1 (by decide)
  have v1 : vp_in (nI (1 + 6 * j) + (1 : Int32)) L := lvin hj hL 1 (by decide)
  simp only [q1]
  rw [V0.2.1, hs (1 + 6 * j + 1) (by omega)]
  refine ⟨V0.1, v1, hV.x1, C_defect hV.1 ok (fun s2 c2 f2 s3 e3 k3 => ?_)⟩
  have V3 : HV D x sc L S (opDefect S (xs (1 + 6 * j + 1))).2 s3 := by rw [e3]; exact HV.bu (hV.cls c2 f2)
  have t3 := hSC s3 k3 V3.2.2.2.1.1 V3.2.2.2.1.2.1
  rw [V3.2.2.2.1.2.1, t3 (1 + 6 * j + 1) (by omega)]
  refine ⟨V3.2.2.2.1.1, v1, V3.m9, M_defect V3.2.1 ok (fun s5 m5 f5 s6 e6 k6 => ?_)⟩
  have V6 : HV D x sc L (opDefect S (xs (1 + 6 * j + 1))).2 (opDefect S (xs (1 + 6 * j + 1))).2 s6 := by rw [e6]; exact HV.bu (V3.ref m5 f5)
  have hb6 : (63 - j) * 7298 ≤ bc_ s6 ∧ (63 - j) * 56510 ≤ bs_ s6 := by
    rw [e6]
    show _ ≤ bc_ s3 ∧ _ ≤ bs_ s3
    rw [e3]
    show _ ≤ bc_ σ ∧ _ ≤ bs_ σ
    omega
  exact ⟨fun _ => h.next V6 (INV.up (I_defect hI _) (by omega)) k6 hb6, fun w => absurd rfl w⟩
theorem L_power (h : LE D x sc L xs j SC rc S σ) : wL_law_L169 SC (fun r _ => r = 1) rc sc x (x + 31) D (nI (1 + 6 * j)) σ := by
  obtain ⟨hSC, hV, hI, hs, ⟨hj, hL⟩, ⟨hb1, hb2⟩, hr⟩ := id h
  have ok := hI.1
  have V0 := hV.2.2.2.1
  unfold wL_law_L169
  have q1 : (nI (1 + 6 * j) + (1 : Int32)).toNatClampNeg = 1 + 6 * j + 1 := lidx hj hL 1 (by decide)
  have v1 : vp_in (nI (1 + 6 * j) + (1 : Int32)) L := lvin hj hL 1 (by decide)
  simp only [q1]
  rw [V0.2.1, hs (1 + 6 * j + 1) (by omega)]
  refine ⟨V0.1, v1, hV.x1, C_power hV.1 (fun s2 c2 f2 s3 e3 k3 => ?_)⟩
  have V3 : HV D x sc L S (opPower S (xs (1 + 6 * j + 1))) s3 := by rw [e3]; exact HV.bu (hV.cls c2 f2)
  have t3 := hSC s3 k3 V3.2.2.2.1.1 V3.2.2.2.1.2.1
  rw [V3.2.2.2.1.2.1, t3 (1 + 6 * j + 1) (by omega)]
  refine ⟨V3.2.2.2.1.1, v1, V3.m9, M_power V3.2.1 (fun s5 m5 f5 s6 e6 k6 => ?_)⟩
  have V6 : HV D x sc L (opPower S (xs (1 + 6 * j + 1))) (opPower S (xs (1 + 6 * j + 1))) s6 := by rw [e6]; exact HV.bu (V3.ref m5 f5)
  have hb6 : (63 - j) * 7298 ≤ bc_ s6 ∧ (63 - j) * 56510 ≤ bs_ s6 := by
    rw [e6]
    show _ ≤ bc_ s3 ∧ _ ≤ bs_ s3
    rw [e3]
    show _ ≤ bc_ σ ∧ _ ≤ bs_ σ
    omega
  exact h.next V6 (INV.up (I_power hI _) (by omega)) k6 hb6
theorem L_directory (h : LE D x sc L xs j SC rc S σ) : wL_law_L192 SC (fun r _ => r = 1) rc sc x (x + 31) D (nI (1 + 6 * j)) σ := by
  obtain ⟨hSC, hV, hI, hs, ⟨hj, hL⟩, ⟨hb1, hb2⟩, hr⟩ := id h
  have ok := hI.1
  have V0 := hV.2.2.2.1
  unfold wL_law_L192
  have q1 : (nI (1 + 6 * j) + (1 : Int32)).toNatClampNeg = 1 + 6 * j + 1 := lidx hj hL 1 (by decide)
  have v1 : vp_in (nI (1 + 6 * j) + (1 : Int32)) L := lvin hj hL 1 (by decide)
  have q2 : (nI (1 + 6 * j) + (2 : Int32)).toNatClampNeg = 1 + 6 * j + 2 := lidx hj hL 2 (by decide)
  have v2 : vp_in (nI (1 + 6 * j) + (2 : Int32)) L := lvin hj hL 2 (by decide)
  have q3 : (nI (1 + 6 * j) + (3 : Int32)).toNatClampNeg = 1 + 6 * j + 3 := lidx hj hL 3 (by decide)
  have v3 : vp_in (nI (1 + 6 * j) + (3 : Int32)) L := lvin hj hL 3 (by decide)
  simp only [q1, q2, q3]
  rw [V0.2.1, hs (1 + 6 * j + 1) (by omega), hs (1 + 6 * j + 2) (by omega), hs (1 + 6 * j + 3) (by omega)]
  obtain ⟨a, ha, ea⟩ := lN_sur (((xs (1 + 6 * j + 2)).toInt64 <<< ((32 : Int32).toInt64 &&& 63)) ||| ((xs (1 + 6 * j + 3)).toInt64 &&& (4294967295 : Int64)))
  rw [ea]
  obtain ⟨mc, hmc⟩ : ∃ m, m = 10 := ⟨_, rfl⟩
  obtain ⟨ms, hms⟩ : ∃ m, m = 112 := ⟨_, rfl⟩
  refine ⟨V0.1, v1, v2, v3, hV.x1, mc, ms, by omega, by omega, C_directory (σ := bu_ σ mc ms) hV.1 ok (by show _ ≤ mc; omega) (by show _ ≤ ms; omega) (fun s2 c2 f2 s3 e3 k3 => ?_)⟩
  have V3 : HV D x sc L S (opDir S (xs (1 + 6 * j + 1)) a).2 s3 := by rw [e3]; exact HV.bu (hV.cls c2 f2)
  have t3 := hSC s3 k3 V3.2.2.2.1.1 V3.2.2.2.1.2.1
  rw [V3.2.2.2.1.2.1, t3 (1 + 6 * j + 1) (by omega), t3 (1 + 6 * j + 2) (by omega), t3 (1 + 6 * j + 3) (by omega)]
  rw [ea]
  refine ⟨V3.2.2.2.1.1, v1, v2, v3, V3.m9, M_directory V3.2.1 ok ha (fun s5 m5 f5 s6 e6 k6 => ?_)⟩
  have V6 : HV D x sc L (opDir S (xs (1 + 6 * j + 1)) a).2 (opDir S (xs (1 + 6 * j + 1)) a).2 s6 := by rw [e6]; exact HV.bu (V3.ref m5 f5)
  have hb6 : (63 - j) * 7298 ≤ bc_ s6 ∧ (63 - j) * 56510 ≤ bs_ s6 := by
    rw [e6]
    show _ ≤ bc_ s3 ∧ _ ≤ bs_ s3
    rw [e3]
    show _ ≤ bc_ σ - mc ∧ _ ≤ bs_ σ - ms
    omega
  exact ⟨fun _ => h.next V6 (INV.up (I_dir hI (by omega) _ _) (by omega)) k6 hb6, fun w => absurd rfl w⟩
theorem L_file (h : LE D x sc L xs j SC rc S σ) : wL_law_L261 SC (fun r _ => r = 1) rc sc x (x + 31) D (nI (1 + 6 * j)) σ := by
  obtain ⟨hSC, hV, hI, hs, ⟨hj, hL⟩, ⟨hb1, hb2⟩, hr⟩ := id h
  have ok := hI.1
  have V0 := hV.2.2.2.1
  unfold wL_law_L261
  have q1 : (nI (1 + 6 * j) + (1 : Int32)).toNatClampNeg = 1 + 6 * j + 1 := lidx hj hL 1 (by decide)
  have v1 : vp_in (nI (1 + 6 * j) + (1 : Int32)) L := lvin hj hL 1 (by decide)
  have q2 : (nI (1 + 6 * j) + (2 : Int32)).toNatClampNeg = 1 + 6 * j + 2 := lidx hj hL 2 (by decide)
  have v2 : vp_in (nI (1 + 6 * j) + (2 : Int32)) L := lvin hj hL 2 (by decide)
  have q3 : (nI (1 + 6 * j) + (3 : Int32)).toNatClampNeg = 1 + 6 * j + 3 := lidx hj hL 3 (by decide)
  have v3 : vp_in (nI (1 + 6 * j) + (3 : Int32)) L := lvin hj hL 3 (by decide)
  have q4 : (nI (1 + 6 * j) + (4 : Int32)).toNatClampNeg = 1 + 6 * j + 4 := lidx hj hL 4 (by decide)
  have v4 : vp_in (nI (1 + 6 * j) + (4 : Int32)) L := lvin hj hL 4 (by decide)
  have q5 : (nI (1 + 6 * j) + (5 : Int32)).toNatClampNeg = 1 + 6 * j + 5 := lidx hj hL 5 (by decide)
  have v5 : vp_in (nI (1 + 6 * j) + (5 : Int32)) L := lvin hj hL 5 (by decide)
  simp only [q1, q2, q3, q4, q5]
  rw [V0.2.1, hs (1 + 6 * j + 1) (by omega), hs (1 + 6 * j + 2) (by omega), hs (1 + 6 * j + 3) (by omega), hs (1 + 6 * j + 4) (by omega), hs (1 + 6 * j + 5) (by omega)]
  obtain ⟨a, ha, ea⟩ := lN_sur (((xs (1 + 6 * j + 2)).toInt64 <<< ((32 : Int32).toInt64 &&& 63)) ||| ((xs (1 + 6 * j + 3)).toInt64 &&& (4294967295 : Int64)))
  rw [ea]
  obtain ⟨mc, hmc⟩ : ∃ m, m = 10 := ⟨_, rfl⟩
  obtain ⟨ms, hms⟩ : ∃ m, m = 112 := ⟨_, rfl⟩
  refine ⟨V0.1, v1, v2, v3, v4, v5, hV.x1, mc, ms, by omega, by omega, C_file (σ := bu_ σ mc ms) hV.1 ok (by show _ ≤ mc; omega) (by show _ ≤ ms; omega) (fun s2 c2 f2 s3 e3 k3 => ?_)⟩
  have V3 : HV D x sc L S (opFile S (xs (1 + 6 * j + 1)) a (xs (1 + 6 * j + 4)) (xs (1 + 6 * j + 5))).2 s3 := by rw [e3]; exact HV.bu (hV.cls c2 f2)
  have t3 := hSC s3 k3 V3.2.2.2.1.1 V3.2.2.2.1.2.1
  rw [V3.2.2.2.1.2.1, t3 (1 + 6 * j + 1) (by omega), t3 (1 + 6 * j + 2) (by omega), t3 (1 + 6 * j + 3) (by omega), t3 (1 + 6 * j + 4) (by omega), t3 (1 + 6 * j + 5) (by omega)]
  rw [ea]
  refine ⟨V3.2.2.2.1.1, v1, v2, v3, v4, v5, V3.m9, M_file V3.2.1 ok ha (fun s5 m5 f5 s6 e6 k6 => ?_)⟩
  have V6 : HV D x sc L (opFile S (xs (1 + 6 * j + 1)) a (xs (1 + 6 * j + 4)) (xs (1 + 6 * j + 5))).2 (opFile S (xs (1 + 6 * j + 1)) a (xs (1 + 6 * j + 4)) (xs (1 + 6 * j + 5))).2 s6 := by rw [e6]; exact HV.bu (V3.ref m5 f5)
  have hb6 : (63 - j) * 7298 ≤ bc_ s6 ∧ (63 - j) * 56510 ≤ bs_ s6 := by
    rw [e6]
    show _ ≤ bc_ s3 ∧ _ ≤ bs_ s3
    rw [e3]
    show _ ≤ bc_ σ - mc ∧ _ ≤ bs_ σ - ms
    omega
  exact ⟨fun _ => h.next V6 (INV.up (I_file hI (by omega) _ _ _ _) (by omega)) k6 hb6, fun w => absurd rfl w⟩
theorem L_replace (h : LE D x sc L xs j SC rc S σ) : wL_law_L354 SC (fun r _ => r = 1) rc sc x (x + 31) D (nI (1 + 6 * j)) σ := by
  obtain ⟨hSC, hV, hI, hs, ⟨hj, hL⟩, ⟨hb1, hb2⟩, hr⟩ := id h
  have ok := hI.1
  have V0 := hV.2.2.2.1
  unfold wL_law_L354
  have q1 : (nI (1 + 6 * j) + (1 : Int32)).toNatClampNeg = 1 + 6 * j + 1 := lidx hj hL 1 (by decide)
  have v1 : vp_in (nI (1 + 6 * j) + (1 : Int32)) L := lvin hj hL 1 (by decide)
  have q2 : (nI (1 + 6 * j) + (2 : Int32)).toNatClampNeg = 1 + 6 * j + 2 := lidx hj hL 2 (by decide)
  have v2 : vp_in (nI (1 + 6 * j) + (2 : Int32)) L := lvin hj hL 2 (by decide)
  have q3 : (nI (1 + 6 * j) + (3 : Int32)).toNatClampNeg = 1 + 6 * j + 3 := lidx hj hL 3 (by decide)
  have v3 : vp_in (nI (1 + 6 * j) + (3 : Int32)) L := lvin hj hL 3 (by decide)
  simp only [q1, q2, q3]
  rw [V0.2.1, hs (1 + 6 * j + 1) (by omega), hs (1 + 6 * j + 2) (by omega), hs (1 + 6 * j + 3) (by omega)]
  refine ⟨V0.1, v1, v2, v3, hV.x1, C_replace hV.1 ok (fun s2 c2 f2 s3 e3 k3 => ?_)⟩
  have V3 : HV D x sc L S (opReplace S (xs (1 + 6 * j + 1)) (xs (1 + 6 * j + 2)) (xs (1 + 6 * j + 3))).2 s3 := by rw [e3]; exact HV.bu (hV.cls c2 f2)
  have t3 := hSC s3 k3 V3.2.2.2.1.1 V3.2.2.2.1.2.1
  rw [V3.2.2.2.1.2.1, t3 (1 + 6 * j + 1) (by omega), t3 (1 + 6 * j + 2) (by omega), t3 (1 + 6 * j + 3) (by omega)]
  refine ⟨V3.2.2.2.1.1, v1, v2, v3, V3.m9, M_replace V3.2.1 ok (fun s5 m5 f5 s6 e6 k6 => ?_)⟩
  have V6 : HV D x sc L (opReplace S (xs (1 + 6 * j + 1)) (xs (1 + 6 * j + 2)) (xs (1 + 6 * j + 3))).2 (opReplace S (xs (1 + 6 * j + 1)) (xs (1 + 6 * j + 2)) (xs (1 + 6 * j + 3))).2 s6 := by rw [e6]; exact HV.bu (V3.ref m5 f5)
  have hb6 : (63 - j) * 7298 ≤ bc_ s6 ∧ (63 - j) * 56510 ≤ bs_ s6 := by
    rw [e6]
    show _ ≤ bc_ s3 ∧ _ ≤ bs_ s3
    rw [e3]
    show _ ≤ bc_ σ ∧ _ ≤ bs_ σ
    omega
  exact ⟨fun _ => h.next V6 (INV.up (I_replace hI _ _ _) (by omega)) k6 hb6, fun w => absurd rfl w⟩
theorem L_remove (h : LE D x sc L xs j SC rc S σ) : wL_law_L403 SC (fun r _ => r = 1) rc sc x (x + 31) D (nI (1 + 6 * j)) σ := by
  obtain ⟨hSC, hV, hI, hs, ⟨hj, hL⟩, ⟨hb1, hb2⟩, hr⟩ := id h
  have ok := hI.1
  have V0 := hV.2.2.2.1
  unfold wL_law_L403
  have q1 : (nI (1 + 6 * j) + (1 : Int32)).toNatClampNeg = 1 + 6 * j + 1 := lidx hj hL 1 (by decide)
  have v1 : vp_in (nI (1 + 6 * j) + (1 : Int32)) L := lvin hj hL 1 (by decide)
  simp only [q1]
  rw [V0.2.1, hs (1 + 6 * j + 1) (by omega)]
  refine ⟨V0.1, v1, hV.x1, C_remove hV.1 ok (fun s2 c2 f2 s3 e3 k3 => ?_)⟩
  have V3 : HV D x sc L S (opRemove S (xs (1 + 6 * j + 1))).2 s3 := by rw [e3]; exact HV.bu (hV.cls c2 f2)
  have t3 := hSC s3 k3 V3.2.2.2.1.1 V3.2.2.2.1.2.1
  rw [V3.2.2.2.1.2.1, t3 (1 + 6 * j + 1) (by omega)]
  refine ⟨V3.2.2.2.1.1, v1, V3.m9, M_remove V3.2.1 ok (fun s5 m5 f5 s6 e6 k6 => ?_)⟩
  have V6 : HV D x sc L (opRemove S (xs (1 + 6 * j + 1))).2 (opRemove S (xs (1 + 6 * j + 1))).2 s6 := by rw [e6]; exact HV.bu (V3.ref m5 f5)
  have hb6 : (63 - j) * 7298 ≤ bc_ s6 ∧ (63 - j) * 56510 ≤ bs_ s6 := by
    rw [e6]
    show _ ≤ bc_ s3 ∧ _ ≤ bs_ s3
    rw [e3]
    show _ ≤ bc_ σ ∧ _ ≤ bs_ σ
    omega
  exact ⟨fun _ => h.next V6 (INV.up (I_remove hI _) (by omega)) k6 hb6, fun w => absurd rfl w⟩
theorem L_rename (h : LE D x sc L xs j SC rc S σ) : wL_law_L428 SC (fun r _ => r = 1) rc sc x (x + 31) D (nI (1 + 6 * j)) σ := by
  obtain ⟨hSC, hV, hI, hs, ⟨hj, hL⟩, ⟨hb1, hb2⟩, hr⟩ := id h
  have ok := hI.1
  have V0 := hV.2.2.2.1
  unfold wL_law_L428
  have q1 : (nI (1 + 6 * j) + (1 : Int32)).toNatClampNeg = 1 + 6 * j + 1 := lidx hj hL 1 (by decide)
  have v1 : vp_in (nI (1 + 6 * j) + (1 : Int32)) L := lvin hj hL 1 (by decide)
  have q2 : (nI (1 + 6 * j) + (2 : Int32)).toNatClampNeg = 1 + 6 * j + 2 := lidx hj hL 2 (by decide)
  have v2 : vp_in (nI (1 + 6 * j) + (2 : Int32)) L := lvin hj hL 2 (by decide)
  have q3 : (nI (1 + 6 * j) + (3 : Int32)).toNatClampNeg = 1 + 6 * j + 3 := lidx hj hL 3 (by decide)
  have v3 : vp_in (nI (1 + 6 * j) + (3 : Int32)) L := lvin hj hL 3 (by decide)
  have q4 : (nI (1 + 6 * j) + (4 : Int32)).toNatClampNeg = 1 + 6 * j + 4 := lidx hj hL 4 (by decide)
  have v4 : vp_in (nI (1 + 6 * j) + (4 : Int32)) L := lvin hj hL 4 (by decide)
  simp only [q1, q2, q3, q4]
  rw [V0.2.1, hs (1 + 6 * j + 1) (by omega), hs (1 + 6 * j + 2) (by omega), hs (1 + 6 * j + 3) (by omega), hs (1 + 6 * j + 4) (by omega)]
  obtain ⟨a, ha, ea⟩ := lN_sur (((xs (1 + 6 * j + 3)).toInt64 <<< ((32 : Int32).toInt64 &&& 63)) ||| ((xs (1 + 6 * j + 4)).toInt64 &&& (4294967295 : Int64)))
  rw [ea]
  obtain ⟨mc, hmc⟩ : ∃ m, m = 8 := ⟨_, rfl⟩
  obtain ⟨ms, hms⟩ : ∃ m, m = 67 := ⟨_, rfl⟩
  refine ⟨V0.1, v1, v2, v3, v4, hV.x1, mc, ms, by omega, by omega, C_rename (σ := bu_ σ mc ms) hV.1 ok (by show _ ≤ mc; omega) (by show _ ≤ ms; omega) (fun s2 c2 f2 s3 e3 k3 => ?_)⟩
  have V3 : HV D x sc L S (opRename S (xs (1 + 6 * j + 1)) (xs (1 + 6 * j + 2)) a).2 s3 := by rw [e3]; exact HV.bu (hV.cls c2 f2)
  have t3 := hSC s3 k3 V3.2.2.2.1.1 V3.2.2.2.1.2.1
  rw [V3.2.2.2.1.2.1, t3 (1 + 6 * j + 1) (by omega), t3 (1 + 6 * j + 2) (by omega), t3 (1 + 6 * j + 3) (by omega), t3 (1 + 6 * j + 4) (by omega)]
  rw [ea]
  refine ⟨V3.2.2.2.1.1, v1, v2, v3, v4, V3.m9, M_rename V3.2.1 ok ha (fun s5 m5 f5 s6 e6 k6 => ?_)⟩
  have V6 : HV D x sc L (opRename S (xs (1 + 6 * j + 1)) (xs (1 + 6 * j + 2)) a).2 (opRename S (xs (1 + 6 * j + 1)) (xs (1 + 6 * j + 2)) a).2 s6 := by rw [e6]; exact HV.bu (V3.ref m5 f5)
  have hb6 : (63 - j) * 7298 ≤ bc_ s6 ∧ (63 - j) * 56510 ≤ bs_ s6 := by
    rw [e6]
    show _ ≤ bc_ s3 ∧ _ ≤ bs_ s3
    rw [e3]
    show _ ≤ bc_ σ - mc ∧ _ ≤ bs_ σ - ms
    omega
  exact ⟨fun _ => h.next V6 (INV.up (I_rename hI _ _ _) (by omega)) k6 hb6, fun w => absurd rfl w⟩
theorem L_commit (h : LE D x sc L xs j SC rc S σ) : wL_law_L509 SC (fun r _ => r = 1) rc sc x (x + 31) D (nI (1 + 6 * j)) σ := by
  obtain ⟨hSC, hV, hI, hs, ⟨hj, hL⟩, ⟨hb1, hb2⟩, hr⟩ := id h
  have ok := hI.1
  have V0 := hV.2.2.2.1
  unfold wL_law_L509
  obtain ⟨mc, hmc⟩ : ∃ m, m = 5244 := ⟨_, rfl⟩
  obtain ⟨ms, hms⟩ : ∃ m, m = 34500 := ⟨_, rfl⟩
  refine ⟨hV.x1, mc, ms, by omega, by omega, C_commit (σ := bu_ σ mc ms) hV.1 ok (hI.la (by omega)) (by show _ ≤ mc; omega) (by show _ ≤ ms; omega) (fun s2 c2 f2 s3 e3 k3 => ?_)⟩
  have V3 : HV D x sc L S (opCommit S).2 s3 := by rw [e3]; exact HV.bu (hV.cls c2 f2)
  have t3 := hSC s3 k3 V3.2.2.2.1.1 V3.2.2.2.1.2.1
  refine ⟨V3.m9, M_commit V3.2.1 ok (fun s5 m5 f5 s6 e6 k6 => ?_) (hI.la (by omega))⟩
  have V6 : HV D x sc L (opCommit S).2 (opCommit S).2 s6 := by rw [e6]; exact HV.bu (V3.ref m5 f5)
  have hb6 : (63 - j) * 7298 ≤ bc_ s6 ∧ (63 - j) * 56510 ≤ bs_ s6 := by
    rw [e6]
    show _ ≤ bc_ s3 ∧ _ ≤ bs_ s3
    rw [e3]
    show _ ≤ bc_ σ - mc ∧ _ ≤ bs_ σ - ms
    omega
  exact ⟨fun _ => h.next V6 (INV.up (I_commit hI (by omega)) (by omega)) k6 hb6, fun w => absurd rfl w⟩
theorem L_discover (h : LE D x sc L xs j SC rc S σ) : wL_law_L522 SC (fun r _ => r = 1) rc sc x (x + 31) D (nI (1 + 6 * j)) σ := by
  obtain ⟨hSC, hV, hI, hs, ⟨hj, hL⟩, ⟨hb1, hb2⟩, hr⟩ := id h
  have ok := hI.1
  have V0 := hV.2.2.2.1
  unfold wL_law_L522
  obtain ⟨mc, hmc⟩ : ∃ m, m = 7298 := ⟨_, rfl⟩
  obtain ⟨ms, hms⟩ : ∃ m, m = 56510 := ⟨_, rfl⟩
  refine ⟨hV.x1, mc, ms, by omega, by omega, C_discover (σ := bu_ σ mc ms) hV.1 (by show _ ≤ mc; omega) (by show _ ≤ ms; omega) (fun s2 c2 f2 s3 e3 k3 => ?_)⟩
  have V3 : HV D x sc L S (opDiscover S).2 s3 := by rw [e3]; exact HV.bu (hV.cls c2 f2)
  have t3 := hSC s3 k3 V3.2.2.2.1.1 V3.2.2.2.1.2.1
  refine ⟨V3.m9, M_discover V3.2.1 ok (fun s5 m5 f5 s6 e6 k6 => ?_)⟩
  have V6 : HV D x sc L (opDiscover S).2 (opDiscover S).2 s6 := by rw [e6]; exact HV.bu (V3.ref m5 f5)
  have hb6 : (63 - j) * 7298 ≤ bc_ s6 ∧ (63 - j) * 56510 ≤ bs_ s6 := by
    rw [e6]
    show _ ≤ bc_ s3 ∧ _ ≤ bs_ s3
    rw [e3]
    show _ ≤ bc_ σ - mc ∧ _ ≤ bs_ σ - ms
    omega
  exact ⟨fun _ => h.next V6 (INV.up (I_discover hI) (by omega)) k6 hb6, fun w => absurd rfl w⟩
theorem L_compact (h : LE D x sc L xs j SC rc S σ) : wL_law_L535 SC (fun r _ => r = 1) rc sc x (x + 31) D (nI (1 + 6 * j)) σ := by
  obtain ⟨hSC, hV, hI, hs, ⟨hj, hL⟩, ⟨hb1, hb2⟩, hr⟩ := id h
  have ok := hI.1
  have V0 := hV.2.2.2.1
  unfold wL_law_L535
  obtain ⟨mc, hmc⟩ : ∃ m, m = 5426 := ⟨_, rfl⟩
  obtain ⟨ms, hms⟩ : ∃ m, m = 36882 := ⟨_, rfl⟩
  refine ⟨hV.x1, mc, ms, by omega, by omega, C_compact (σ := bu_ σ mc ms) hV.1 ok hI.2.1 (by show _ ≤ mc; omega) (by show _ ≤ ms; omega) (fun s2 c2 f2 s3 e3 k3 => ?_)⟩
  have V3 : HV D x sc L S (opCompact S).2 s3 := by rw [e3]; exact HV.bu (hV.cls c2 f2)
  have t3 := hSC s3 k3 V3.2.2.2.1.1 V3.2.2.2.1.2.1
  refine ⟨V3.m9, M_compact V3.2.1 ok (fun s5 m5 f5 s6 e6 k6 => ?_)⟩
  have V6 : HV D x sc L (opCompact S).2 (opCompact S).2 s6 := by rw [e6]; exact HV.bu (V3.ref m5 f5)
  have hb6 : (63 - j) * 7298 ≤ bc_ s6 ∧ (63 - j) * 56510 ≤ bs_ s6 := by
    rw [e6]
    show _ ≤ bc_ s3 ∧ _ ≤ bs_ s3
    rw [e3]
    show _ ≤ bc_ σ - mc ∧ _ ≤ bs_ σ - ms
    omega
  exact ⟨fun _ => h.next V6 (INV.up (I_compact hI) (by omega)) k6 hb6, fun w => absurd rfl w⟩
theorem L_state (h : LE D x sc L xs j SC rc S σ) : wL_law_L548 SC (fun r _ => r = 1) rc sc x (x + 31) D (nI (1 + 6 * j)) σ := by
  obtain ⟨hSC, hV, hI, hs, ⟨hj, hL⟩, ⟨hb1, hb2⟩, hr⟩ := id h
  have ok := hI.1
  have V0 := hV.2.2.2.1
  unfold wL_law_L548
  have q1 : (nI (1 + 6 * j) + (1 : Int32)).toNatClampNeg = 1 + 6 * j + 1 := lidx hj hL 1 (by decide)
  have v1 : vp_in (nI (1 + 6 * j) + (1 : Int32)) L := lvin hj hL 1 (by decide)
  simp only [q1]
  rw [V0.2.1, hs (1 + 6 * j + 1) (by omega)]
  refine ⟨V0.1, v1, hV.x1, C_state hV.1 ?_⟩
  refine ⟨v1, hV.m9, M_state hV.2.1 (fun s5 m5 f5 s6 e6 k6 => ?_)⟩
  have V6 : HV D x sc L S S s6 := by rw [e6]; exact HV.bu (hV.ref m5 f5)
  have hb6 : (63 - j) * 7298 ≤ bc_ s6 ∧ (63 - j) * 56510 ≤ bs_ s6 := by
    rw [e6]
    show _ ≤ bc_ σ ∧ _ ≤ bs_ σ
    omega
  exact ⟨fun _ => h.next V6 (INV.up (hI) (by omega)) k6 hb6, fun w => absurd rfl w⟩
theorem L_byteAt (h : LE D x sc L xs j SC rc S σ) : wL_law_L573 SC (fun r _ => r = 1) rc sc x (x + 31) D (nI (1 + 6 * j)) σ := by
  obtain ⟨hSC, hV, hI, hs, ⟨hj, hL⟩, ⟨hb1, hb2⟩, hr⟩ := id h
  have ok := hI.1
  have V0 := hV.2.2.2.1
  unfold wL_law_L573
  have q1 : (nI (1 + 6 * j) + (1 : Int32)).toNatClampNeg = 1 + 6 * j + 1 := lidx hj hL 1 (by decide)
  have v1 : vp_in (nI (1 + 6 * j) + (1 : Int32)) L := lvin hj hL 1 (by decide)
  simp only [q1]
  rw [V0.2.1, hs (1 + 6 * j + 1) (by omega)]
  refine ⟨V0.1, v1, hV.x1, C_byteAt hV.1 ?_⟩
  refine ⟨v1, hV.m9, M_byteAt hV.2.1 (fun s5 m5 f5 s6 e6 k6 => ?_)⟩
  have V6 : HV D x sc L S S s6 := by rw [e6]; exact HV.bu (hV.ref m5 f5)
  have hb6 : (63 - j) * 7298 ≤ bc_ s6 ∧ (63 - j) * 56510 ≤ bs_ s6 := by
    rw [e6]
    show _ ≤ bc_ σ ∧ _ ≤ bs_ σ
    omega
  exact ⟨fun _ => h.next V6 (INV.up (hI) (by omega)) k6 hb6, fun w => absurd rfl w⟩
theorem L_spoil (h : LE D x sc L xs j SC rc S σ) : wL_law_L598 SC (fun r _ => r = 1) rc sc x (x + 31) D (nI (1 + 6 * j)) σ := by
  obtain ⟨hSC, hV, hI, hs, ⟨hj, hL⟩, ⟨hb1, hb2⟩, hr⟩ := id h
  have ok := hI.1
  have V0 := hV.2.2.2.1
  unfold wL_law_L598
  have q1 : (nI (1 + 6 * j) + (1 : Int32)).toNatClampNeg = 1 + 6 * j + 1 := lidx hj hL 1 (by decide)
  have v1 : vp_in (nI (1 + 6 * j) + (1 : Int32)) L := lvin hj hL 1 (by decide)
  have q2 : (nI (1 + 6 * j) + (2 : Int32)).toNatClampNeg = 1 + 6 * j + 2 := lidx hj hL 2 (by decide)
  have v2 : vp_in (nI (1 + 6 * j) + (2 : Int32)) L := lvin hj hL 2 (by decide)
  simp only [q1, q2]
  rw [V0.2.1, hs (1 + 6 * j + 1) (by omega), hs (1 + 6 * j + 2) (by omega)]
  refine ⟨V0.1, v1, v2, hV.x1, C_spoil hV.1 (fun s2 c2 f2 s3 e3 k3 => ?_)⟩
  have V3 : HV D x sc L S (opSpoil S (xs (1 + 6 * j + 1)) (xs (1 + 6 * j + 2))).2 s3 := by rw [e3]; exact HV.bu (hV.cls c2 f2)
  have t3 := hSC s3 k3 V3.2.2.2.1.1 V3.2.2.2.1.2.1
  rw [V3.2.2.2.1.2.1, t3 (1 + 6 * j + 1) (by omega), t3 (1 + 6 * j + 2) (by omega)]
  refine ⟨V3.2.2.2.1.1, v1, v2, V3.m9, M_spoil V3.2.1 (fun s5 m5 f5 s6 e6 k6 => ?_)⟩
  have V6 : HV D x sc L (opSpoil S (xs (1 + 6 * j + 1)) (xs (1 + 6 * j + 2))).2 (opSpoil S (xs (1 + 6 * j + 1)) (xs (1 + 6 * j + 2))).2 s6 := by rw [e6]; exact HV.bu (V3.ref m5 f5)
  have hb6 : (63 - j) * 7298 ≤ bc_ s6 ∧ (63 - j) * 56510 ≤ bs_ s6 := by
    rw [e6]
    show _ ≤ bc_ s3 ∧ _ ≤ bs_ s3
    rw [e3]
    show _ ≤ bc_ σ ∧ _ ≤ bs_ σ
    omega
  exact ⟨fun _ => h.next V6 (INV.up (I_spoil hI _ _) (by omega)) k6 hb6, fun w => absurd rfl w⟩
theorem L_writes (h : LE D x sc L xs j SC rc S σ) : wL_law_L635 SC (fun r _ => r = 1) rc sc x (x + 31) D (nI (1 + 6 * j)) σ := by
  obtain ⟨hSC, hV, hI, hs, ⟨hj, hL⟩, ⟨hb1, hb2⟩, hr⟩ := id h
  have ok := hI.1
  have V0 := hV.2.2.2.1
  unfold wL_law_L635
  refine ⟨hV.x1, C_writes hV.1 ?_⟩
  refine ⟨hV.m9, M_writes hV.2.1 (fun s5 m5 f5 s6 e6 k6 => ?_)⟩
  have V6 : HV D x sc L S S s6 := by rw [e6]; exact HV.bu (hV.ref m5 f5)
  have hb6 : (63 - j) * 7298 ≤ bc_ s6 ∧ (63 - j) * 56510 ≤ bs_ s6 := by
    rw [e6]
    show _ ≤ bc_ σ ∧ _ ≤ bs_ σ
    omega
  exact ⟨fun _ => h.next V6 (INV.up (hI) (by omega)) k6 hb6, fun w => absurd rfl w⟩
theorem L_open (h : LE D x sc L xs j SC rc S σ) : wL_law_L716 SC (fun r _ => r = 1) rc sc x (x + 31) D (nI (1 + 6 * j)) σ := by
  obtain ⟨hSC, hV, hI, hs, ⟨hj, hL⟩, ⟨hb1, hb2⟩, hr⟩ := id h
  have ok := hI.1
  have V0 := hV.2.2.2.1
  unfold wL_law_L716
  have q1 : (nI (1 + 6 * j) + (1 : Int32)).toNatClampNeg = 1 + 6 * j + 1 := lidx hj hL 1 (by decide)
  have v1 : vp_in (nI (1 + 6 * j) + (1 : Int32)) L := lvin hj hL 1 (by decide)
  simp only [q1]
  rw [V0.2.1, hs (1 + 6 * j + 1) (by omega)]
  obtain ⟨mc, hmc⟩ : ∃ m, m = 35 := ⟨_, rfl⟩
  obtain ⟨ms, hms⟩ : ∃ m, m = 266 := ⟨_, rfl⟩
  refine ⟨V0.1, v1, hV.x1, mc, ms, by omega, by omega, C_open (σ := bu_ σ mc ms) hV.1 (by show _ ≤ mc; omega) (by show _ ≤ ms; omega) (fun s2 c2 f2 s3 e3 k3 => ?_)⟩
  have V3 : HV D x sc L S (opOpen S (xs (1 + 6 * j + 1))).2 s3 := by rw [e3]; exact HV.bu (hV.cls c2 f2)
  have t3 := hSC s3 k3 V3.2.2.2.1.1 V3.2.2.2.1.2.1
  rw [V3.2.2.2.1.2.1, t3 (1 + 6 * j + 1) (by omega)]
  refine ⟨V3.2.2.2.1.1, v1, V3.m9, M_open V3.2.1 (fun s5 m5 f5 s6 e6 k6 => ?_)⟩
  have V6 : HV D x sc L (opOpen S (xs (1 + 6 * j + 1))).2 (opOpen S (xs (1 + 6 * j + 1))).2 s6 := by rw [e6]; exact HV.bu (V3.ref m5 f5)
  have hb6 : (63 - j) * 7298 ≤ bc_ s6 ∧ (63 - j) * 56510 ≤ bs_ s6 := by
    rw [e6]
    show _ ≤ bc_ s3 ∧ _ ≤ bs_ s3
    rw [e3]
    show _ ≤ bc_ σ - mc ∧ _ ≤ bs_ σ - ms
    omega
  exact ⟨fun _ => h.next V6 (INV.up (I_open hI _) (by omega)) k6 hb6, fun w => absurd rfl w⟩
end
