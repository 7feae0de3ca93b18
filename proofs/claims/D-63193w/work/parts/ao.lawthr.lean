/-! the law: operations that may throw (printed by gen/g7.py) -/
def an0 (D : Nat) (σ : Hp) (o : Option Int64) (r : Int32) : Prop := match o with
  | some v => r = 0 ∧ aL_ σ D 0 = v
  | none => r = 1
section
variable {D x sc L j : Nat} {xs : Nat → Int32} {SC : Hp → Prop} {rc : Int32 → Hp → Prop} {S S2 : AS} {σ τ : Hp}
theorem HV.vin (h : HV D x sc L S S2 σ) : vp_in (0 : Int32) (ln_ σ D) := by rw [h.2.2.1.2]; exact (vin_ (a := 0) (by omega)).mpr (by omega)
theorem HV.oL {v : Int64} : aL_ (wL_ σ D ((0 : Int32)).toNatClampNeg v) D 0 = v := by
  show u2_ (aL_ σ) D _ v D 0 = v
  unfold u2_
  rw [if_pos ⟨rfl, rfl⟩]
theorem lgc_e (a : Int64) : lg_cmp a a = 0 := by
  unfold lg_cmp
  rw [if_neg (by exact Int64.lt_irrefl), if_pos rfl]
theorem H_mark (hV : HV D x sc L S S σ) (ok : AOK S) (h1 : 35 ≤ bc_ σ) (h2 : 266 ≤ bs_ σ) {v1 : Int32} {v2 : Int32} {post : Int32 → Hp → Prop} (k : ∀ r σ1, HV D x sc L S S σ1 → an0 D σ1 ((opMark S v1 v2).map Int32.toInt64) r → post r σ1) : wX0_mark x v1 v2 D σ post := by
  obtain ⟨md, od, q, hj⟩ := id hV.1
  unfold wX0_mark
  refine ⟨hV.x1, 35, 266, h1, h2, ?_⟩
  cases e : opMark S v1 v2 with
  | none =>
    rw [e] at k
    exact Or.inl ⟨1, 6, by omega, by omega, C_markT (σ := bu_ σ 1 6) hj e (Nat.le_refl _) (Nat.le_refl _) (fun s1 s2 j1 c1 e1 s3 e3 => k 1 s3 (by rw [e3]; exact HV.bu (HV.et (HV.cls (σ := σ) hV ⟨md, od, q, j1⟩ c1) e1)) rfl)⟩
  | some o =>
    rw [e] at k
    refine Or.inr (C_markR (σ := bu_ σ 35 266) hj e (Nat.le_refl _) (Nat.le_refl _) (fun s1 j1 c1 s2 e2 => ?_))
    have V2 : HV D x sc L S S s2 := by rw [e2]; exact HV.bu (HV.cls (σ := σ) hV ⟨md, od, q, j1⟩ c1)
    exact ⟨V2.2.2.1.1, V2.vin, fun s3 e3 => k 0 s3 (by rw [e3]; exact V2.out) ⟨rfl, by rw [e3]; exact HV.oL⟩⟩
theorem L_mark (h : LE D x sc L xs j SC rc S σ) : wL_law_L648 SC (fun r _ => r = 1) rc sc x (x + 31) D (nI (1 + 6 * j)) σ := by
  obtain ⟨hSC, hV, hI, hs, ⟨hj, hL⟩, ⟨hb1, hb2⟩, hr⟩ := id h
  have ok := hI.1
  have V0 := hV.2.2.2.1
  unfold wL_law_L648
  have q1 : (nI (1 + 6 * j) + (1 : Int32)).toNatClampNeg = 1 + 6 * j + 1 := lidx hj hL 1 (by decide)
  have v1 : vp_in (nI (1 + 6 * j) + (1 : Int32)) L := lvin hj hL 1 (by decide)
  have q2 : (nI (1 + 6 * j) + (2 : Int32)).toNatClampNeg = 1 + 6 * j + 2 := lidx hj hL 2 (by decide)
  have v2 : vp_in (nI (1 + 6 * j) + (2 : Int32)) L := lvin hj hL 2 (by decide)
  simp only [q1, q2]
  rw [V0.2.1, hs (1 + 6 * j + 1) (by omega), hs (1 + 6 * j + 2) (by omega)]
  refine ⟨V0.1, v1, v2, 35, 266, by omega, by omega, H_mark (σ := bu_ σ 35 266) hV ok (Nat.le_refl _) (Nat.le_refl _) (fun r s2 V2 a2 s3 e3 k3 => ?_)⟩
  have V3 : HV D x sc L S S s3 := by rw [e3]; exact HV.bu V2
  have a3 : an0 D s3 ((opMark S (xs (1 + 6 * j + 1)) (xs (1 + 6 * j + 2))).map Int32.toInt64) r := by rw [e3]; exact a2
  have t3 := hSC s3 k3 V3.2.2.2.1.1 V3.2.2.2.1.2.1
  rw [V3.2.2.2.1.2.1, t3 (1 + 6 * j + 1) (by omega), t3 (1 + 6 * j + 2) (by omega)]
  refine ⟨V3.2.2.2.1.1, v1, v2, V3.m9, M_mark V3.2.1  (fun b s5 m5 f5 a5 s6 e6 k6 => ?_)⟩
  have V6 : HV D x sc L S S s6 := by rw [e6]; exact HV.bu (V3.ref m5 f5)
  have a6 : ans s6 (x + 31) (opMark S (xs (1 + 6 * j + 1)) (xs (1 + 6 * j + 2))) b := by rw [e6]; exact a5
  have o6 : aL_ s6 D 0 = aL_ s3 D 0 := by
    rw [e6]
    exact (f5.2.2 D 0 (fun ⟨i, g1, g2, g3, _⟩ => by have := hV.2.2.2.2; omega)).2
  have hb6 : (63 - j) * 7298 ≤ bc_ s6 ∧ (63 - j) * 56510 ≤ bs_ s6 := by
    rw [e6]
    show _ ≤ bc_ s3 ∧ _ ≤ bs_ s3
    rw [e3]
    show _ ≤ bc_ σ - 35 ∧ _ ≤ bs_ σ - 266
    omega
  have key : fI_ s6 8 0 (x + 31) = r ∧ (r = 0 → aL_ s6 D 0 = (b).toInt64) := by
    cases e : opMark S (xs (1 + 6 * j + 1)) (xs (1 + 6 * j + 2)) with
    | none =>
      rw [e] at a3 a6
      have a3 : r = 1 := a3
      have a6 : fI_ s6 8 0 (x + 31) = 1 := a6
      exact ⟨by rw [a6, a3], fun z => absurd z (by rw [a3]; decide)⟩
    | some v =>
      rw [e] at a3 a6
      obtain ⟨c1, c2⟩ := a3
      obtain ⟨d1, d2⟩ := a6
      exact ⟨by rw [c1, d1], fun _ => by rw [o6, c2, d2]⟩
  have nxt : wL_law_L713 SC (fun r _ => r = 1) rc sc x (x + 31) D (nI (1 + 6 * j)) s6 := h.next V6 (INV.up hI (by omega)) k6 hb6
  refine ⟨V6.m9, V6.m9, fun _ => ⟨fun _ => nxt, fun z => ⟨V6.2.2.1.1, V6.vin, fun _ => nxt, fun w => absurd ?_ w⟩⟩, fun w => absurd key.1 w⟩
  rw [show ((0 : Int32)).toNatClampNeg = 0 from rfl, key.2 z]
  exact lgc_e _
theorem H_node (hV : HV D x sc L S S σ) (ok : AOK S) (h1 : 35 ≤ bc_ σ) (h2 : 266 ≤ bs_ σ) {v1 : Int32} {v2 : Int32} {post : Int32 → Hp → Prop} (k : ∀ r σ1, HV D x sc L S S σ1 → an0 D σ1 ((opNode S v1 v2).map Int32.toInt64) r → post r σ1) : wX0_node x v1 v2 D σ post := by
  obtain ⟨md, od, q, hj⟩ := id hV.1
  unfold wX0_node
  cases e : opNode S v1 v2 with
  | none =>
    rw [e] at k
    exact ⟨hV.x1, Or.inl ⟨1, 6, by omega, by omega, C_nodeT (σ := bu_ σ 1 6) hj e (Nat.le_refl _) (Nat.le_refl _) (fun s1 e1 s3 e3 => k 1 s3 (by rw [e3]; exact HV.bu (HV.et hV e1.bu)) rfl)⟩⟩
  | some o =>
    rw [e] at k
    exact ⟨hV.x1, Or.inr (C_nodeR hj ok e ⟨hV.2.2.1.1, hV.vin, fun s3 e3 => k 0 s3 (by rw [e3]; exact hV.out) ⟨rfl, by rw [e3]; exact HV.oL⟩⟩)⟩
theorem L_node (h : LE D x sc L xs j SC rc S σ) : wL_law_L741 SC (fun r _ => r = 1) rc sc x (x + 31) D (nI (1 + 6 * j)) σ := by
  obtain ⟨hSC, hV, hI, hs, ⟨hj, hL⟩, ⟨hb1, hb2⟩, hr⟩ := id h
  have ok := hI.1
  have V0 := hV.2.2.2.1
  unfold wL_law_L741
  have q1 : (nI (1 + 6 * j) + (1 : Int32)).toNatClampNeg = 1 + 6 * j + 1 := lidx hj hL 1 (by decide)
  have v1 : vp_in (nI (1 + 6 * j) + (1 : Int32)) L := lvin hj hL 1 (by decide)
  have q2 : (nI (1 + 6 * j) + (2 : Int32)).toNatClampNeg = 1 + 6 * j + 2 := lidx hj hL 2 (by decide)
  have v2 : vp_in (nI (1 + 6 * j) + (2 : Int32)) L := lvin hj hL 2 (by decide)
  simp only [q1, q2]
  rw [V0.2.1, hs (1 + 6 * j + 1) (by omega), hs (1 + 6 * j + 2) (by omega)]
  refine ⟨V0.1, v1, v2, 35, 266, by omega, by omega, H_node (σ := bu_ σ 35 266) hV ok (Nat.le_refl _) (Nat.le_refl _) (fun r s2 V2 a2 s3 e3 k3 => ?_)⟩
  have V3 : HV D x sc L S S s3 := by rw [e3]; exact HV.bu V2
  have a3 : an0 D s3 ((opNode S (xs (1 + 6 * j + 1)) (xs (1 + 6 * j + 2))).map Int32.toInt64) r := by rw [e3]; exact a2
  have t3 := hSC s3 k3 V3.2.2.2.1.1 V3.2.2.2.1.2.1
  rw [V3.2.2.2.1.2.1, t3 (1 + 6 * j + 1) (by omega), t3 (1 + 6 * j + 2) (by omega)]
  refine ⟨V3.2.2.2.1.1, v1, v2, V3.m9, M_node V3.2.1 ok (fun b s5 m5 f5 a5 s6 e6 k6 => ?_)⟩
  have V6 : HV D x sc L S S s6 := by rw [e6]; exact HV.bu (V3.ref m5 f5)
  have a6 : ans s6 (x + 31) (opNode S (xs (1 + 6 * j + 1)) (xs (1 + 6 * j + 2))) b := by rw [e6]; exact a5
  have o6 : aL_ s6 D 0 = aL_ s3 D 0 := by
    rw [e6]
    exact (f5.2.2 D 0 (fun ⟨i, g1, g2, g3, _⟩ => by have := hV.2.2.2.2; omega)).2
  have hb6 : (63 - j) * 7298 ≤ bc_ s6 ∧ (63 - j) * 56510 ≤ bs_ s6 := by
    rw [e6]
    show _ ≤ bc_ s3 ∧ _ ≤ bs_ s3
    rw [e3]
    show _ ≤ bc_ σ - 35 ∧ _ ≤ bs_ σ - 266
    omega
  have key : fI_ s6 8 0 (x + 31) = r ∧ (r = 0 → aL_ s6 D 0 = (b).toInt64) := by
    cases e : opNode S (xs (1 + 6 * j + 1)) (xs (1 + 6 * j + 2)) with
    | none =>
      rw [e] at a3 a6
      have a3 : r = 1 := a3
      have a6 : fI_ s6 8 0 (x + 31) = 1 := a6
      exact ⟨by rw [a6, a3], fun z => absurd z (by rw [a3]; decide)⟩
    | some v =>
      rw [e] at a3 a6
      obtain ⟨c1, c2⟩ := a3
      obtain ⟨d1, d2⟩ := a6
      exact ⟨by rw [c1, d1], fun _ => by rw [o6, c2, d2]⟩
  have nxt : wL_law_L806 SC (fun r _ => r = 1) rc sc x (x + 31) D (nI (1 + 6 * j)) s6 := h.next V6 (INV.up hI (by omega)) k6 hb6
  refine ⟨V6.m9, V6.m9, fun _ => ⟨fun _ => nxt, fun z => ⟨V6.2.2.1.1, V6.vin, fun _ => nxt, fun w => absurd ?_ w⟩⟩, fun w => absurd key.1 w⟩
  rw [show ((0 : Int32)).toNatClampNeg = 0 from rfl, key.2 z]
  exact lgc_e _
theorem H_name (hV : HV D x sc L S S σ) (ok : AOK S) (h1 : 35 ≤ bc_ σ) (h2 : 266 ≤ bs_ σ) {v1 : Int32} {post : Int32 → Hp → Prop} (k : ∀ r σ1, HV D x sc L S S σ1 → an0 D σ1 ((opName S v1)) r → post r σ1) : wX0_name x v1 D σ post := by
  obtain ⟨md, od, q, hj⟩ := id hV.1
  unfold wX0_name
  cases e : opName S v1 with
  | none =>
    rw [e] at k
    exact ⟨hV.x1, Or.inl ⟨1, 6, by omega, by omega, C_nameT (σ := bu_ σ 1 6) hj e (Nat.le_refl _) (Nat.le_refl _) (fun s1 e1 s3 e3 => k 1 s3 (by rw [e3]; exact HV.bu (HV.et hV e1.bu)) rfl)⟩⟩
  | some o =>
    rw [e] at k
    exact ⟨hV.x1, Or.inr (C_nameR hj e ⟨hV.2.2.1.1, hV.vin, fun s3 e3 => k 0 s3 (by rw [e3]; exact hV.out) ⟨rfl, by rw [e3]; exact HV.oL⟩⟩)⟩
theorem L_name (h : LE D x sc L xs j SC rc S σ) : wL_law_L809 SC (fun r _ => r = 1) rc sc x (x + 31) D (nI (1 + 6 * j)) σ := by
  obtain ⟨hSC, hV, hI, hs, ⟨hj, hL⟩, ⟨hb1, hb2⟩, hr⟩ := id h
  have ok := hI.1
  have V0 := hV.2.2.2.1
  unfold wL_law_L809
  have q1 : (nI (1 + 6 * j) + (1 : Int32)).toNatClampNeg = 1 + 6 * j + 1 := lidx hj hL 1 (by decide)
  have v1 : vp_in (nI (1 + 6 * j) + (1 : Int32)) L := lvin hj hL 1 (by decide)
  simp only [q1]
  rw [V0.2.1, hs (1 + 6 * j + 1) (by omega)]
  refine ⟨V0.1, v1, 35, 266, by omega, by omega, H_name (σ := bu_ σ 35 266) hV ok (Nat.le_refl _) (Nat.le_refl _) (fun r s2 V2 a2 s3 e3 k3 => ?_)⟩
  have V3 : HV D x sc L S S s3 := by rw [e3]; exact HV.bu V2
  have a3 : an0 D s3 ((opName S (xs (1 + 6 * j + 1)))) r := by rw [e3]; exact a2
  have t3 := hSC s3 k3 V3.2.2.2.1.1 V3.2.2.2.1.2.1
  rw [V3.2.2.2.1.2.1, t3 (1 + 6 * j + 1) (by omega)]
  refine ⟨V3.2.2.2.1.1, v1, V3.m9, M_name V3.2.1 ok (fun b s5 m5 f5 a5 s6 e6 k6 => ?_)⟩
  have V6 : HV D x sc L S S s6 := by rw [e6]; exact HV.bu (V3.ref m5 f5)
  have a6 : ans s6 (x + 31) (opName S (xs (1 + 6 * j + 1))) b := by rw [e6]; exact a5
  have o6 : aL_ s6 D 0 = aL_ s3 D 0 := by
    rw [e6]
    exact (f5.2.2 D 0 (fun ⟨i, g1, g2, g3, _⟩ => by have := hV.2.2.2.2; omega)).2
  have hb6 : (63 - j) * 7298 ≤ bc_ s6 ∧ (63 - j) * 56510 ≤ bs_ s6 := by
    rw [e6]
    show _ ≤ bc_ s3 ∧ _ ≤ bs_ s3
    rw [e3]
    show _ ≤ bc_ σ - 35 ∧ _ ≤ bs_ σ - 266
    omega
  have key : fI_ s6 8 0 (x + 31) = r ∧ (r = 0 → aL_ s6 D 0 = b) := by
    cases e : opName S (xs (1 + 6 * j + 1)) with
    | none =>
      rw [e] at a3 a6
      have a3 : r = 1 := a3
      have a6 : fI_ s6 8 0 (x + 31) = 1 := a6
      exact ⟨by rw [a6, a3], fun z => absurd z (by rw [a3]; decide)⟩
    | some v =>
      rw [e] at a3 a6
      obtain ⟨c1, c2⟩ := a3
      obtain ⟨d1, d2⟩ := a6
      exact ⟨by rw [c1, d1], fun _ => by rw [o6, c2, d2]⟩
  have nxt : wL_law_L861 SC (fun r _ => r = 1) rc sc x (x + 31) D (nI (1 + 6 * j)) s6 := h.next V6 (INV.up hI (by omega)) k6 hb6
  refine ⟨V6.m9, V6.m9, fun _ => ⟨fun _ => nxt, fun z => ⟨V6.2.2.1.1, V6.vin, fun _ => nxt, fun w => absurd ?_ w⟩⟩, fun w => absurd key.1 w⟩
  rw [show ((0 : Int32)).toNatClampNeg = 0 from rfl, key.2 z]
  exact lgc_e _
theorem H_read (hV : HV D x sc L S S σ) (ok : AOK S) (h1 : 35 ≤ bc_ σ) (h2 : 266 ≤ bs_ σ) {v1 : Int32} {v2 : Int32} {post : Int32 → Hp → Prop} (k : ∀ r σ1, HV D x sc L S S σ1 → an0 D σ1 ((opRead S v1 v2).map Int32.toInt64) r → post r σ1) : wX0_read x v1 v2 D σ post := by
  obtain ⟨md, od, q, hj⟩ := id hV.1
  unfold wX0_read
  cases e : opRead S v1 v2 with
  | none =>
    rw [e] at k
    exact ⟨hV.x1, Or.inl ⟨1, 6, by omega, by omega, C_readT (σ := bu_ σ 1 6) hj ok e (Nat.le_refl _) (Nat.le_refl _) (fun s1 e1 s3 e3 => k 1 s3 (by rw [e3]; exact HV.bu (HV.et hV e1.bu)) rfl)⟩⟩
  | some o =>
    rw [e] at k
    exact ⟨hV.x1, Or.inr (C_readR hj ok e ⟨hV.2.2.1.1, hV.vin, fun s3 e3 => k 0 s3 (by rw [e3]; exact hV.out) ⟨rfl, by rw [e3]; exact HV.oL⟩⟩)⟩
theorem L_read (h : LE D x sc L xs j SC rc S σ) : wL_law_L864 SC (fun r _ => r = 1) rc sc x (x + 31) D (nI (1 + 6 * j)) σ := by
  obtain ⟨hSC, hV, hI, hs, ⟨hj, hL⟩, ⟨hb1, hb2⟩, hr⟩ := id h
  have ok := hI.1
  have V0 := hV.2.2.2.1
  unfold wL_law_L864
  have q1 : (nI (1 + 6 * j) + (1 : Int32)).toNatClampNeg = 1 + 6 * j + 1 := lidx hj hL 1 (by decide)
  have v1 : vp_in (nI (1 + 6 * j) + (1 : Int32)) L := lvin hj hL 1 (by decide)
  have q2 : (nI (1 + 6 * j) + (2 : Int32)).toNatClampNeg = 1 + 6 * j + 2 := lidx hj hL 2 (by decide)
  have v2 : vp_in (nI (1 + 6 * j) + (2 : Int32)) L := lvin hj hL 2 (by decide)
  simp only [q1, q2]
  rw [V0.2.1, hs (1 + 6 * j + 1) (by omega), hs (1 + 6 * j + 2) (by omega)]
  refine ⟨V0.1, v1, v2, 35, 266, by omega, by omega, H_read (σ := bu_ σ 35 266) hV ok (Nat.le_refl _) (Nat.le_refl _) (fun r s2 V2 a2 s3 e3 k3 => ?_)⟩
  have V3 : HV D x sc L S S s3 := by rw [e3]; exact HV.bu V2
  have a3 : an0 D s3 ((opRead S (xs (1 + 6 * j + 1)) (xs (1 + 6 * j + 2))).map Int32.toInt64) r := by rw [e3]; exact a2
  have t3 := hSC s3 k3 V3.2.2.2.1.1 V3.2.2.2.1.2.1
  rw [V3.2.2.2.1.2.1, t3 (1 + 6 * j + 1) (by omega), t3 (1 + 6 * j + 2) (by omega)]
  refine ⟨V3.2.2.2.1.1, v1, v2, V3.m9, M_read V3.2.1 ok (fun b s5 m5 f5 a5 s6 e6 k6 => ?_)⟩
  have V6 : HV D x sc L S S s6 := by rw [e6]; exact HV.bu (V3.ref m5 f5)
  have a6 : ans s6 (x + 31) (opRead S (xs (1 + 6 * j + 1)) (xs (1 + 6 * j + 2))) b := by rw [e6]; exact a5
  have o6 : aL_ s6 D 0 = aL_ s3 D 0 := by
    rw [e6]
    exact (f5.2.2 D 0 (fun ⟨i, g1, g2, g3, _⟩ => by have := hV.2.2.2.2; omega)).2
  have hb6 : (63 - j) * 7298 ≤ bc_ s6 ∧ (63 - j) * 56510 ≤ bs_ s6 := by
    rw [e6]
    show _ ≤ bc_ s3 ∧ _ ≤ bs_ s3
    rw [e3]
    show _ ≤ bc_ σ - 35 ∧ _ ≤ bs_ σ - 266
    omega
  have key : fI_ s6 8 0 (x + 31) = r ∧ (r = 0 → aL_ s6 D 0 = (b).toInt64) := by
    cases e : opRead S (xs (1 + 6 * j + 1)) (xs (1 + 6 * j + 2)) with
    | none =>
      rw [e] at a3 a6
      have a3 : r = 1 := a3
      have a6 : fI_ s6 8 0 (x + 31) = 1 := a6
      exact ⟨by rw [a6, a3], fun z => absurd z (by rw [a3]; decide)⟩
    | some v =>
      rw [e] at a3 a6
      obtain ⟨c1, c2⟩ := a3
      obtain ⟨d1, d2⟩ := a6
      exact ⟨by rw [c1, d1], fun _ => by rw [o6, c2, d2]⟩
  have nxt : wL_law_L929 SC (fun r _ => r = 1) rc sc x (x + 31) D (nI (1 + 6 * j)) s6 := h.next V6 (INV.up hI (by omega)) k6 hb6
  refine ⟨V6.m9, V6.m9, fun _ => ⟨fun _ => nxt, fun z => ⟨V6.2.2.1.1, V6.vin, fun _ => nxt, fun w => absurd ?_ w⟩⟩, fun w => absurd key.1 w⟩
  rw [show ((0 : Int32)).toNatClampNeg = 0 from rfl, key.2 z]
  exact lgc_e _
theorem H_tree (hV : HV D x sc L S S σ) (ok : AOK S) (h1 : 35 ≤ bc_ σ) (h2 : 266 ≤ bs_ σ) {v1 : Int32} {v2 : Int32} {post : Int32 → Hp → Prop} (k : ∀ r σ1, HV D x sc L S S σ1 → an0 D σ1 ((opTree S v1 v2).map Int32.toInt64) r → post r σ1) : wX0_tree x v1 v2 D σ post := by
  obtain ⟨md, od, q, hj⟩ := id hV.1
  unfold wX0_tree
  cases e : opTree S v1 v2 with
  | none =>
    rw [e] at k
    exact ⟨hV.x1, Or.inl ⟨1, 6, by omega, by omega, C_treeT (σ := bu_ σ 1 6) hj ok e (Nat.le_refl _) (Nat.le_refl _) (fun s1 e1 s3 e3 => k 1 s3 (by rw [e3]; exact HV.bu (HV.et hV e1.bu)) rfl)⟩⟩
  | some o =>
    rw [e] at k
    exact ⟨hV.x1, Or.inr (C_treeR hj ok e ⟨hV.2.2.1.1, hV.vin, fun s3 e3 => k 0 s3 (by rw [e3]; exact hV.out) ⟨rfl, by rw [e3]; exact HV.oL⟩⟩)⟩
theorem L_tree (h : LE D x sc L xs j SC rc S σ) : wL_law_L932 SC (fun r _ => r = 1) rc sc x (x + 31) D (nI (1 + 6 * j)) σ := by
  obtain ⟨hSC, hV, hI, hs, ⟨hj, hL⟩, ⟨hb1, hb2⟩, hr⟩ := id h
  have ok := hI.1
  have V0 := hV.2.2.2.1
  unfold wL_law_L932
  have q1 : (nI (1 + 6 * j) + (1 : Int32)).toNatClampNeg = 1 + 6 * j + 1 := lidx hj hL 1 (by decide)
  have v1 : vp_in (nI (1 + 6 * j) + (1 : Int32)) L := lvin hj hL 1 (by decide)
  have q2 : (nI (1 + 6 * j) + (2 : Int32)).toNatClampNeg = 1 + 6 * j + 2 := lidx hj hL 2 (by decide)
  have v2 : vp_in (nI (1 + 6 * j) + (2 : Int32)) L := lvin hj hL 2 (by decide)
  simp only [q1, q2]
  rw [V0.2.1, hs (1 + 6 * j + 1) (by omega), hs (1 + 6 * j + 2) (by omega)]
  refine ⟨V0.1, v1, v2, 35, 266, by omega, by omega, H_tree (σ := bu_ σ 35 266) hV ok (Nat.le_refl _) (Nat.le_refl _) (fun r s2 V2 a2 s3 e3 k3 => ?_)⟩
  have V3 : HV D x sc L S S s3 := by rw [e3]; exact HV.bu V2
  have a3 : an0 D s3 ((opTree S (xs (1 + 6 * j + 1)) (xs (1 + 6 * j + 2))).map Int32.toInt64) r := by rw [e3]; exact a2
  have t3 := hSC s3 k3 V3.2.2.2.1.1 V3.2.2.2.1.2.1
  rw [V3.2.2.2.1.2.1, t3 (1 + 6 * j + 1) (by omega), t3 (1 + 6 * j + 2) (by omega)]
  refine ⟨V3.2.2.2.1.1, v1, v2, V3.m9, M_tree V3.2.1 ok (fun b s5 m5 f5 a5 s6 e6 k6 => ?_)⟩
  have V6 : HV D x sc L S S s6 := by rw [e6]; exact HV.bu (V3.ref m5 f5)
  have a6 : ans s6 (x + 31) (opTree S (xs (1 + 6 * j + 1)) (xs (1 + 6 * j + 2))) b := by rw [e6]; exact a5
  have o6 : aL_ s6 D 0 = aL_ s3 D 0 := by
    rw [e6]
    exact (f5.2.2 D 0 (fun ⟨i, g1, g2, g3, _⟩ => by have := hV.2.2.2.2; omega)).2
  have hb6 : (63 - j) * 7298 ≤ bc_ s6 ∧ (63 - j) * 56510 ≤ bs_ s6 := by
    rw [e6]
    show _ ≤ bc_ s3 ∧ _ ≤ bs_ s3
    rw [e3]
    show _ ≤ bc_ σ - 35 ∧ _ ≤ bs_ σ - 266
    omega
  have key : fI_ s6 8 0 (x + 31) = r ∧ (r = 0 → aL_ s6 D 0 = (b).toInt64) := by
    cases e : opTree S (xs (1 + 6 * j + 1)) (xs (1 + 6 * j + 2)) with
    | none =>
      rw [e] at a3 a6
      have a3 : r = 1 := a3
      have a6 : fI_ s6 8 0 (x + 31) = 1 := a6
      exact ⟨by rw [a6, a3], fun z => absurd z (by rw [a3]; decide)⟩
    | some v =>
      rw [e] at a3 a6
      obtain ⟨c1, c2⟩ := a3
      obtain ⟨d1, d2⟩ := a6
      exact ⟨by rw [c1, d1], fun _ => by rw [o6, c2, d2]⟩
  have nxt : wL_law_L997 SC (fun r _ => r = 1) rc sc x (x + 31) D (nI (1 + 6 * j)) s6 := h.next V6 (INV.up hI (by omega)) k6 hb6
  refine ⟨V6.m9, V6.m9, fun _ => ⟨fun _ => nxt, fun z => ⟨V6.2.2.1.1, V6.vin, fun _ => nxt, fun w => absurd ?_ w⟩⟩, fun w => absurd key.1 w⟩
  rw [show ((0 : Int32)).toNatClampNeg = 0 from rfl, key.2 z]
  exact lgc_e _
end
