/-! the burner: a session -/
section
variable {S : Prop} {W : Nat → Prop} {D n : Nat} {σ0 σ σ' τ : Hp} {x md od q : Nat} {t : TT} {rf : Nat → Nat} {c : Nat} {ct : Nat} {f : Nat → Nat} {b : BS} {Df : Nat → Bool} {Bo : Nat → Nat} {P : Nat → Prop} {base num : Nat}
theorem burn1_le (Df : Nat → Bool) (s : Nat) (g : Nat → Nat) (b : BS) : (burn1 Df s g b).1 ≤ 2 := by
  unfold burn1
  split
  · exact Nat.le_refl _
  · split
    · exact Nat.le_succ _
    · exact Nat.zero_le _
/-- a session's page goes out -/
theorem c_wstep {j r : Nat} {Z : Nat × BS} (G : BG D σ0 σ x n md od q t rf c ct (pz (pgS n t (dirT t) base num j)) b Df Bo P base) (hlo : bLo b = false) (hs : base + 16 + j < n) (hg : ∀ i, pz (pgS n t (dirT t) base num j) i < 256) (hZ : burnS Df (base + 16) (fun i => pz (pgS n t (dirT t) base num i)) (r + 1) j b = Z) {post : Int32 → Hp → Prop}
    (k1 : ∀ σ' b', BG D σ0 σ' x n md od q t rf c ct (pz (pgS n t (dirT t) base num j)) b' Df Bo P base → bLo b' = false → burnS Df (base + 16) (fun i => pz (pgS n t (dirT t) base num i)) r (j + 1) b' = Z → bc_ σ' = bc_ σ → bs_ σ' = bs_ σ → post 1 σ')
    (k0 : ∀ σ' b' cc, BG D σ0 σ' x n md od q t rf c ct (pz (pgS n t (dirT t) base num j)) b' Df Bo P base → Z = (cc, b') → cc ≠ 0 → cc ≤ 2 → bLo b' = decide (cc = 2) → bc_ σ' = bc_ σ → bs_ σ' = bs_ σ → post 0 σ') : wX3_writes (x + 2) (nI (base + 16 + j)) (x + 5) 0 σ post := by
  refine c_writesG G hlo hs hg (fun s1 G1 v1 v2 => ?_)
  rw [burnS_s] at hZ
  have lo1 := burn1_lo Df (base + 16 + j) (pz (pgS n t (dirT t) base num j)) hlo
  by_cases e : (burn1 Df (base + 16 + j) (pz (pgS n t (dirT t) base num j)) b).1 = 0
  · rw [if_pos e] at hZ ⊢
    exact k1 s1 _ G1 (by rw [lo1, e]; rfl) hZ v1 v2
  · rw [if_neg e] at hZ ⊢
    exact k0 s1 _ _ G1 hZ.symm e (burn1_le _ _ _ _) lo1 v1 v2
theorem c_burns {R : List Nat} (F : BF D σ0 σ x n md od q t rf c R ct f b Df Bo P) (hlo : bLo b = false) (hbase : base ≤ 200) (hfit : base + 20 + (dirT t).length < n) (hnum : num < 2 ^ 32) (hg : ∀ j i, pz (pgS n t (dirT t) base num j) i < 256) (h1 : 374 ≤ bc_ σ) (h2 : 2415 ≤ bs_ σ) {post : Int32 → Hp → Prop}
    (k : ∀ σ' b' cc f' ct', BF D σ0 σ' x n md od q t rf c ((dirT t).map rf) ct' f' b' Df Bo P → burnS Df (base + 16) (fun i => pz (pgS n t (dirT t) base num i)) (5 + (dirT t).length) 0 b = (cc, b') → cc ≤ 2 → bLo b' = decide (cc = 2) → post (if cc = 0 then 1 else 0) σ') : wX3_burns (x + 2) (nI base) (nI num) σ post := by
  have ok := F.1.2.2.2.2.2.2.2.2.2.2.1
  have l30 := dirT_len ok
  obtain ⟨Z, hZ⟩ : ∃ Z, burnS Df (base + 16) (fun i => pz (pgS n t (dirT t) base num i)) (5 + (dirT t).length) 0 b = Z := ⟨_, rfl⟩
  rw [hZ] at k
  -- it failed
  have bad : ∀ (s : Hp) (b' : BS) (cc : Nat) (f' : Nat → Nat) (ct' : Nat), BG D σ0 s x n md od q t rf c ct' f' b' Df Bo P base → Z = (cc, b') → cc ≠ 0 → cc ≤ 2 → bLo b' = decide (cc = 2) → post 0 s := by
    intro s b' cc f' ct' G1 g2 g3 g4 g5
    have := k s b' cc f' ct' G1.1 g2 g4 g5
    rw [if_neg g3] at this; exact this
  have L195f : ∀ (s : Hp) (e : Int32), post 0 s → wX3_burns_L195 post (x + 2) (nI base) (nI num) e 0 s := by
    intro s e hp
    unfold wX3_burns_L195
    exact ⟨fun _ => hp, fun z => absurd rfl z⟩
  have L95 : ∀ (s : Hp) (f' : Nat → Nat) (b' : BS) (ct' : Nat) (e : Int32), BG D σ0 s x n md od q t rf c ct' f' b' Df Bo P base → post 0 s → wX3_burns_L95 post (x + 2) (nI base) (nI num) e s := by
    intro s f' b' ct' e G1 hp
    unfold wX3_burns_L95 wX3_burns_L96 wX3_burns_L101
    refine lpG3 (B := fun R' y z s' => wX3_burns_B101 post R' (x + 2) (nI base) (nI num) e y z s') (fun j y z s' => y = 0 ∧ s' = s) 0 ⟨rfl, rfl⟩ ?_
    rintro j y z s' R' ⟨rfl, rfl⟩ hR
    unfold wX3_burns_B101
    rw [G1.bur.2.2.2.2.2.1]
    refine ⟨G1.bur.1, G1.tbl.1, l_size G1.tbl ⟨fun _ => L195f _ _ hp, fun _ => ⟨fun _ => L195f _ _ hp, fun v => absurd rfl v⟩⟩⟩
  unfold wX3_burns
  have e20 : nI base + 20 = nI (base + 20) := by rw [li_20, nI_add]
  have e16 : nI base + 16 = nI (base + 16 + 0) := by rw [li_16, nI_add]
  have e17 : nI base + 17 = nI (base + 16 + 1) := by rw [li_17, nI_add]
  have e18 : nI base + 18 = nI (base + 16 + 2) := by rw [li_18, nI_add]
  have e19 : nI base + 19 = nI (base + 16 + 3) := by rw [li_19, nI_add]
  rw [e20, e16, e17, e18, e19]
  refine ⟨F.1.2.2.1.1, 63, 460, by omega, by omega, c_layOut (σ := bu_ σ 63 460) F.bu (by omega) (Nat.le_refl _) (Nat.le_refl _) (fun s43 ct1 F43 sc43 s44 e44 => ?_)⟩
  have G44 : BG D σ0 s44 x n md od q t rf c ct1 f b Df Bo P base := by
    have g : BG D σ0 s43 x n md od q t rf c ct1 f b Df Bo P base := ⟨F43, sc43⟩
    rw [e44]; exact g.bu
  have b44 : bc_ s44 = bc_ σ - 63 ∧ bs_ s44 = bs_ σ - 460 := by rw [e44]; exact ⟨rfl, rfl⟩
  refine ⟨G44.bur.1, 4, 25, by omega, by omega, c_descriptor (σ := bu_ s44 4 25) G44.bu hbase (Nat.le_refl _) (Nat.le_refl _) (fun s51 G51 s52 e52 => ?_)⟩
  have G52 := G51.bu (i := bc_ s44 - 4) (j := bs_ s44 - 25)
  rw [← e52] at G52
  have b52 : bc_ s52 = bc_ σ - 67 ∧ bs_ s52 = bs_ σ - 485 := by rw [e52]; show bc_ s44 - 4 = _ ∧ bs_ s44 - 25 = _; omega
  rw [G52.page.2.1]
  have hZ0 : burnS Df (base + 16) (fun i => pz (pgS n t (dirT t) base num i)) ((4 + (dirT t).length) + 1) 0 b = Z := by rw [show 4 + (dirT t).length + 1 = 5 + (dirT t).length by omega]; exact hZ
  refine ⟨G52.page.1, G52.bur.1, c_wstep (j := 0) (num := num) G52 hlo (by omega) (hg 0) hZ0 (fun s56 b1 G56 lo1 hZ1 v1 v2 s57 e57 => ⟨fun z => absurd z (by decide), fun _ => ?_⟩) (fun s56 b1 cc G56 z1 z2 z3 z4 v1 v2 s57 e57 => ⟨fun _ => ?_, fun z => absurd rfl z⟩)⟩
  rotate_left
  · have G57 := G56.bu (i := bc_ s52) (j := bs_ s52)
    rw [← e57] at G57
    exact L95 s57 _ _ _ _ G57 (bad s57 _ _ _ _ G57 z1 z2 z3 z4)
  have G57 := G56.bu (i := bc_ s52) (j := bs_ s52)
  rw [← e57] at G57
  have b57 : bc_ s57 = bc_ σ - 67 ∧ bs_ s57 = bs_ σ - 485 := by rw [e57]; exact b52
  refine ⟨G57.bur.1, c_head G57 (s := 255) (by decide) (fun s61 a61 G61 s62 e62 => ?_)⟩
  have G62 := G61.bu (i := bc_ s57) (j := bs_ s57)
  rw [← e62] at G62
  have b62 : bc_ s62 = bc_ σ - 67 ∧ bs_ s62 = bs_ σ - 485 := by rw [e62]; exact b57
  rw [G62.page.2.1]
  have hZ1' : burnS Df (base + 16) (fun i => pz (pgS n t (dirT t) base num i)) ((3 + (dirT t).length) + 1) 1 b1 = Z := by rw [show 3 + (dirT t).length + 1 = 4 + (dirT t).length by omega]; exact hZ1
  refine ⟨G62.page.1, G62.bur.1, c_wstep (j := 1) (num := num) G62 lo1 (by omega) (hg 1) hZ1' (fun s66 b2 G66 lo2 hZ2 v1 v2 s67 e67 => ⟨fun z => absurd z (by decide), fun _ => ?_⟩) (fun s66 b2 cc G66 z1 z2 z3 z4 v1 v2 s67 e67 => ⟨fun _ => ?_, fun z => absurd rfl z⟩)⟩
  rotate_left
  · have G67 := G66.bu (i := bc_ s62) (j := bs_ s62)
    rw [← e67] at G67
    exact L95 s67 _ _ _ _ G67 (bad s67 _ _ _ _ G67 z1 z2 z3 z4)
  have G67 := G66.bu (i := bc_ s62) (j := bs_ s62)
  rw [← e67] at G67
  have b67 : bc_ s67 = bc_ σ - 67 ∧ bs_ s67 = bs_ σ - 485 := by rw [e67]; exact b62
  refine ⟨G67.bur.1, 4, 25, by omega, by omega, c_paths (σ := bu_ s67 4 25) G67.bu hbase true (Nat.le_refl _) (Nat.le_refl _) (fun s75 G75 s76 e76 => ?_)⟩
  have G76 := G75.bu (i := bc_ s67 - 4) (j := bs_ s67 - 25)
  rw [← e76] at G76
  have b76 : bc_ s76 = bc_ σ - 71 ∧ bs_ s76 = bs_ σ - 510 := by rw [e76]; show bc_ s67 - 4 = _ ∧ bs_ s67 - 25 = _; omega
  rw [G76.page.2.1]
  have hZ2' : burnS Df (base + 16) (fun i => pz (pgS n t (dirT t) base num i)) ((2 + (dirT t).length) + 1) 2 b2 = Z := by rw [show 2 + (dirT t).length + 1 = 3 + (dirT t).length by omega]; exact hZ2
  refine ⟨G76.page.1, G76.bur.1, c_wstep (j := 2) (num := num) G76 lo2 (by omega) (hg 2) hZ2' (fun s80 b3 G80 lo3 hZ3 v1 v2 s81 e81 => ⟨fun z => absurd z (by decide), fun _ => ?_⟩) (fun s80 b3 cc G80 z1 z2 z3 z4 v1 v2 s81 e81 => ⟨fun _ => ?_, fun z => absurd rfl z⟩)⟩
  rotate_left
  · have G81 := G80.bu (i := bc_ s76) (j := bs_ s76)
    rw [← e81] at G81
    exact L95 s81 _ _ _ _ G81 (bad s81 _ _ _ _ G81 z1 z2 z3 z4)
  have G81 := G80.bu (i := bc_ s76) (j := bs_ s76)
  rw [← e81] at G81
  have b81 : bc_ s81 = bc_ σ - 71 ∧ bs_ s81 = bs_ σ - 510 := by rw [e81]; exact b76
  refine ⟨G81.bur.1, 4, 25, by omega, by omega, c_paths (σ := bu_ s81 4 25) G81.bu hbase false (Nat.le_refl _) (Nat.le_refl _) (fun s89 G89 s90 e90 => ?_)⟩
  have G90 := G89.bu (i := bc_ s81 - 4) (j := bs_ s81 - 25)
  rw [← e90] at G90
  have b90 : bc_ s90 = bc_ σ - 75 ∧ bs_ s90 = bs_ σ - 535 := by rw [e90]; show bc_ s81 - 4 = _ ∧ bs_ s81 - 25 = _; omega
  rw [G90.page.2.1]
  have hZ3' : burnS Df (base + 16) (fun i => pz (pgS n t (dirT t) base num i)) ((1 + (dirT t).length) + 1) 3 b3 = Z := by rw [show 1 + (dirT t).length + 1 = 2 + (dirT t).length by omega]; exact hZ3
  refine ⟨G90.page.1, G90.bur.1, c_wstep (j := 3) (num := num) G90 lo3 (by omega) (hg 3) hZ3' (fun s94 b4 G94 lo4 hZ4 v1 v2 s95 e95 => ⟨fun z => absurd z (by decide), fun _ => ?_⟩) (fun s94 b4 cc G94 z1 z2 z3 z4 v1 v2 s95 e95 => ⟨fun _ => ?_, fun z => absurd rfl z⟩)⟩
  rotate_left
  · have G95 := G94.bu (i := bc_ s90) (j := bs_ s90)
    rw [← e95] at G95
    exact L95 s95 _ _ _ _ G95 (bad s95 _ _ _ _ G95 z1 z2 z3 z4)
  have G95 := G94.bu (i := bc_ s90) (j := bs_ s90)
  rw [← e95] at G95
  have b95 : bc_ s95 = bc_ σ - 75 ∧ bs_ s95 = bs_ σ - 535 := by rw [e95]; exact b90
  unfold wX3_burns_L96 wX3_burns_L101
  obtain ⟨len, hlen⟩ : ∃ l, l = (dirT t).length := ⟨_, rfl⟩
  rw [← hlen] at hZ4 hfit l30 ⊢
  have h0 : bc_ σ ≤ bc_ s95 + 75 + 8 * 0 + ocC t ((dirT t).take 0) ∧ bs_ σ ≤ bs_ s95 + 535 + 50 * 0 + ocS t ((dirT t).take 0) := by omega
  refine lpG3 (B := fun R' y z s' => wX3_burns_B101 post R' (x + 2) (nI base) (nI num) (nI (base + 20 + len)) y z s') (fun j y z s => ∃ i bb f', i + j = len ∧ z = nI i ∧ BG D σ0 s x n md od q t rf c ct1 f' bb Df Bo P base ∧ ((y = 1 ∧ bLo bb = false ∧ burnS Df (base + 16) (fun i => pz (pgS n t (dirT t) base num i)) (1 + len - i) (4 + i) bb = Z ∧ bc_ σ ≤ bc_ s + 75 + 8 * i + ocC t ((dirT t).take i) ∧ bs_ σ ≤ bs_ s + 535 + 50 * i + ocS t ((dirT t).take i)) ∨ (y = 0 ∧ post 0 s))) len ⟨0, b4, _, by omega, rfl, G95, Or.inl ⟨rfl, lo4, hZ4, h0.1, h0.2⟩⟩ ?_
  rintro j y z s R' ⟨i, bb, f', w1, rfl, w3, w4⟩ hR
  unfold wX3_burns_B101
  rw [w3.bur.2.2.2.2.2.1]
  refine ⟨w3.bur.1, w3.tbl.1, l_size w3.tbl ?_⟩
  rw [List.length_map, ← hlen, nI_leI (by omega) (by omega)]
  rcases w4 with ⟨rfl, lo5, hZ5, p1, p2⟩ | ⟨rfl, hp⟩
  rotate_left
  · exact ⟨fun _ => L195f _ _ hp, fun _ => ⟨fun _ => L195f _ _ hp, fun v => absurd rfl v⟩⟩
  refine ⟨fun z => ?_, fun z => ⟨fun v => absurd v (by decide), fun _ => l_get w3.tbl (by rw [List.length_map]; omega) (fun tg => ?_)⟩⟩
  · have hi : i = len := by omega
    subst hi
    unfold wX3_burns_L195
    refine ⟨fun v => absurd v (by decide), fun _ => ⟨w3.bur.1, c_mark w3 (by omega) hnum (fun s4 a4 G4 s5 e5 => ?_)⟩⟩
    have G5 := G4.bu (i := bc_ s) (j := bs_ s)
    rw [← e5] at G5
    rw [G5.page.2.1]
    have hpg : [77, 65, 82, 75] ++ (lowB 4 base ++ lowB 4 num) = pgS n t (dirT t) base num (4 + i) := by
      unfold pgS
      rw [if_neg (by omega), if_neg (by omega), if_neg (by omega), if_neg (by omega), if_neg (by omega)]
    rw [hpg] at G5
    have hZ6 : burnS Df (base + 16) (fun i => pz (pgS n t (dirT t) base num i)) (0 + 1) (4 + i) bb = Z := by rw [show 0 + 1 = 1 + i - i by omega]; exact hZ5
    have ee : nI (base + 20 + i) = nI (base + 16 + (4 + i)) := by congr 1; omega
    rw [ee]
    refine ⟨G5.page.1, G5.bur.1, c_wstep (j := 4 + i) (num := num) G5 lo5 (by omega) (hg _) hZ6 (fun s9 b9 G9 lo9 hZ9 v1 v2 s10 e10 => ⟨fun v => absurd v (by decide), fun _ => ?_⟩) (fun s9 b9 cc G9 z1 z2 z3 z4 v1 v2 s10 e10 => ⟨fun _ => ?_, fun v => absurd rfl v⟩)⟩
    · have G10 := G9.bu (i := bc_ s5) (j := bs_ s5)
      rw [← e10] at G10
      have := k s10 b9 0 _ _ G10.1 hZ9.symm (by decide) lo9
      rw [if_pos rfl] at this; exact this
    · have G10 := G9.bu (i := bc_ s5) (j := bs_ s5)
      rw [← e10] at G10
      exact bad s10 _ _ _ _ G10 z1 z2 z3 z4
  · rw [gD_map (by omega)] at tg ⊢
    obtain ⟨d, hd⟩ : ∃ d, d = (dirT t).getD i 0 := ⟨_, rfl⟩
    rw [← hd] at tg ⊢
    have hdm : d ∈ dirT t := by rw [hd]; exact getD_mem (by omega)
    have hpl : plc (dirT t) d = i := by rw [hd]; exact dirT_plc ok (by omega)
    obtain ⟨j, rfl⟩ : ∃ q, j = q + 1 := ⟨j - 1, by omega⟩
    have hoc : ocC t ((dirT t).take (i + 1)) ≤ 59 ∧ ocS t ((dirT t).take (i + 1)) ≤ 380 := by
      have o1 := oc_eq (t := t) ((dirT t).take (i + 1))
      have o2 := ocL_le ok ((dirT_ok ok).1.sublist (List.take_sublist (i + 1) (dirT t)))
      have o3 : ((dirT t).take (i + 1)).length ≤ 30 := by rw [List.length_take]; omega
      omega
    have hoc2 : ocC t ((dirT t).take (i + 1)) = ocC t ((dirT t).take i) + (1 + (chl t d).length) ∧ ocS t ((dirT t).take (i + 1)) = ocS t ((dirT t).take i) + (3 + 10 * (chl t d).length) := by
      rw [take_snoc (by omega), ← hd]; exact oc_snoc _ _
    refine ⟨Or.inr tg, 9 + (chl t d).length, 53 + 10 * (chl t d).length, by omega, by omega, c_directory (σ := bu_ s (9 + (chl t d).length) (53 + 10 * (chl t d).length)) w3.bu hbase hdm (Nat.le_refl _) (Nat.le_refl _) (fun s33 G33 s34 e34 => ?_)⟩
    have G34 := G33.bu (i := bc_ s - (9 + (chl t d).length)) (j := bs_ s - (53 + 10 * (chl t d).length))
    rw [← e34] at G34
    have b34 : bc_ s34 = bc_ s - (9 + (chl t d).length) ∧ bs_ s34 = bs_ s - (53 + 10 * (chl t d).length) := by rw [e34]; exact ⟨rfl, rfl⟩
    have hpg : dirL t (dirT t) base d = pgS n t (dirT t) base num (4 + i) := by
      unfold pgS
      rw [if_neg (by omega), if_neg (by omega), if_neg (by omega), if_neg (by omega), if_pos (by omega), show 4 + i - 4 = i by omega, ← hd]
    rw [hpg] at G34
    refine ⟨G34.page.1, fun y36 hy36 => ?_⟩
    have hy' : y36 = x + 5 := by rw [hy36]; exact G34.page.2.1
    subst hy'
    have P34 : bc_ σ ≤ bc_ s34 + 75 + 8 * (i + 1) + ocC t ((dirT t).take (i + 1)) ∧ bs_ σ ≤ bs_ s34 + 535 + 50 * (i + 1) + ocS t ((dirT t).take (i + 1)) := by omega
    unfold wX3_burns_L146
    refine lpG3 (B := fun R2 y z s' => wX3_burns_B146 post R' R2 (x + 2) (nI base) (nI num) (nI (base + 20 + len)) y (nI i) (rf d) (x + 5) z s') (fun m y z s' => (m = 1 ∧ y = 1 ∧ z = nI 0 ∧ s' = s34) ∨ (m = 0 ∧ z = nI 1 ∧ ∃ b6 f6, BG D σ0 s' x n md od q t rf c ct1 f6 b6 Df Bo P base ∧ ((y = 1 ∧ bLo b6 = false ∧ burnS Df (base + 16) (fun i => pz (pgS n t (dirT t) base num i)) (1 + len - (i + 1)) (4 + (i + 1)) b6 = Z ∧ bc_ σ ≤ bc_ s' + 75 + 8 * (i + 1) + ocC t ((dirT t).take (i + 1)) ∧ bs_ σ ≤ bs_ s' + 535 + 50 * (i + 1) + ocS t ((dirT t).take (i + 1))) ∨ (y = 0 ∧ post 0 s')))) 1 (Or.inl ⟨rfl, rfl, rfl, rfl⟩) ?_
    rintro m y z s6 R2 (⟨rfl, rfl, rfl, rfl⟩ | ⟨rfl, rfl, b6, f6, g1, g2⟩) hR2
    · unfold wX3_burns_B146
      rw [(G34.sc hdm).2.1, (G34.sc hdm).1, hpl, nI_leI (by decide) (by decide), nI_add]
      have e0 : nI 0 * (2048 : Int32) = 0 := by decide
      have ee : nI (base + 20 + i + 0) = nI (base + 16 + (4 + i)) := by congr 1; omega
      rw [e0, ee]
      have hZ6 : burnS Df (base + 16) (fun i => pz (pgS n t (dirT t) base num i)) (len - i + 1) (4 + i) bb = Z := by rw [show len - i + 1 = 1 + len - i by omega]; exact hZ5
      refine ⟨(G34.tr.2.2.2 d (G34.dt hdm)).1, fun v => absurd v (by decide), fun _ => ⟨fun v => absurd v (by decide), fun _ => ⟨G34.bur.1, c_wstep (j := 4 + i) (num := num) G34 lo5 (by omega) (hg _) hZ6 (fun s9 b9 G9 lo9 hZ9 v1 v2 s10 e10 y20 hy20 => hR2 0 1 y20 s10 (by decide) (Or.inr ⟨rfl, ?_, b9, pz (pgS n t (dirT t) base num (4 + i)), ?_, Or.inl ⟨rfl, lo9, ?_, ?_, ?_⟩⟩)) (fun s9 b9 cc G9 z1 z2 z3 z4 v1 v2 s10 e10 y20 hy20 => hR2 0 0 y20 s10 (by decide) (Or.inr ⟨rfl, ?_, b9, pz (pgS n t (dirT t) base num (4 + i)), ?_, Or.inr ⟨rfl, ?_⟩⟩))⟩⟩⟩
      · rw [hy20]; decide
      · rw [e10]; exact G9.bu
      · rw [show 1 + len - (i + 1) = len - i by omega, show 4 + (i + 1) = 4 + i + 1 by omega]; exact hZ9
      · rw [e10]; exact P34.1
      · rw [e10]; exact P34.2
      · rw [hy20]; decide
      · rw [e10]; exact G9.bu
      · have G10 := G9.bu (i := bc_ s6) (j := bs_ s6)
        rw [← e10] at G10
        exact bad s10 _ _ _ _ G10 z1 z2 z3 z4
    · have L189 : wX3_burns_L189 post R' (x + 2) (nI base) (nI num) (nI (base + 20 + len)) y (nI i) s6 := by
        unfold wX3_burns_L189
        intro y12 hy12
        exact hR j y y12 s6 (by omega) ⟨i + 1, b6, f6, by omega, by rw [hy12, li_1, nI_add], g1, g2⟩
      unfold wX3_burns_B146
      rw [(g1.sc hdm).2.1, nI_leI (by decide) (by decide)]
      exact ⟨(g1.tr.2.2.2 d (g1.dt hdm)).1, fun _ => L189, fun v => absurd (Nat.le_refl _) v⟩
end
