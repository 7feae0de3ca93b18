/-! the reader reads a session, all of it -/
theorem hi148 {B : Nat → Nat} (hB : ∀ q, B q < 256) {p b : Nat} (hb : b < 200) : highN B p 4 = b + 19 ↔ ∀ i, i < 4 → B (p + i) = if i = 3 then b + 19 else 0 := by
  have h0 := hB (p + 0)
  have h1 := hB (p + 1)
  have h2 := hB (p + 2)
  have h3 := hB (p + 3)
  unfold highN highN highN highN highN
  constructor
  · intro h i hi
    have : i = 0 ∨ i = 1 ∨ i = 2 ∨ i = 3 := by omega
    rcases this with e | e | e | e <;> subst e
    · rw [if_neg (by decide)]; omega
    · rw [if_neg (by decide)]; omega
    · rw [if_neg (by decide)]; omega
    · rw [if_pos rfl]; omega
  · intro h
    have a0 := h 0 (by decide)
    have a1 := h 1 (by decide)
    have a2 := h 2 (by decide)
    have a3 := h 3 (by decide)
    rw [if_neg (by decide)] at a0 a1 a2
    rw [if_pos rfl] at a3
    omega
section
variable {S : Prop} {W : Nat → Prop} {D n : Nat} {σ0 σ σ' τ υ : Hp} {r md p c q : Nat} {B St : Nat → Nat} {Df : Nat → Bool} {F : List FT} {f : FT} {post : Int32 → Hp → Prop}
/-- the number high, then the root -/
theorem c_reads266 (H : BR D σ0 σ r md n B St Df [] c) (hu : fI_ σ 7 2 r = nI 0) (hq : q < 200) (hqn : q + 19 < n) {told : Nat} (ht : told = lowN B (2048 * (q + 16) + 132) 4) (ht2 : told ≤ 2048) (h1 : 35 ≤ bc_ σ) (h2 : 266 ≤ bs_ σ) {Z : Sum Nat (List FT)}
    (hZ : (ck (highN B (2048 * (q + 16) + 148) 4 = q + 19) (2048 * (q + 16) + 148) <| ck (recOK n B St (2048 * (q + 16) + 156) 0) (2048 * (q + 16) + 156) <| rdD n B St q) = Z)
    (k1 : ∀ F c' σ', Z = .inr F → BR D σ0 σ' r md n B St Df F c' → FOK n F → post 1 σ')
    (k0 : ∀ w F c' σ', Z = .inl w → w < 2 ^ 30 → BR D σ0 σ' r md n B St Df F c' → fI_ σ' 7 8 r = nI w → post 0 σ') : wX8_reads_L266 post r (lN q) (lN (2048 * (q + 16))) (nI told) 1 0 σ := by
  have hc := H.1.2.1.1
  have hm := H.1.2.2.1
  have hB := hm.med.2.2.1
  have hn := hm.med.2.1
  have hlst := H.1.2.1.2.2.2.1
  have cok : capOK c := hlst.2.2.2.2.1
  have hsp := spC_le cok
  have a148 : lN (2048 * (q + 16)) + (148 : Int64) = lN (2048 * (q + 16) + 148) := by rw [show (148 : Int64) = lN 148 from rfl, lN_add]
  have a156 : lN (2048 * (q + 16)) + (156 : Int64) = lN (2048 * (q + 16) + 156) := by rw [show (156 : Int64) = lN 156 from rfl, lN_add]
  unfold ck at hZ
  rw [hi148 hB hq] at hZ
  unfold wX8_reads_L266
  refine lpG2 (B := fun R x6 x7 => wX8_reads_B266 post R r (lN q) (lN (2048 * (q + 16))) (nI told) x6 x7 σ) (fun j x6 x7 => j ≤ 4 ∧ x7 = nI (4 - j) ∧ ((x6 = 1 ∧ ∀ i, i < 4 - j → B (2048 * (q + 16) + 148 + i) = if i = 3 then q + 19 else 0) ∨ (x6 = 0 ∧ ¬ ∀ i, i < 4 → B (2048 * (q + 16) + 148 + i) = if i = 3 then q + 19 else 0))) 4 ⟨Nat.le_refl _, rfl, Or.inl ⟨rfl, fun i hi => by omega⟩⟩ ?_
  rintro j x6 x7 R ⟨g1, rfl, g3⟩ hR
  unfold wX8_reads_B266 wX8_reads_L319 wX8_reads_L320
  have e : ∀ y : Int32, y = nI (4 - j) + 1 → 1 ≤ j → y = nI (4 - (j - 1)) := fun y hy hj => by rw [hy, li_1, nI_add]; congr 1; omega
  rw [a148, a156, show (4 : Int32) = nI 4 from rfl, nI_leI (by decide) (by omega)]
  refine ⟨fun z => ⟨fun w => ⟨hc.1, ?_⟩, fun w => ⟨hc.1, c_bad hc (fun s59 f59 e59 s60 e60 => ⟨rfl, ?_⟩)⟩⟩, fun z => ⟨fun w y33 h33 => ?_, fun w => ⟨hc.1, ?_⟩⟩⟩
  rotate_left
  · rcases g3 with ⟨v, _⟩ | ⟨_, v⟩
    · rw [v] at w; exact absurd w (by decide)
    · rw [ic_f v] at hZ
      exact k0 _ [] c s60 hZ.symm (by omega) (by rw [e60]; exact (H.rf f59).bu) (by rw [e60]; exact e59)
  · rcases g3 with ⟨v, _⟩ | ⟨_, v⟩
    · rw [v] at w; exact absurd w (by decide)
    · exact hR (j - 1) 0 y33 (by omega) ⟨by omega, e y33 h33 (by omega), Or.inr ⟨rfl, v⟩⟩
  · have v2 : ∀ i, i < 4 - j → B (2048 * (q + 16) + 148 + i) = if i = 3 then q + 19 else 0 := by
      rcases g3 with ⟨_, v⟩ | ⟨v, _⟩
      · exact v
      · exact absurd v w
    have hb := hB (2048 * (q + 16) + 148 + (4 - j))
    rw [hc.2.2.2.1, nI_l (by omega), lN_add, hi19 q hq (4 - j) (by omega)]
    refine ⟨hm.tag, c_at hm (by omega) ?_⟩
    rw [lgc_i (by omega) (by split <;> omega)]
    refine ⟨fun y y33 h33 => hR (j - 1) 0 y33 (by omega) ⟨by omega, e y33 h33 (by omega), Or.inr ⟨rfl, fun u => y (u _ (by omega))⟩⟩, fun y y33 h33 => hR (j - 1) 1 y33 (by omega) ⟨by omega, e y33 h33 (by omega), Or.inl ⟨rfl, fun i hi => ?_⟩⟩⟩
    by_cases ei : i < 4 - j
    · exact v2 i ei
    · rw [show i = 4 - j by omega]; exact y
  · have v2 : ∀ i, i < 4 → B (2048 * (q + 16) + 148 + i) = if i = 3 then q + 19 else 0 := by
      rcases g3 with ⟨_, v⟩ | ⟨v, _⟩
      · exact fun i hi => v i (by omega)
      · exact absurd v w
    rw [ic_t v2] at hZ
    refine c_sound H.1.1 hc hm (by omega) (s := 0) (by decide) (sp := 0) rfl (fun s38 hr f38 i38 s39 e39 => ⟨fun _ => ?_, fun w => absurd w (by decide)⟩) (fun s38 hr f38 i38 s39 e39 => ⟨fun w => absurd rfl w, fun _ => ?_⟩)
    rotate_left
    · rw [ic_f hr] at hZ
      exact k0 _ [] c s39 hZ.symm (by omega) (by rw [e39]; exact (H.rf f38).bu) (by rw [e39]; exact i38)
    rw [ic_t hr] at hZ
    have H39 : BR D σ0 s39 r md n B St Df [] c := by rw [e39]; exact (H.rf f38).bu
    have u39 : fI_ s39 7 2 r = nI ([] : List FT).length := by rw [e39]; show fI_ s38 7 2 r = _; rw [i38.2.1]; exact hu
    have bc39 : bc_ s39 = bc_ σ := by rw [e39]; rfl
    have bs39 : bs_ s39 = bs_ σ := by rw [e39]; rfl
    have hr34 : 2048 * (q + 16) + 156 + 34 ≤ 2048 * n := by omega
    refine ⟨H39.1.2.1.1.1, 1, 6, by omega, by omega, c_found (σ := bu_ s39 1 6) H39.bu u39 (a := 4294967295) hr34 (Nat.le_refl _) (Nat.le_refl _) (fun q46 s47 H47 q47 fo47 u47 k47 s48 e48 => ?_)⟩
    have H48 : BR D σ0 s48 r md n B St Df [] c := by rw [e48]; exact H47.bu
    have fo48 : FoA s48 (aR_ s48 (r + 2) ([] : List FT).length) (rtF B (2048 * (q + 16) + 156)) := by rw [e48]; rw [q47] at fo47; exact fo47
    have q48 : q46 = aR_ s48 (r + 2) ([] : List FT).length := by rw [e48]; exact q47
    have u48 : fI_ s48 7 2 r = nI 1 := by rw [e48]; exact u47
    have bc48 : bc_ s48 = bc_ σ - 1 := by rw [e48]; show bc_ s39 - 1 = _; rw [bc39]
    have bs48 : bs_ s48 = bs_ σ - 6 := by rw [e48]; show bs_ s39 - 6 = _; rw [bs39]
    have hl48 := H48.1.2.1.2.2.2.1
    have hc48 := H48.1.2.1.1
    obtain ⟨cs1, cs2, cs3⟩ := capF_s cok 0 (by decide)
    have cb := capF_b cok 0 (by decide)
    rw [capF_0 (Nat.zero_le c)] at cs1 cs2 cs3 cb
    rw [H39.1.2.1.1.2.1, q48]
    refine ⟨hl48.1, l_addC hl48 H48.1.1 fo48.1 (Or.inr rfl) (by rw [rfs_len]; decide) ?_ ?_ (fun s' hA v1 v2 => ?_)⟩
    · unfold g1A; rw [rfs_len, bc48]; unfold gC at cb; simp only [List.length_nil]; omega
    · unfold g2A; rw [rfs_len, bs48]; unfold gS at cb; simp only [List.length_nil]; omega
    · have l0 := H48.1.1.lt hc48.1
      have w0 : ¬ WL s48 (r + 1) r := by
        rintro (e | ⟨e, _⟩)
        · omega
        · have := hl48.2.2.1
          rw [← e, hc48.1] at this; cases this
      have HA := H48.add fo48 (by decide) hA
      have ec : capA (rfs s48 r ([] : List FT).length) c = cA 0 c := by unfold capA cA; rw [rfs_len]; rfl
      rw [ec, List.nil_append] at HA
      have c1 : bc_ s' + spC (cA 0 c) = bc_ σ - 1 + spC c := by
        rw [v1, bc48]
        have : g1A (rfs s48 r ([] : List FT).length) c = gC 0 c := by unfold g1A gC; rw [rfs_len]; rfl
        rw [this, cs1, cs2]; omega
      have c2 : bs_ s' + spS (cA 0 c) = bs_ σ - 6 + spS c := by
        rw [v2, bs48]
        have : g2A (rfs s48 r ([] : List FT).length) c = gS 0 c := by unfold g2A gS; rw [rfs_len]; rfl
        rw [this, cs1, cs3]; omega
      exact c_reads379 HA (by rw [hA.2.1.i l0 w0 (by omega)]; exact u48) hqn hr ht ht2 (by omega) (by omega) (fun F c' s2 e2 => k1 F c' s2 (by rw [← hZ, e2])) (fun w F c' s2 e2 => k0 w F c' s2 (by rw [← hZ, e2]))
theorem c_reads (H : RdE D σ r md n B St Df F c) (hq : q < 200) (h1 : 35 ≤ bc_ σ) (h2 : 266 ≤ bs_ σ)
    (k1 : ∀ F c' σ', rd n B St q = .inr F → BR D σ σ' r md n B St Df F c' → FOK n F → post 1 σ')
    (k0 : ∀ w F c' σ', rd n B St q = .inl w → w < 2 ^ 30 → BR D σ σ' r md n B St Df F c' → fI_ σ' 7 8 r = nI w → post 0 σ') : wX8_reads r (lN q) σ post := by
  obtain ⟨hf, hS, hm, hmr, hD⟩ := id H
  have hc := hS.1
  have hB := hm.med.2.2.1
  have hn := hm.med.2.1
  have hlst := hS.2.2.2.1
  have H0 : BR D σ σ r md n B St Df F c := ⟨H, FrR.refl (hf.lt hS.2.2.1.1)⟩
  obtain ⟨Z, hZ⟩ : ∃ Z, rd n B St q = Z := ⟨_, rfl⟩
  rw [hZ] at k1 k0
  unfold wX8_reads
  rw [hc.2.1]
  refine ⟨hc.1, hlst.1, l_clear hlst hf (fun s117 f1 f2 f3 f4 f5 f6 f7 f8 s118 e118 => ?_)⟩
  have H118 : BR D σ s118 r md n B St Df [] c := by rw [e118]; exact (H0.clear f1 f2 f3 f4 f6).bu
  refine ⟨H118.1.2.1.1.1, fun s120 e120 y121 h121 => ?_⟩
  have G : BR D σ s120 r md n B St Df [] c := by rw [e120]; exact H118.rf RF.refl.sI
  have u120 : fI_ s120 7 2 r = nI 0 := by rw [e120, afI_sI, u3_e]; rfl
  have b1 : bc_ s120 = bc_ σ := by rw [e120, e118]; rfl
  have b2' : bs_ s120 = bs_ σ := by rw [e120, e118]; rfl
  have e121 : y121 = lN (2048 * (q + 16)) := by
    rw [h121, show (16 : Int64) = lN 16 from rfl, show (2048 : Int64) = lN 2048 from rfl, lN_add, lN_mul, Nat.mul_comm]
  subst e121
  have hc' := G.1.2.1.1
  have hm' := G.1.2.2.1
  have fail : ∀ (w : Nat) (post' : Int32 → Hp → Prop), Z = .inl w → w < 2 ^ 30 → (∀ σ', post 0 σ' → post' 0 σ') → wX8_bad r (lN w) s120 (fun r2 s2 => ∀ s3, s3 = bu_ s2 (bc_ s120) (bs_ s120) → post' r2 s3) := fun w post' e1 e2 hp => c_bad hc' (fun s2 f2 e3 s3 e4 => hp s3 (k0 w [] c s3 e1 e2 (by rw [e4]; exact (G.rf f2).bu) (by rw [e4]; exact e3)))
  have failN : ∀ w : Nat, Z = .inl w → w < 2 ^ 30 → wX8_bad r (lN w) s120 (fun r2 s2 => ∀ s3, s3 = bu_ s2 (bc_ s120) (bs_ s120) → (nr_ .boolean r2 ∧ post r2 s3)) := fun w e1 e2 => fail w (fun r2 s3 => nr_ .boolean r2 ∧ post r2 s3) e1 e2 (fun s' hp => ⟨rfl, hp⟩)
  have a128 : lN (2048 * (q + 16)) + (128 : Int64) = lN (2048 * (q + 16) + 128) := by rw [show (128 : Int64) = lN 128 from rfl, lN_add]
  have a132 : lN (2048 * (q + 16)) + (132 : Int64) = lN (2048 * (q + 16) + 132) := by rw [show (132 : Int64) = lN 132 from rfl, lN_add]
  have a140 : lN (2048 * (q + 16)) + (140 : Int64) = lN (2048 * (q + 16) + 140) := by rw [show (140 : Int64) = lN 140 from rfl, lN_add]
  have aK : ∀ i, i < 4 → lN (2048 * (q + 16)) + ((nI i * (2048 : Int32))).toInt64 = lN (2048 * (q + 16 + i)) := by
    intro i hi
    rw [li_2048, pk_mul, nI_l (by omega), lN_add]; congr 1; omega
  unfold wX8_reads_L25
  refine lpG1 (B := fun R x5 => wX8_reads_B25 post R r (lN q) (lN (2048 * (q + 16))) x5 s120) (fun j x5 => ∃ i, i + j = 4 ∧ x5 = nI i ∧ rdW n B St q j (q + 16 + i) = Z ∧ ∀ t, q + 16 ≤ t → t < q + 16 + i → wrS n St t) 4 ⟨0, by omega, rfl, hZ, fun t a b => by omega⟩ ?_
  rintro j x5 R ⟨i, g1, rfl, g3, g4⟩ hR
  unfold wX8_reads_B25
  rw [show (4 : Int32) = nI 4 from rfl, nI_leI (by decide) (by omega)]
  refine ⟨fun z => ?_, fun z => ⟨hc'.1, ?_⟩⟩
  rotate_left
  · obtain ⟨j, rfl⟩ : ∃ k, j = k + 1 := ⟨j - 1, by omega⟩
    have g3' : ck (wrS n St (q + 16 + i)) (2048 * (q + 16 + i)) (rdW n B St q j (q + 16 + i + 1)) = Z := g3
    unfold ck at g3'
    rw [hc'.2.2.2.1, show (16 : Int64) = lN 16 from rfl, show (1 : Int64) = lN 1 from rfl, nI_l (by omega), lN_add, lN_add]
    refine ⟨hm'.tag, c_hasW hm' (by omega) (by decide) (fun w1 w2 => ⟨fun _ y110 h110 => hR j y110 (by omega) ⟨i + 1, by omega, by rw [h110, li_1, nI_add], ?_, fun t t1 t2 => ?_⟩, fun w => absurd w (by decide)⟩) (fun w => ⟨fun w => absurd rfl w, fun _ => ?_⟩)⟩
    · rw [ic_t (show wrS n St (q + 16 + i) from ⟨by omega, w2 0 (by decide)⟩)] at g3'
      exact g3'
    · by_cases e : t < q + 16 + i
      · exact g4 t t1 e
      · rw [show t = q + 16 + i by omega]; exact ⟨by omega, w2 0 (by decide)⟩
    · rw [aK i (by omega)]
      refine failN _ ?_ (by omega)
      rw [← g3', ic_f (fun v => w ⟨by have := v.1; omega, fun k hk => by rw [show k = 0 by omega]; exact v.2⟩)]
  have hj : j = 0 := by omega
  subst hj
  have g3' : rdH n B St q = Z := g3
  have hqn : q + 19 < n := (g4 (q + 19) (by omega) (by omega)).1
  unfold rdH at g3'
  have l128 := lowN_lt hB 2 (2048 * (q + 16) + 128)
  have l132 := lowN_lt hB 4 (2048 * (q + 16) + 132)
  have l140 := lowN_lt hB 4 (2048 * (q + 16) + 140)
  have p4 : (256 : Nat) ^ 4 = 4294967296 := by decide
  have p2 : (256 : Nat) ^ 2 = 65536 := by decide
  rw [p4] at l132 l140
  rw [p2] at l128
  unfold wX8_reads_L74
  refine lpG1 (B := fun R x5 => wX8_reads_B74 post R r (lN q) (lN (2048 * (q + 16))) x5 s120) (fun j x5 => ∃ i, i + j = 2 ∧ x5 = nI i ∧ ∀ t, t < i → hdOK B (2048 * (q + 16 + t)) (if t = 0 then 1 else 255)) 2 ⟨0, by omega, rfl, fun t h => by omega⟩ ?_
  rintro j x5 R ⟨i, u1, rfl, u3⟩ hR
  unfold wX8_reads_B74
  rw [show (2 : Int32) = nI 2 from rfl, nI_leI (by decide) (by omega)]
  refine ⟨fun z2 => ?_, fun z2 => ?_⟩
  rotate_left
  · have L102 : ∀ v : Nat, v < 256 → v = (if i = 0 then 1 else 255) → wX8_reads_L102 post R r (lN q) (lN (2048 * (q + 16))) (nI i) (nI v) (lN (2048 * (q + 16)) + ((nI i * (2048 : Int32))).toInt64) r s120 := by
      intro v hv ev
      unfold wX8_reads_L102
      rw [aK i (by omega)]
      refine ⟨hc'.1, c_isHead G.1.1 hc' hm' hv (by omega) (fun w => ⟨fun _ y80 h80 => hR (j - 1) y80 (by omega) ⟨i + 1, by omega, by rw [h80, li_1, nI_add], fun t ht => ?_⟩, fun w => absurd w (by decide)⟩) (fun w => ⟨fun w => absurd rfl w, fun _ => ⟨hc'.1, failN _ ?_ (by omega)⟩⟩)⟩
      · by_cases e : t < i
        · exact u3 t e
        · rw [show t = i by omega, ← ev]; exact w
      · rw [ev] at w
        have : i = 0 ∨ i = 1 := by omega
        rcases this with e | e
        · subst e
          have w' : ¬ hdOK B (2048 * (q + 16)) 1 := w
          rw [← g3']; unfold ck; rw [ic_f w']
        · subst e
          have h0 : hdOK B (2048 * (q + 16)) 1 := u3 0 (by decide)
          have w' : ¬ hdOK B (2048 * (q + 17)) 255 := w
          rw [← g3']; unfold ck; rw [ic_t h0, ic_f w']
    rw [li_0, nI_eq (by omega) (by decide)]
    exact ⟨fun w => L102 255 (by decide) (by rw [if_neg w]), fun w => L102 1 (by decide) (by rw [if_pos w])⟩
  have h0 := u3 0 (by omega)
  have h1' := u3 1 (by omega)
  rw [if_pos rfl] at h0
  rw [if_neg (by decide)] at h1'
  unfold ck at g3'
  rw [ic_t (show hdOK B (2048 * (q + 16)) 1 from h0), ic_t (show hdOK B (2048 * (q + 17)) 255 from h1')] at g3'
  unfold wX8_reads_L163 wX8_reads_L217
  rw [hc'.2.2.2.1, a128, a132, a140, show (4 : Int32) = nI 4 from rfl, li_2048, show (18 : Int64) = lN 18 from rfl, lN_add]
  refine ⟨hc'.1, hm'.tag, c_isBoth hm' (k := 2) (by decide) (by omega) (fun v1 => ⟨fun w => absurd w (by decide), fun _ => c_mlow hm' (k := 2) (by decide) (by omega) ?_⟩) (fun v1 => ⟨fun _ => ⟨hc'.1, failN _ ?_ (by omega)⟩, fun w => absurd rfl w⟩)⟩
  rotate_left
  · rw [← g3', ic_f (fun w => v1 (by rw [w.1]; exact w.2.symm))]
  rw [nI_eq (by omega) (by decide)]
  refine ⟨fun v2 => c_mlow hm' (k := 4) (by decide) (by omega) (c_isBoth hm' (k := 4) (by decide) (by omega) (fun v3 => ⟨fun w => absurd w (by decide), fun _ => ?_⟩) (fun v3 => ⟨fun _ => ⟨hc'.1, failN _ ?_ (by omega)⟩, fun w => absurd rfl w⟩)), fun v2 => ⟨hc'.1, failN _ ?_ (by omega)⟩⟩
  rotate_left
  · rw [ic_t ⟨v2, v1.symm.trans v2⟩, ic_f (fun w => v3 w.1)] at g3'
    exact g3'.symm
  · rw [← g3', ic_f (fun w => v2 w.1)]
  rw [ic_t ⟨v2, v1.symm.trans v2⟩] at g3'
  rw [nI_neg' (by omega)]
  refine ⟨fun v4 => ⟨hc'.1, failN _ ?_ (by omega)⟩, fun v4 => ?_⟩
  · rw [← g3', ic_f (fun w => by have := w.2; omega)]
  rw [nI_leI (by omega) (by decide)]
  refine ⟨fun v5 => c_mlow hm' (k := 4) (by decide) (by omega) ?_, fun v5 => ⟨hc'.1, failN _ ?_ (by omega)⟩⟩
  rotate_left
  · rw [← g3', ic_f (fun w => v5 w.2)]
  rw [ic_t ⟨v3, v5⟩] at g3'
  rw [lgc_i (by omega) (by omega)]
  refine ⟨fun v6 => ?_, fun v6 => failN _ ?_ (by omega)⟩
  rotate_left
  · rw [← g3', ic_f v6]
  rw [ic_t v6] at g3'
  exact c_reads266 G u120 hq hqn rfl v5 (by omega) (by omega) g3' k1 k0
end
