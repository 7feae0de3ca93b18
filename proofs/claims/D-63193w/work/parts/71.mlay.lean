/-! the reference: a file's extent -/
theorem burnS_s (Df : Nat → Bool) (s : Nat) (g : Nat → Nat → Nat) (r i : Nat) (b : BS) : burnS Df s g (r + 1) i b = if (burn1 Df (s + i) (g i) b).1 = 0 then burnS Df s g r (i + 1) (burn1 Df (s + i) (g i) b).2 else burn1 Df (s + i) (g i) b := rfl
section
variable {σ : Hp} {m n sd fs : Nat} {t : TT} {B0 St0 : Nat → Nat}
def P4 : Nat → Nat → Prop := fun j _ => j = 4
theorem filP_lt {B : Nat → Nat} (hB : ∀ q, B q < 256) (k : Nat) (old : Bool) (j i : Nat) : filP t B k old j i < 256 := by
  unfold filP
  split
  · split
    · exact hB _
    · exact Nat.mod_lt _ (by decide)
  · omega
theorem m_fill (hw : MW σ m) {k j : Nat} {old : Bool} (hk : k < 700) (hS : aI_ σ (m + 9) k = nI (tS t k)) (hSz : tS t k ≤ 409600) (hE : aI_ σ (m + 10) k = nI (tE t k)) (hj : j < 300) (h0 : old = false → tE t k ≤ 255)
    (h1 : old = true → MedM σ m n sd B0 St0 ∧ aI_ σ (m + 13) k = nI (tX t k) ∧ tX t k + (tS t k + 2047) / 2048 ≤ n) {post : Hp → Prop} (kk : ∀ σ', MFr m σ σ' P4 N0 → PG σ' m (filP t B0 k old j) → post σ') : wX9_fill m (nI k) (nI j) (b2 old) σ post := by
  unfold wX9_fill wX9_fill_L3
  refine lpG2 (B := fun R x τ => wX9_fill_B3 post R m (nI k) (nI j) (b2 old) x τ) (fun q x τ => ∃ i, i + q = 2048 ∧ x = nI i ∧ MFr m σ τ P4 N0 ∧ ∀ i', i' < i → aI_ τ (m + 4) i' = sb_b (filP t B0 k old j i')) 2048 ⟨0, by omega, rfl, MFr.refl, fun i' h => absurd h (by omega)⟩ ?_
  rintro q x τ R ⟨i, g1, rfl, g3, g4⟩ hR
  have hw := g3.mw hw
  have eS : aI_ τ (m + 9) k = nI (tS t k) := by rw [g3.a (by unfold P4; omega)]; exact hS
  have eE : aI_ τ (m + 10) k = nI (tE t k) := by rw [g3.a (by unfold P4; omega)]; exact hE
  have eO : aI_ τ (m + 13) k = aI_ σ (m + 13) k := g3.a (by unfold P4; omega)
  -- one byte more
  have step : ∀ c, i < 2048 → c = filP t B0 k old j i → R (nI (i + 1)) (wI_ τ (m + 4) i (sb_b c)) := by
    intro c hi hc
    refine hR (q - 1) _ _ (by omega) ⟨i + 1, by omega, rfl, by (repeat' first | with_reducible exact MFr.refl | with_reducible assumption | with_reducible apply MFr.wI' | with_reducible apply MFr.wL' | with_reducible apply MFr.sI' | omega | trivial | exact ⟨by omega, by omega⟩ | exact rfl), fun i' hi' => ?_⟩
    rw [aaI_wI]
    by_cases e : i' = i
    · subst e
      rw [u2_e, hc]
    · rw [u2_i e]; exact g4 i' (by omega)
  unfold wX9_fill_B3
  rw [li_2048, nI_leI (by omega) (by omega)]
  refine ⟨fun z => kk τ g3 (fun i' hi' => g4 i' (by omega)), fun z y11 h11 => ⟨mw_tag hw, ?_⟩⟩
  have e11 : y11 = nI (2048 * j + i) := by rw [h11, pk_mul, nI_add]
  subst e11
  have hi : i < 2048 := by omega
  refine ⟨by rw [mf_16 hw]; exact mt_16 hw, by rw [mf_16 hw, ml_16 hw]; exact (vin_ (by omega)).mpr (by omega), fun y15 h15 => ?_⟩
  have L83 : ∀ v : Int32, (2048 * j + i < tS t k → v.toInt8.toInt32 = sb_b (filP t B0 k old j i)) → wX9_fill_L83 post R m (nI k) (nI j) (b2 old) (nI i) (nI (2048 * j + i)) v τ := by
    intro v hv
    unfold wX9_fill_L83 wX9_fill_L106
    simp (disch := omega) only [atg_sI, afI_sI, afL_sI, afR_sI, aln_sI, aaI_sI, aaL_sI, aaR_sI, anx_sI, abc_sI, abs_sI, alo_sI, atg_wI, afI_wI, afL_wI, afR_wI, aln_wI, aaI_wI, aaL_wI, aaR_wI, anx_wI, abc_wI, abs_wI, alo_wI, atg_wL, afI_wL, afL_wL, afR_wL, aln_wL, aaI_wL, aaL_wL, aaR_wL, anx_wL, abc_wL, abs_wL, alo_wL, u2_e, u2_r, u2_i, u3_e, u3_k, u3_c, u3_r, mw_tag hw, mw_lo hw, mw_loa hw, mf_3 hw, mt_3 hw, ml_3 hw, mf_4 hw, mt_4 hw, ml_4 hw, mf_5 hw, mt_5 hw, ml_5 hw, mf_9 hw, mt_9 hw, ml_9 hw, mf_11 hw, mt_11 hw, ml_11 hw, mf_12 hw, mt_12 hw, ml_12 hw, mf_13 hw, mt_13 hw, ml_13 hw, mf_14 hw, mt_14 hw, ml_14 hw, mf_15 hw, mt_15 hw, ml_15 hw, mf_16 hw, mt_16 hw, ml_16 hw, mf_17 hw, mt_17 hw, ml_17 hw, mf_18 hw, mt_18 hw, ml_18 hw, mf_19 hw, mt_19 hw, ml_19 hw, mf_21 hw, mt_21 hw, ml_21 hw, mf_24 hw, mt_24 hw, ml_24 hw, mf_25 hw, mt_25 hw, ml_25 hw, mf_26 hw, mt_26 hw, ml_26 hw, mf_29 hw, mt_29 hw, ml_29 hw, mf_30 hw, mt_30 hw, ml_30 hw, mf_31 hw, mt_31 hw, ml_31 hw, mf_32 hw, mt_32 hw, ml_32 hw, mf_33 hw, mt_33 hw, ml_33 hw, mf_34 hw, mt_34 hw, ml_34 hw, mf_36 hw, mt_36 hw, ml_36 hw, mf_37 hw, mt_37 hw, ml_37 hw, mf_38 hw, mt_38 hw, ml_38 hw, mf_39 hw, mt_39 hw, ml_39 hw, mf_40 hw, mt_40 hw, ml_40 hw, li_0, li_1, li_2, li_3, li_4, li_5, li_6, li_7, li_8, li_9, li_10, li_12, li_14, li_16, li_17, li_18, li_19, li_20, li_25, li_28, li_30, li_31, li_32, li_33, li_34, li_40, li_46, li_48, li_49, li_57, li_59, li_65, li_67, li_68, li_75, li_77, li_80, li_82, li_90, li_95, li_100, li_128, li_130, li_132, li_136, li_140, li_148, li_156, li_200, li_255, li_256, li_400, li_700, li_2047, li_2048, li_2049, li_2050, li_2054, li_2056, li_4096, li_6000, li_163840, li_409600, li_819200, nI_add, pk_mul, pk_sub, nI_leI, nI_ltI, nI_eq, nI_clamp, vin_t, forall_eq, true_and, and_true, forall_const, implies_true, eS]
    refine ⟨fun y => ?_, fun y => ?_⟩
    · rw [show (nI 0).toInt8.toInt32 = sb_b 0 from rfl, nar_b]
      refine step 0 hi ?_
      unfold filP
      rw [if_neg (by omega)]
    · rw [hv (by omega), nar_b]
      exact step _ hi rfl
  cases old with
  | false =>
    refine ⟨fun _ => L83 y15 (fun y => ?_), fun z => absurd rfl z⟩
    have hE5 := h0 rfl
    rw [mf_16 hw, nI_clamp (by omega), eE, li_3, pk_mul, li_128, pk_div (by omega) (by decide) (by decide), nI_add, nI_add, li_256, pk_rem (by omega) (by decide) (by decide)] at h15
    rw [h15]
    show sb_b _ = sb_b _
    congr 1
    unfold filP
    rw [if_pos y]; rfl
  | true =>
    obtain ⟨hM, hX, hXn⟩ := h1 rfl
    have hM' := g3.med hM (fun z => z) (fun z => z) (fun i z => by unfold P4 at z; omega) (fun i z => by unfold P4 at z; omega)
    have hn := hM.2.1.2.1
    refine ⟨fun z => absurd z (by decide), fun _ => ?_⟩
    unfold wX9_fill_L81
    rw [hX] at eO
    simp (disch := omega) only [atg_sI, afI_sI, afL_sI, afR_sI, aln_sI, aaI_sI, aaL_sI, aaR_sI, anx_sI, abc_sI, abs_sI, alo_sI, atg_wI, afI_wI, afL_wI, afR_wI, aln_wI, aaI_wI, aaL_wI, aaR_wI, anx_wI, abc_wI, abs_wI, alo_wI, atg_wL, afI_wL, afL_wL, afR_wL, aln_wL, aaI_wL, aaL_wL, aaR_wL, anx_wL, abc_wL, abs_wL, alo_wL, u2_e, u2_r, u2_i, u3_e, u3_k, u3_c, u3_r, mw_tag hw, mw_lo hw, mw_loa hw, mf_3 hw, mt_3 hw, ml_3 hw, mf_4 hw, mt_4 hw, ml_4 hw, mf_5 hw, mt_5 hw, ml_5 hw, mf_9 hw, mt_9 hw, ml_9 hw, mf_11 hw, mt_11 hw, ml_11 hw, mf_12 hw, mt_12 hw, ml_12 hw, mf_13 hw, mt_13 hw, ml_13 hw, mf_14 hw, mt_14 hw, ml_14 hw, mf_15 hw, mt_15 hw, ml_15 hw, mf_16 hw, mt_16 hw, ml_16 hw, mf_17 hw, mt_17 hw, ml_17 hw, mf_18 hw, mt_18 hw, ml_18 hw, mf_19 hw, mt_19 hw, ml_19 hw, mf_21 hw, mt_21 hw, ml_21 hw, mf_24 hw, mt_24 hw, ml_24 hw, mf_25 hw, mt_25 hw, ml_25 hw, mf_26 hw, mt_26 hw, ml_26 hw, mf_29 hw, mt_29 hw, ml_29 hw, mf_30 hw, mt_30 hw, ml_30 hw, mf_31 hw, mt_31 hw, ml_31 hw, mf_32 hw, mt_32 hw, ml_32 hw, mf_33 hw, mt_33 hw, ml_33 hw, mf_34 hw, mt_34 hw, ml_34 hw, mf_36 hw, mt_36 hw, ml_36 hw, mf_37 hw, mt_37 hw, ml_37 hw, mf_38 hw, mt_38 hw, ml_38 hw, mf_39 hw, mt_39 hw, ml_39 hw, mf_40 hw, mt_40 hw, ml_40 hw, li_0, li_1, li_2, li_3, li_4, li_5, li_6, li_7, li_8, li_9, li_10, li_12, li_14, li_16, li_17, li_18, li_19, li_20, li_25, li_28, li_30, li_31, li_32, li_33, li_34, li_40, li_46, li_48, li_49, li_57, li_59, li_65, li_67, li_68, li_75, li_77, li_80, li_82, li_90, li_95, li_100, li_128, li_130, li_132, li_136, li_140, li_148, li_156, li_200, li_255, li_256, li_400, li_700, li_2047, li_2048, li_2049, li_2050, li_2054, li_2056, li_4096, li_6000, li_163840, li_409600, li_819200, nI_add, pk_mul, pk_sub, nI_leI, nI_ltI, nI_eq, nI_clamp, vin_t, forall_eq, true_and, and_true, forall_const, implies_true, eS, eO]
    refine ⟨fun y => L83 _ (fun y2 => by omega), fun y => m_get hM' (by omega) (L83 _ (fun y2 => ?_))⟩
    show sb_b _ = sb_b _
    congr 1
    unfold filP
    rw [if_pos y2]; rfl
end
section
variable {σ : Hp} {m n sd fs : Nat} {t : TT} {B0 St0 : Nat → Nat} {b : BS} {Df : Nat → Bool}
/-- what laying a file may change -/
def PLz (fs : Nat) : Nat → Nat → Prop := fun j i => PBn fs j i ∨ j = 4
def PLy (fs k : Nat) : Nat → Nat → Prop := fun j i => PBn fs j i ∨ j = 4 ∨ (j = 12 ∧ i = k)
theorem m_lay (h : BMd σ m n sd fs b Df) (hlo : bLo b = false) {k : Nat} {old : Bool} (hk : k < 700) (hS : aI_ σ (m + 9) k = nI (tS t k)) (hSz : tS t k ≤ 409600) (hS0 : 0 < tS t k) (hE : aI_ σ (m + 10) k = nI (tE t k)) (h0 : old = false → tE t k ≤ 255) (hB0 : ∀ q, B0 q < 256)
    (h1 : old = true → fs ≠ sd ∧ MedM σ m n sd B0 St0 ∧ aI_ σ (m + 13) k = nI (tX t k) ∧ tX t k + (tS t k + 2047) / 2048 ≤ n) {post : Int32 → Hp → Prop}
    (k0 : ∀ σ' f b', layB n Df ((tS t k + 2047) / 2048) (filP t B0 k old) 201 b = (0, f, b') → f ≤ 200 → bLo b' = false → BMd σ' m n sd fs b' Df → MFr m σ σ' (PLy fs k) QB → aI_ σ' (m + 12) k = nI f → post 0 σ')
    (k3 : ∀ σ' c f b', layB n Df ((tS t k + 2047) / 2048) (filP t B0 k old) 201 b = (c, f, b') → (c = 3 ∨ c = 4) → BMd σ' m n sd fs b' Df → MFr m σ σ' (PLz fs) QB → post (cod c) σ') : wX9_lay m (nI fs) (nI k) (b2 old) σ post := by
  obtain ⟨need, hnd⟩ : ∃ q, q = (tS t k + 2047) / 2048 := ⟨_, rfl⟩
  obtain ⟨g, hgd⟩ : ∃ g, g = filP t B0 k old := ⟨_, rfl⟩
  rw [← hnd, ← hgd] at k0 k3
  have hg256 : ∀ j i, g j i < 256 := fun j i => by rw [hgd]; exact filP_lt hB0 k old j i
  have hw := h.1
  have hn2 := h.2.1.2.1
  have hfs := h.2.2.2.2.1
  obtain ⟨Z, hZ⟩ : ∃ Z, layB n Df need g 201 b = Z := ⟨_, rfl⟩
  unfold wX9_lay
  simp (disch := omega) only [atg_sI, afI_sI, afL_sI, afR_sI, aln_sI, aaI_sI, aaL_sI, aaR_sI, anx_sI, abc_sI, abs_sI, alo_sI, atg_wI, afI_wI, afL_wI, afR_wI, aln_wI, aaI_wI, aaL_wI, aaR_wI, anx_wI, abc_wI, abs_wI, alo_wI, atg_wL, afI_wL, afL_wL, afR_wL, aln_wL, aaI_wL, aaL_wL, aaR_wL, anx_wL, abc_wL, abs_wL, alo_wL, u2_e, u2_r, u2_i, u3_e, u3_k, u3_c, u3_r, mw_tag hw, mw_lo hw, mw_loa hw, mf_3 hw, mt_3 hw, ml_3 hw, mf_4 hw, mt_4 hw, ml_4 hw, mf_5 hw, mt_5 hw, ml_5 hw, mf_9 hw, mt_9 hw, ml_9 hw, mf_11 hw, mt_11 hw, ml_11 hw, mf_12 hw, mt_12 hw, ml_12 hw, mf_13 hw, mt_13 hw, ml_13 hw, mf_14 hw, mt_14 hw, ml_14 hw, mf_15 hw, mt_15 hw, ml_15 hw, mf_16 hw, mt_16 hw, ml_16 hw, mf_17 hw, mt_17 hw, ml_17 hw, mf_18 hw, mt_18 hw, ml_18 hw, mf_19 hw, mt_19 hw, ml_19 hw, mf_21 hw, mt_21 hw, ml_21 hw, mf_24 hw, mt_24 hw, ml_24 hw, mf_25 hw, mt_25 hw, ml_25 hw, mf_26 hw, mt_26 hw, ml_26 hw, mf_29 hw, mt_29 hw, ml_29 hw, mf_30 hw, mt_30 hw, ml_30 hw, mf_31 hw, mt_31 hw, ml_31 hw, mf_32 hw, mt_32 hw, ml_32 hw, mf_33 hw, mt_33 hw, ml_33 hw, mf_34 hw, mt_34 hw, ml_34 hw, mf_36 hw, mt_36 hw, ml_36 hw, mf_37 hw, mt_37 hw, ml_37 hw, mf_38 hw, mt_38 hw, ml_38 hw, mf_39 hw, mt_39 hw, ml_39 hw, mf_40 hw, mt_40 hw, ml_40 hw, li_0, li_1, li_2, li_3, li_4, li_5, li_6, li_7, li_8, li_9, li_10, li_12, li_14, li_16, li_17, li_18, li_19, li_20, li_25, li_28, li_30, li_31, li_32, li_33, li_34, li_40, li_46, li_48, li_49, li_57, li_59, li_65, li_67, li_68, li_75, li_77, li_80, li_82, li_90, li_95, li_100, li_128, li_130, li_132, li_136, li_140, li_148, li_156, li_200, li_255, li_256, li_400, li_700, li_2047, li_2048, li_2049, li_2050, li_2054, li_2056, li_4096, li_6000, li_163840, li_409600, li_819200, nI_add, pk_mul, pk_sub, nI_leI, nI_ltI, nI_eq, nI_clamp, vin_t, forall_eq, true_and, and_true, forall_const, implies_true, hS]
  rw [pk_div (by omega) (by decide) (by decide), ← hnd]
  unfold wX9_lay_L16
  refine lpG1 (B := fun R τ => wX9_lay_B16 post R m (nI fs) (nI k) (b2 old) (nI need) τ) (fun j τ => ∃ b', layB n Df need g j b' = Z ∧ n < j + frt (bSt b') n ∧ BMd τ m n sd fs b' Df ∧ bLo b' = false ∧ MFr m σ τ (PLz fs) QB) 201 ⟨b, hZ, by omega, h, hlo, MFr.refl⟩ ?_
  rintro j τ R ⟨b1, h2, h3, h4, h5, h6⟩ hR
  have hfle := frt_le (bSt b1) n
  obtain ⟨j, rfl⟩ : ∃ q, j = q + 1 := ⟨j - 1, by omega⟩
  obtain ⟨f, hf⟩ : ∃ f, f = frt (bSt b1) n := ⟨_, rfl⟩
  unfold layB at h2
  rw [← hf] at h2 h3 hfle
  unfold wX9_lay_B16
  refine ⟨mw_tag h4.1, m_front h4 ?_⟩
  rw [h4.2.2.1, ← hf, nI_add, nI_leI (by omega) (by omega)]
  refine ⟨fun q => ?_, fun q => ?_⟩
  · rw [if_neg (by omega)] at h2
    unfold wX9_lay_L44
    refine lpG3 (B := fun R' x6 x7 τ' => wX9_lay_B44 post R R' m (nI fs) (nI k) (b2 old) (nI need) (nI f) x6 x7 τ') (fun i x6 x7 τ' => ∃ r c bb, r + i = need + 1 ∧ x6 = nI c ∧ c ≤ 2 ∧ x7 = nI r ∧ r ≤ need ∧ BMd τ' m n sd fs bb Df ∧ (c ≠ 2 → bLo bb = false) ∧ MFr m σ τ' (PLz fs) QB ∧ (c = 0 → burnS Df f g (need - r) r bb = burnS Df f g need 0 b1 ∧ ∀ s, f + r ≤ s → s < n → bSt bb s = 0) ∧ (c ≠ 0 → burnS Df f g need 0 b1 = (c, bb))) (need + 1) ⟨0, 0, b1, by omega, rfl, by omega, rfl, by omega, h4, fun _ => h5, h6, fun _ => ⟨rfl, fun s a1 a2 => frt_hi (by omega) a2⟩, fun z => absurd rfl z⟩ ?_
    rintro i x6 x7 τ' R' ⟨r, c, bb, g1, rfl, g3, rfl, g5, g6, g6', g7, g8, g9⟩ hR'
    -- the end of a try
    have L82 : (c = 0 → r = need) → wX9_lay_L82 post R m (nI fs) (nI k) (b2 old) (nI need) (nI f) (nI c) τ' := by
      intro hc
      unfold wX9_lay_L82
      have hw := g6.1
      simp (disch := omega) only [atg_sI, afI_sI, afL_sI, afR_sI, aln_sI, aaI_sI, aaL_sI, aaR_sI, anx_sI, abc_sI, abs_sI, alo_sI, atg_wI, afI_wI, afL_wI, afR_wI, aln_wI, aaI_wI, aaL_wI, aaR_wI, anx_wI, abc_wI, abs_wI, alo_wI, atg_wL, afI_wL, afL_wL, afR_wL, aln_wL, aaI_wL, aaL_wL, aaR_wL, anx_wL, abc_wL, abs_wL, alo_wL, u2_e, u2_r, u2_i, u3_e, u3_k, u3_c, u3_r, mw_tag hw, mw_lo hw, mw_loa hw, mf_3 hw, mt_3 hw, ml_3 hw, mf_4 hw, mt_4 hw, ml_4 hw, mf_5 hw, mt_5 hw, ml_5 hw, mf_9 hw, mt_9 hw, ml_9 hw, mf_11 hw, mt_11 hw, ml_11 hw, mf_12 hw, mt_12 hw, ml_12 hw, mf_13 hw, mt_13 hw, ml_13 hw, mf_14 hw, mt_14 hw, ml_14 hw, mf_15 hw, mt_15 hw, ml_15 hw, mf_16 hw, mt_16 hw, ml_16 hw, mf_17 hw, mt_17 hw, ml_17 hw, mf_18 hw, mt_18 hw, ml_18 hw, mf_19 hw, mt_19 hw, ml_19 hw, mf_21 hw, mt_21 hw, ml_21 hw, mf_24 hw, mt_24 hw, ml_24 hw, mf_25 hw, mt_25 hw, ml_25 hw, mf_26 hw, mt_26 hw, ml_26 hw, mf_29 hw, mt_29 hw, ml_29 hw, mf_30 hw, mt_30 hw, ml_30 hw, mf_31 hw, mt_31 hw, ml_31 hw, mf_32 hw, mt_32 hw, ml_32 hw, mf_33 hw, mt_33 hw, ml_33 hw, mf_34 hw, mt_34 hw, ml_34 hw, mf_36 hw, mt_36 hw, ml_36 hw, mf_37 hw, mt_37 hw, ml_37 hw, mf_38 hw, mt_38 hw, ml_38 hw, mf_39 hw, mt_39 hw, ml_39 hw, mf_40 hw, mt_40 hw, ml_40 hw, li_0, li_1, li_2, li_3, li_4, li_5, li_6, li_7, li_8, li_9, li_10, li_12, li_14, li_16, li_17, li_18, li_19, li_20, li_25, li_28, li_30, li_31, li_32, li_33, li_34, li_40, li_46, li_48, li_49, li_57, li_59, li_65, li_67, li_68, li_75, li_77, li_80, li_82, li_90, li_95, li_100, li_128, li_130, li_132, li_136, li_140, li_148, li_156, li_200, li_255, li_256, li_400, li_700, li_2047, li_2048, li_2049, li_2050, li_2054, li_2056, li_4096, li_6000, li_163840, li_409600, li_819200, nI_add, pk_mul, pk_sub, nI_leI, nI_ltI, nI_eq, nI_clamp, vin_t, forall_eq, true_and, and_true, forall_const, implies_true]
      refine ⟨fun z => ⟨fun z2 => ?_, fun z2 => ?_⟩, fun z => ?_⟩
      · have c0 : c = 0 := by omega
        obtain ⟨y1, y2⟩ := g8 c0
        rw [hc c0, Nat.sub_self] at y1
        have y3 : burnS Df f g need 0 b1 = (0, bb) := y1.symm
        rw [y3] at h2
        have hz : Z = (0, f, bb) := h2.symm
        have f9 : MFr m σ (wI_ τ' (m + 12) k (nI f)) (PLy fs k) QB := MFr.wI' (g7.mono (fun j i z => z.elim Or.inl (fun y => Or.inr (Or.inl y))) (fun _ z => z)) (by omega) (by omega) (by unfold PLy; omega)
        refine k0 _ f bb (by rw [hZ, hz]) (by omega) (g6' z) (g6.fr (P := fun j _ => j = 12) (Q := N0) (MFr.wI (by omega) (by omega) rfl) (fun k _ z => z) (fun j i a z => by omega)) f9 (by rw [aaI_wI, u2_e])
      · have y3 := g9 (by omega)
        rw [y3, if_neg (by omega)] at h2
        have h2' : layB n Df need g j bb = Z := by rw [← h2]; simp only; rw [if_pos z2]
        obtain ⟨s, s1, s2, s3⟩ := (burnS_st Df f g need 0 b1).2.1 (by rw [y3]; exact z2)
        rw [y3] at s3
        have := frt_ge (St := bSt bb) (n := n) (s := s) (by rw [s3]; decide) (by omega)
        exact hR j τ' (by omega) ⟨bb, h2', by omega, g6, g6' z, g7⟩
      · have y3 := g9 (by omega)
        rw [y3] at h2
        have h2' : (4, 0, bb) = Z := by rw [← h2]; simp only; rw [if_pos z]
        exact k3 τ' 4 0 bb (by rw [hZ, ← h2']) (Or.inr rfl) g6 g7
    unfold wX9_lay_B44
    rw [nI_leI (by omega) (by omega), li_0, nI_eq (by omega) (by omega)]
    refine ⟨fun z => L82 (fun _ => by omega), fun z => ⟨fun z2 => L82 (fun y => absurd y z2), fun z2 => ⟨mw_tag g6.1, ?_⟩⟩⟩
    obtain ⟨y1, y2⟩ := g8 z2
    have eS : aI_ τ' (m + 9) k = nI (tS t k) := by rw [g7.a (by unfold PLz PBn; omega)]; exact hS
    have eE : aI_ τ' (m + 10) k = nI (tE t k) := by rw [g7.a (by unfold PLz PBn; omega)]; exact hE
    refine m_fill (t := t) (n := n) (sd := sd) (B0 := B0) (St0 := St0) (old := old) g6.1 hk eS hSz eE (by omega) h0 (fun e => ?_) (fun σ1 a1 b1' => ⟨mw_tag (a1.mw g6.1), ?_⟩)
    · obtain ⟨u1, u2, u3, u4⟩ := h1 e
      obtain ⟨v1, v2, v3, v4, v5, v6, v7⟩ := u2
      refine ⟨⟨g6.1, v2, by rw [g7.f (by unfold QB; omega)]; exact v3, by rw [g7.f (by unfold QB; omega)]; exact v4, v5, fun p hp => ?_, fun s hs => ?_⟩, by rw [g7.a (by unfold PLz PBn; omega)]; exact u3, u4⟩
      · rw [g7.a (by unfold PLz PBn; omega)]; exact v6 p hp
      · rw [g7.a (by unfold PLz PBn; omega)]; exact v7 s hs
    · rw [← hgd] at b1'
      have g6a : BMd σ1 m n sd fs bb Df := g6.fr a1 (fun k _ z => z) (fun j i a z => by unfold P4 at z; omega)
      rw [nI_add]
      refine m_burn g6a (g6' (by omega)) (by omega) (y2 _ (by omega) (by omega)) b1' (hg256 r) (fun σ2 a2 b2' y hy => ?_)
      rw [hy, li_1, nI_add]
      obtain ⟨st1, st2, st3, st4, st5⟩ := burn1_st Df (f + r) (g r) bb
      have fr : MFr m σ σ2 (PLz fs) QB := (g7.trans (a1.mono (fun j i z => by unfold P4 at z; unfold PLz; omega) (fun _ z => z.elim))).trans (a2.mono (fun j i z => Or.inl z) (fun _ z => z))
      rw [show need - r = (need - (r + 1)) + 1 by omega] at y1
      rw [burnS_s] at y1
      refine hR' (i - 1) _ _ _ (by omega) ⟨r + 1, (burn1 Df (f + r) (g r) bb).1, (burn1 Df (f + r) (g r) bb).2, by omega, rfl, st4, rfl, by omega, b2', fun e => by rw [st5 e]; exact g6' (by omega), fr, fun e => ⟨?_, fun s a1 a2 => ?_⟩, fun e => ?_⟩
      · rw [if_pos e] at y1
        exact y1
      · rw [st1 s (by omega)]; exact y2 s (by omega) a2
      · rw [if_neg e] at y1
        rw [← y1]
  · rw [if_pos (by omega)] at h2
    exact k3 τ 3 0 b1 (by rw [hZ, ← h2]) (Or.inl rfl) h4 h6
end
