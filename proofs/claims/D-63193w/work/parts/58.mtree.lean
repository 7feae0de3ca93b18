/-! depth and descent in a sound tree; the reference's walks in its tree -/
theorem mem_tL {t : TT} {k : Nat} : k ∈ tL t ↔ k < tN t ∧ tT t k = true := by
  unfold tL
  rw [List.mem_filter, List.mem_range]
section
variable {n : Nat} {t : TT}
theorem dpF_dp (dp : Nat → Nat) (h0 : dp 0 = 0) (h : ∀ k, 0 < k → k < tN t → tT t k = true → tP t k < tN t ∧ tT t (tP t k) = true ∧ tD t (tP t k) = 1 ∧ dp k = dp (tP t k) + 1 ∧ dp k ≤ 7 ∧ (tD t k = 1 → dp k ≤ 6)) : ∀ (j k : Nat), k < tN t → tT t k = true → dp k ≤ j → dpF t j k = dp k
  | 0, k, h1, h2, h3 => by
    unfold dpF
    omega
  | j + 1, k, h1, h2, h3 => by
    unfold dpF
    by_cases e : k = 0
    · rw [if_pos e, e, h0]
    · obtain ⟨a, b, c, d, -⟩ := h k (by omega) h1 h2
      rw [if_neg e, dpF_dp dp h0 h j _ a b (by omega), d]
theorem dep_s (ok : TOK n t) {k : Nat} (h0 : 0 < k) (hk : k < tN t) (ht : tT t k = true) : tP t k < tN t ∧ tT t (tP t k) = true ∧ tD t (tP t k) = 1 ∧ dep t k = dep t (tP t k) + 1 ∧ dep t k ≤ 7 ∧ (tD t k = 1 → dep t k ≤ 6) := by
  obtain ⟨-, hr, ⟨dp, h1, h2⟩, -⟩ := ok
  obtain ⟨a, b, c, d, e, f⟩ := h2 k h0 hk ht
  have e1 : dep t k = dp k := dpF_dp dp h1 h2 8 k hk ht (by omega)
  have e2 : dep t (tP t k) = dp (tP t k) := dpF_dp dp h1 h2 8 _ a b (by omega)
  rw [e1, e2]
  exact ⟨a, b, c, d, e, f⟩
theorem dep_0 : dep t 0 = 0 := by unfold dep dpF; rw [if_pos rfl]
theorem dep_7 (ok : TOK n t) {k : Nat} (hk : k < tN t) (ht : tT t k = true) : dep t k ≤ 7 := by
  rcases Nat.eq_zero_or_pos k with e | e
  · rw [e, dep_0]; omega
  · exact (dep_s ok e hk ht).2.2.2.2.1
theorem dep_6 (ok : TOK n t) {k : Nat} (hk : k < tN t) (ht : tT t k = true) (hd : tD t k = 1) : dep t k ≤ 6 := by
  rcases Nat.eq_zero_or_pos k with e | e
  · rw [e, dep_0]; omega
  · exact (dep_s ok e hk ht).2.2.2.2.2 hd
theorem lieF_s (ok : TOK n t) {g : Nat} : ∀ (j q : Nat), q < tN t → tT t q = true → dep t q ≤ j → (lieF t (j + 1) q g ↔ lieF t j q g)
  | 0, q, h1, h2, h3 => by
    have hq : q = 0 := by
      rcases Nat.eq_zero_or_pos q with e | e
      · exact e
      · have := (dep_s ok e h1 h2).2.2.2.1; omega
    subst hq
    unfold lieF
    constructor
    · rintro (a | ⟨a, -⟩)
      · exact a
      · exact absurd rfl a
    · exact fun a => Or.inl a
  | j + 1, q, h1, h2, h3 => by
    show (q = g ∨ (q ≠ 0 ∧ lieF t (j + 1) (tP t q) g)) ↔ (q = g ∨ (q ≠ 0 ∧ lieF t j (tP t q) g))
    by_cases e : q = 0
    · constructor
      · rintro (a | ⟨a, -⟩)
        · exact Or.inl a
        · exact absurd e a
      · rintro (a | ⟨a, -⟩)
        · exact Or.inl a
        · exact absurd e a
    · obtain ⟨a, b, c, d, -⟩ := dep_s ok (by omega) h1 h2
      rw [lieF_s ok j _ a b (by omega)]
theorem lies_s (ok : TOK n t) {q g : Nat} (h1 : q < tN t) (h2 : tT t q = true) : lies t q g ↔ (q = g ∨ (q ≠ 0 ∧ lies t (tP t q) g)) := by
  unfold lies
  rw [← lieF_s ok 8 q h1 h2 (by have := dep_7 ok h1 h2; omega)]
  exact Iff.rfl
theorem root_D (ok : TOK n t) {k : Nat} (hk : k < tN t) (ht : tT t k = true) : tD t k ≤ 1 := by
  rcases Nat.eq_zero_or_pos k with e | e
  · rw [e, ok.2.1.2.1]; omega
  · exact (ok.2.2.2.1 k e hk ht).1
theorem nm_b (ok : TOK n t) {k : Nat} (hk : k < tN t) (ht : tT t k = true) : (tM t k).length ≤ 8 ∧ ∀ c ∈ tM t k, 0 < c ∧ c < 256 := by
  rcases Nat.eq_zero_or_pos k with e | e
  · rw [e, ok.2.1.2.2.2.1]; exact ⟨by simp, fun c hc => by cases hc⟩
  · have := (ok.2.2.2.1 k e hk ht).2.1
    exact ⟨this.2.1, NM_b this⟩
end
theorem lgcE {a b : Nat} (ha : a < 2 ^ 64) (hb : b < 2 ^ 64) : lg_cmp (lN a) (lN b) = 0 ↔ a = b := by
  have e : lg_cmp (lN a) (lN b) = 0 ↔ lN a = lN b := by
    unfold lg_cmp
    constructor
    · intro q
      split at q
      · exact absurd q (by decide)
      · split at q
        · assumption
        · exact absurd q (by decide)
    · intro q
      rw [q]
      rw [if_neg (by intro z; exact absurd z (by rw [gt_iff_lt]; exact Int64.lt_irrefl)), if_pos rfl]
  rw [e]
  constructor
  · intro q
    have := congrArg (fun x : Int64 => x.toBitVec.toNat) q
    simpa [wb_tn ha, wb_tn hb] using this
  · intro q; rw [q]
theorem lgcN {a b : Nat} (ha : a < 2 ^ 64) (hb : b < 2 ^ 64) : lg_cmp (lN a) (lN b) = nI 0 ↔ a = b := lgcE ha hb
section
variable {σ : Hp} {m n : Nat} {t : TT}
theorem m_depthOf (hw : MW σ m) (hT : MT σ m t) (ok : TOK n t) {k : Nat} (hk : k < tN t) (ht : tT t k = true) {post : Int32 → Prop} (kk : post (nI (dep t k))) : wX9_depthOf m (nI k) σ post := by
  have hN := ok.1.2.1
  have h7 := dep_7 ok hk ht
  unfold wX9_depthOf wX9_depthOf_L4
  refine lpG2 (B := fun R x2 x3 => wX9_depthOf_B4 post R m x2 x3 σ) (fun j x2 x3 => ∃ q, q < tN t ∧ tT t q = true ∧ dep t q = j ∧ j ≤ dep t k ∧ x3 = nI q ∧ x2 = nI (dep t k - j)) (dep t k) ⟨k, hk, ht, rfl, Nat.le_refl _, rfl, by rw [Nat.sub_self]; rfl⟩ ?_
  rintro j x2 x3 R ⟨q, h1, h2, h3, h4, rfl, rfl⟩ hR
  unfold wX9_depthOf_B4
  obtain ⟨c1, c2, -⟩ := hT.2.2 q h1 h2
  simp (disch := omega) only [atg_sI, afI_sI, afL_sI, afR_sI, aln_sI, aaI_sI, aaL_sI, aaR_sI, anx_sI, abc_sI, abs_sI, alo_sI, atg_wI, afI_wI, afL_wI, afR_wI, aln_wI, aaI_wI, aaL_wI, aaR_wI, anx_wI, abc_wI, abs_wI, alo_wI, atg_wL, afI_wL, afL_wL, afR_wL, aln_wL, aaI_wL, aaL_wL, aaR_wL, anx_wL, abc_wL, abs_wL, alo_wL, u2_e, u2_r, u2_i, u3_e, u3_k, u3_c, u3_r, mw_tag hw, mw_lo hw, mw_loa hw, mf_3 hw, mt_3 hw, ml_3 hw, mf_4 hw, mt_4 hw, ml_4 hw, mf_5 hw, mt_5 hw, ml_5 hw, mf_9 hw, mt_9 hw, ml_9 hw, mf_11 hw, mt_11 hw, ml_11 hw, mf_12 hw, mt_12 hw, ml_12 hw, mf_13 hw, mt_13 hw, ml_13 hw, mf_14 hw, mt_14 hw, ml_14 hw, mf_15 hw, mt_15 hw, ml_15 hw, mf_16 hw, mt_16 hw, ml_16 hw, mf_17 hw, mt_17 hw, ml_17 hw, mf_18 hw, mt_18 hw, ml_18 hw, mf_19 hw, mt_19 hw, ml_19 hw, mf_21 hw, mt_21 hw, ml_21 hw, mf_24 hw, mt_24 hw, ml_24 hw, mf_25 hw, mt_25 hw, ml_25 hw, mf_26 hw, mt_26 hw, ml_26 hw, mf_29 hw, mt_29 hw, ml_29 hw, mf_30 hw, mt_30 hw, ml_30 hw, mf_31 hw, mt_31 hw, ml_31 hw, mf_32 hw, mt_32 hw, ml_32 hw, mf_33 hw, mt_33 hw, ml_33 hw, mf_34 hw, mt_34 hw, ml_34 hw, mf_36 hw, mt_36 hw, ml_36 hw, mf_37 hw, mt_37 hw, ml_37 hw, mf_38 hw, mt_38 hw, ml_38 hw, mf_39 hw, mt_39 hw, ml_39 hw, mf_40 hw, mt_40 hw, ml_40 hw, li_0, li_1, li_2, li_3, li_4, li_5, li_6, li_7, li_8, li_9, li_10, li_12, li_14, li_16, li_17, li_18, li_19, li_20, li_25, li_28, li_30, li_31, li_32, li_33, li_34, li_40, li_46, li_48, li_49, li_57, li_59, li_65, li_67, li_68, li_75, li_77, li_80, li_82, li_90, li_95, li_100, li_128, li_130, li_132, li_136, li_140, li_148, li_156, li_200, li_255, li_256, li_400, li_700, li_2047, li_2048, li_2049, li_2050, li_2054, li_2056, li_4096, li_6000, li_163840, li_409600, li_819200, nI_add, pk_mul, pk_sub, nI_leI, nI_ltI, nI_eq, nI_clamp, vin_t, forall_eq, true_and, and_true, forall_const, implies_true, c2]
  refine ⟨fun a => ?_, fun a => ?_⟩
  · have e : q = 0 := by omega
    rw [e, dep_0] at h3
    rw [← h3, Nat.sub_zero]; exact kk
  · obtain ⟨b1, b2, b3, b4, -⟩ := dep_s ok (by omega) h1 h2
    refine hR (j - 1) _ _ (by omega) ⟨tP t q, b1, b2, by omega, by omega, rfl, ?_⟩
    congr 1; omega
theorem m_liesIn (hw : MW σ m) (hT : MT σ m t) (ok : TOK n t) {k g : Nat} (hk : k < tN t) (ht : tT t k = true) (hg : g < 2 ^ 31) {post : Int32 → Prop} (k1 : lies t k g → post 1) (k0 : ¬ lies t k g → post 0) : wX9_liesIn m (nI k) (nI g) σ post := by
  have hN := ok.1.2.1
  unfold wX9_liesIn wX9_liesIn_L2
  refine lpG1 (B := fun R x3 => wX9_liesIn_B2 post R m (nI g) x3 σ) (fun j x3 => ∃ q, q < tN t ∧ tT t q = true ∧ dep t q = j ∧ x3 = nI q ∧ (lies t k g ↔ lies t q g)) (dep t k) ⟨k, hk, ht, rfl, rfl, Iff.rfl⟩ ?_
  rintro j x3 R ⟨q, h1, h2, h3, rfl, h5⟩ hR
  unfold wX9_liesIn_B2 wX9_liesIn_L21
  obtain ⟨c1, c2, -⟩ := hT.2.2 q h1 h2
  simp (disch := omega) only [atg_sI, afI_sI, afL_sI, afR_sI, aln_sI, aaI_sI, aaL_sI, aaR_sI, anx_sI, abc_sI, abs_sI, alo_sI, atg_wI, afI_wI, afL_wI, afR_wI, aln_wI, aaI_wI, aaL_wI, aaR_wI, anx_wI, abc_wI, abs_wI, alo_wI, atg_wL, afI_wL, afL_wL, afR_wL, aln_wL, aaI_wL, aaL_wL, aaR_wL, anx_wL, abc_wL, abs_wL, alo_wL, u2_e, u2_r, u2_i, u3_e, u3_k, u3_c, u3_r, mw_tag hw, mw_lo hw, mw_loa hw, mf_3 hw, mt_3 hw, ml_3 hw, mf_4 hw, mt_4 hw, ml_4 hw, mf_5 hw, mt_5 hw, ml_5 hw, mf_9 hw, mt_9 hw, ml_9 hw, mf_11 hw, mt_11 hw, ml_11 hw, mf_12 hw, mt_12 hw, ml_12 hw, mf_13 hw, mt_13 hw, ml_13 hw, mf_14 hw, mt_14 hw, ml_14 hw, mf_15 hw, mt_15 hw, ml_15 hw, mf_16 hw, mt_16 hw, ml_16 hw, mf_17 hw, mt_17 hw, ml_17 hw, mf_18 hw, mt_18 hw, ml_18 hw, mf_19 hw, mt_19 hw, ml_19 hw, mf_21 hw, mt_21 hw, ml_21 hw, mf_24 hw, mt_24 hw, ml_24 hw, mf_25 hw, mt_25 hw, ml_25 hw, mf_26 hw, mt_26 hw, ml_26 hw, mf_29 hw, mt_29 hw, ml_29 hw, mf_30 hw, mt_30 hw, ml_30 hw, mf_31 hw, mt_31 hw, ml_31 hw, mf_32 hw, mt_32 hw, ml_32 hw, mf_33 hw, mt_33 hw, ml_33 hw, mf_34 hw, mt_34 hw, ml_34 hw, mf_36 hw, mt_36 hw, ml_36 hw, mf_37 hw, mt_37 hw, ml_37 hw, mf_38 hw, mt_38 hw, ml_38 hw, mf_39 hw, mt_39 hw, ml_39 hw, mf_40 hw, mt_40 hw, ml_40 hw, li_0, li_1, li_2, li_3, li_4, li_5, li_6, li_7, li_8, li_9, li_10, li_12, li_14, li_16, li_17, li_18, li_19, li_20, li_25, li_28, li_30, li_31, li_32, li_33, li_34, li_40, li_46, li_48, li_49, li_57, li_59, li_65, li_67, li_68, li_75, li_77, li_80, li_82, li_90, li_95, li_100, li_128, li_130, li_132, li_136, li_140, li_148, li_156, li_200, li_255, li_256, li_400, li_700, li_2047, li_2048, li_2049, li_2050, li_2054, li_2056, li_4096, li_6000, li_163840, li_409600, li_819200, nI_add, pk_mul, pk_sub, nI_leI, nI_ltI, nI_eq, nI_clamp, vin_t, forall_eq, true_and, and_true, forall_const, implies_true, c2]
  rw [lies_s ok h1 h2] at h5
  refine ⟨fun a => ⟨fun b => k0 (fun z => ?_), fun b => k1 (h5.mpr (Or.inl b))⟩, fun a => ⟨fun b => ⟨fun c => absurd b c, fun _ => k1 (h5.mpr (Or.inl b))⟩, fun b => ?_⟩⟩
  · rcases h5.mp z with y | ⟨y, -⟩
    · exact b y
    · omega
  · obtain ⟨b1, b2, b3, b4, -⟩ := dep_s ok (by omega) h1 h2
    refine hR (j - 1) _ (by omega) ⟨tP t q, b1, b2, by omega, rfl, h5.trans ⟨fun z => ?_, fun z => Or.inr ⟨by omega, z⟩⟩⟩
    rcases z with y | ⟨-, y⟩
    · exact absurd y b
    · exact y
theorem m_namedIn (hw : MW σ m) (hT : MT σ m t) (ok : TOK n t) {d : Nat} (hd : d < 2 ^ 31) {l : List Nat} (hl : l.length ≤ 8) (hl2 : ∀ c ∈ l, 0 < c ∧ c < 256) {post : Int32 → Prop} (k1 : ∀ k, nmd t d l 0 → k < 1000 → post (nI k)) (k0 : ¬ nmd t d l 0 → post (-1)) : wX9_namedIn m (nI d) (lN (wd l)) σ post := by
  have hN := ok.1.2.1
  have h1' := ok.1.1
  unfold wX9_namedIn wX9_namedIn_L3
  refine lpG1 (B := fun R x => wX9_namedIn_B3 post R m (nI d) (lN (wd l)) x σ) (fun j x => ∃ q, q + j = tN t ∧ 1 ≤ q ∧ x = nI q ∧ ∀ k, 0 < k → k < q → tT t k = true → ¬ (tP t k = d ∧ tM t k = l)) (tN t - 1) ⟨1, by omega, by omega, rfl, fun k a b => by omega⟩ ?_
  rintro j x R ⟨q, h1, h2, rfl, h4⟩ hR
  unfold wX9_namedIn_B3 wX9_namedIn_L48
  have step : (tT t q = true → ¬ (tP t q = d ∧ tM t q = l)) → q < tN t → R (nI (q + 1)) := by
    intro z y
    refine hR (j - 1) _ (by omega) ⟨q + 1, by omega, by omega, rfl, fun k a b c => ?_⟩
    by_cases e : k = q
    · rw [e]; rw [e] at c; exact z c
    · exact h4 k a (by omega) c
  by_cases hq : q < tN t
  · have c0 := hT.2.1 q hq
    cases ht : tT t q with
    | false =>
      rw [ht] at c0
      have c0' : aI_ σ (m + 5) q = nI 0 := c0
      simp (disch := omega) only [atg_sI, afI_sI, afL_sI, afR_sI, aln_sI, aaI_sI, aaL_sI, aaR_sI, anx_sI, abc_sI, abs_sI, alo_sI, atg_wI, afI_wI, afL_wI, afR_wI, aln_wI, aaI_wI, aaL_wI, aaR_wI, anx_wI, abc_wI, abs_wI, alo_wI, atg_wL, afI_wL, afL_wL, afR_wL, aln_wL, aaI_wL, aaL_wL, aaR_wL, anx_wL, abc_wL, abs_wL, alo_wL, u2_e, u2_r, u2_i, u3_e, u3_k, u3_c, u3_r, mw_tag hw, mw_lo hw, mw_loa hw, mf_3 hw, mt_3 hw, ml_3 hw, mf_4 hw, mt_4 hw, ml_4 hw, mf_5 hw, mt_5 hw, ml_5 hw, mf_9 hw, mt_9 hw, ml_9 hw, mf_11 hw, mt_11 hw, ml_11 hw, mf_12 hw, mt_12 hw, ml_12 hw, mf_13 hw, mt_13 hw, ml_13 hw, mf_14 hw, mt_14 hw, ml_14 hw, mf_15 hw, mt_15 hw, ml_15 hw, mf_16 hw, mt_16 hw, ml_16 hw, mf_17 hw, mt_17 hw, ml_17 hw, mf_18 hw, mt_18 hw, ml_18 hw, mf_19 hw, mt_19 hw, ml_19 hw, mf_21 hw, mt_21 hw, ml_21 hw, mf_24 hw, mt_24 hw, ml_24 hw, mf_25 hw, mt_25 hw, ml_25 hw, mf_26 hw, mt_26 hw, ml_26 hw, mf_29 hw, mt_29 hw, ml_29 hw, mf_30 hw, mt_30 hw, ml_30 hw, mf_31 hw, mt_31 hw, ml_31 hw, mf_32 hw, mt_32 hw, ml_32 hw, mf_33 hw, mt_33 hw, ml_33 hw, mf_34 hw, mt_34 hw, ml_34 hw, mf_36 hw, mt_36 hw, ml_36 hw, mf_37 hw, mt_37 hw, ml_37 hw, mf_38 hw, mt_38 hw, ml_38 hw, mf_39 hw, mt_39 hw, ml_39 hw, mf_40 hw, mt_40 hw, ml_40 hw, li_0, li_1, li_2, li_3, li_4, li_5, li_6, li_7, li_8, li_9, li_10, li_12, li_14, li_16, li_17, li_18, li_19, li_20, li_25, li_28, li_30, li_31, li_32, li_33, li_34, li_40, li_46, li_48, li_49, li_57, li_59, li_65, li_67, li_68, li_75, li_77, li_80, li_82, li_90, li_95, li_100, li_128, li_130, li_132, li_136, li_140, li_148, li_156, li_200, li_255, li_256, li_400, li_700, li_2047, li_2048, li_2049, li_2050, li_2054, li_2056, li_4096, li_6000, li_163840, li_409600, li_819200, nI_add, pk_mul, pk_sub, nI_leI, nI_ltI, nI_eq, nI_clamp, vin_t, forall_eq, true_and, and_true, forall_const, implies_true, hT.1, c0']
      exact ⟨fun z => by omega, fun _ => ⟨step (fun z => by rw [ht] at z; cases z) hq, fun z => absurd trivial z⟩⟩
    | true =>
      rw [ht] at c0
      have c0' : aI_ σ (m + 5) q = nI 1 := c0
      obtain ⟨c1, c2, c3, -⟩ := hT.2.2 q hq ht
      have hp := (dep_s ok (by omega) hq ht).1
      obtain ⟨n1, n2⟩ := nm_b ok hq ht
      simp (disch := omega) only [atg_sI, afI_sI, afL_sI, afR_sI, aln_sI, aaI_sI, aaL_sI, aaR_sI, anx_sI, abc_sI, abs_sI, alo_sI, atg_wI, afI_wI, afL_wI, afR_wI, aln_wI, aaI_wI, aaL_wI, aaR_wI, anx_wI, abc_wI, abs_wI, alo_wI, atg_wL, afI_wL, afL_wL, afR_wL, aln_wL, aaI_wL, aaL_wL, aaR_wL, anx_wL, abc_wL, abs_wL, alo_wL, u2_e, u2_r, u2_i, u3_e, u3_k, u3_c, u3_r, mw_tag hw, mw_lo hw, mw_loa hw, mf_3 hw, mt_3 hw, ml_3 hw, mf_4 hw, mt_4 hw, ml_4 hw, mf_5 hw, mt_5 hw, ml_5 hw, mf_9 hw, mt_9 hw, ml_9 hw, mf_11 hw, mt_11 hw, ml_11 hw, mf_12 hw, mt_12 hw, ml_12 hw, mf_13 hw, mt_13 hw, ml_13 hw, mf_14 hw, mt_14 hw, ml_14 hw, mf_15 hw, mt_15 hw, ml_15 hw, mf_16 hw, mt_16 hw, ml_16 hw, mf_17 hw, mt_17 hw, ml_17 hw, mf_18 hw, mt_18 hw, ml_18 hw, mf_19 hw, mt_19 hw, ml_19 hw, mf_21 hw, mt_21 hw, ml_21 hw, mf_24 hw, mt_24 hw, ml_24 hw, mf_25 hw, mt_25 hw, ml_25 hw, mf_26 hw, mt_26 hw, ml_26 hw, mf_29 hw, mt_29 hw, ml_29 hw, mf_30 hw, mt_30 hw, ml_30 hw, mf_31 hw, mt_31 hw, ml_31 hw, mf_32 hw, mt_32 hw, ml_32 hw, mf_33 hw, mt_33 hw, ml_33 hw, mf_34 hw, mt_34 hw, ml_34 hw, mf_36 hw, mt_36 hw, ml_36 hw, mf_37 hw, mt_37 hw, ml_37 hw, mf_38 hw, mt_38 hw, ml_38 hw, mf_39 hw, mt_39 hw, ml_39 hw, mf_40 hw, mt_40 hw, ml_40 hw, li_0, li_1, li_2, li_3, li_4, li_5, li_6, li_7, li_8, li_9, li_10, li_12, li_14, li_16, li_17, li_18, li_19, li_20, li_25, li_28, li_30, li_31, li_32, li_33, li_34, li_40, li_46, li_48, li_49, li_57, li_59, li_65, li_67, li_68, li_75, li_77, li_80, li_82, li_90, li_95, li_100, li_128, li_130, li_132, li_136, li_140, li_148, li_156, li_200, li_255, li_256, li_400, li_700, li_2047, li_2048, li_2049, li_2050, li_2054, li_2056, li_4096, li_6000, li_163840, li_409600, li_819200, nI_add, pk_mul, pk_sub, nI_leI, nI_ltI, nI_eq, nI_clamp, vin_t, forall_eq, true_and, and_true, forall_const, implies_true, hT.1, c0', c2, c3]
      refine ⟨fun z => by omega, fun _ => ⟨fun z => by omega, fun _ => ⟨fun z => step (fun _ y => z y.1) hq, fun z => ?_⟩⟩⟩
      rw [lgcN (wd64 n1 (fun c hc => (n2 c hc).2)) (wd64 hl (fun c hc => (hl2 c hc).2))]
      refine ⟨fun y => step (fun _ x => y (by rw [x.2])) hq, fun y => k1 q ⟨q, mem_tL.mpr ⟨hq, ht⟩, by omega, by omega, z, wd_inj _ _ n2 hl2 y⟩ (by omega)⟩
  · simp (disch := omega) only [atg_sI, afI_sI, afL_sI, afR_sI, aln_sI, aaI_sI, aaL_sI, aaR_sI, anx_sI, abc_sI, abs_sI, alo_sI, atg_wI, afI_wI, afL_wI, afR_wI, aln_wI, aaI_wI, aaL_wI, aaR_wI, anx_wI, abc_wI, abs_wI, alo_wI, atg_wL, afI_wL, afL_wL, afR_wL, aln_wL, aaI_wL, aaL_wL, aaR_wL, anx_wL, abc_wL, abs_wL, alo_wL, u2_e, u2_r, u2_i, u3_e, u3_k, u3_c, u3_r, mw_tag hw, mw_lo hw, mw_loa hw, mf_3 hw, mt_3 hw, ml_3 hw, mf_4 hw, mt_4 hw, ml_4 hw, mf_5 hw, mt_5 hw, ml_5 hw, mf_9 hw, mt_9 hw, ml_9 hw, mf_11 hw, mt_11 hw, ml_11 hw, mf_12 hw, mt_12 hw, ml_12 hw, mf_13 hw, mt_13 hw, ml_13 hw, mf_14 hw, mt_14 hw, ml_14 hw, mf_15 hw, mt_15 hw, ml_15 hw, mf_16 hw, mt_16 hw, ml_16 hw, mf_17 hw, mt_17 hw, ml_17 hw, mf_18 hw, mt_18 hw, ml_18 hw, mf_19 hw, mt_19 hw, ml_19 hw, mf_21 hw, mt_21 hw, ml_21 hw, mf_24 hw, mt_24 hw, ml_24 hw, mf_25 hw, mt_25 hw, ml_25 hw, mf_26 hw, mt_26 hw, ml_26 hw, mf_29 hw, mt_29 hw, ml_29 hw, mf_30 hw, mt_30 hw, ml_30 hw, mf_31 hw, mt_31 hw, ml_31 hw, mf_32 hw, mt_32 hw, ml_32 hw, mf_33 hw, mt_33 hw, ml_33 hw, mf_34 hw, mt_34 hw, ml_34 hw, mf_36 hw, mt_36 hw, ml_36 hw, mf_37 hw, mt_37 hw, ml_37 hw, mf_38 hw, mt_38 hw, ml_38 hw, mf_39 hw, mt_39 hw, ml_39 hw, mf_40 hw, mt_40 hw, ml_40 hw, li_0, li_1, li_2, li_3, li_4, li_5, li_6, li_7, li_8, li_9, li_10, li_12, li_14, li_16, li_17, li_18, li_19, li_20, li_25, li_28, li_30, li_31, li_32, li_33, li_34, li_40, li_46, li_48, li_49, li_57, li_59, li_65, li_67, li_68, li_75, li_77, li_80, li_82, li_90, li_95, li_100, li_128, li_130, li_132, li_136, li_140, li_148, li_156, li_200, li_255, li_256, li_400, li_700, li_2047, li_2048, li_2049, li_2050, li_2054, li_2056, li_4096, li_6000, li_163840, li_409600, li_819200, nI_add, pk_mul, pk_sub, nI_leI, nI_ltI, nI_eq, nI_clamp, vin_t, forall_eq, true_and, and_true, forall_const, implies_true, hT.1]
    refine ⟨fun _ => k0 (fun ⟨k, a, b, c, d, e⟩ => ?_), fun z => by omega⟩
    obtain ⟨a1, a2⟩ := mem_tL.mp a
    exact h4 k b (by omega) a2 ⟨d, e⟩
theorem cnt_s {f : Nat → Bool} {q : Nat} : ((List.range (q + 1)).filter f).length = ((List.range q).filter f).length + (if f q then 1 else 0) := by
  rw [List.range_succ, List.filter_append, List.length_append]
  congr 1
  cases h : f q <;> simp [h]
theorem m_alive (hw : MW σ m) (hT : MT σ m t) (ok : TOK n t) {post : Int32 → Prop} (k : post (nI (tL t).length)) : wX9_alive m σ post := by
  have hN := ok.1.2.1
  unfold wX9_alive wX9_alive_L4
  refine lpG2 (B := fun R x1 x2 => wX9_alive_B4 post R m x1 x2 σ) (fun j x1 x2 => ∃ q, q + j = tN t ∧ x2 = nI q ∧ x1 = nI ((List.range q).filter (tT t)).length) (tN t) ⟨0, by omega, rfl, rfl⟩ ?_
  rintro j x1 x2 R ⟨q, h1, rfl, rfl⟩ hR
  unfold wX9_alive_B4 wX9_alive_L27
  by_cases hq : q < tN t
  · have c0 := hT.2.1 q hq
    have step := hR (j - 1) (nI ((List.range (q + 1)).filter (tT t)).length) (nI (q + 1)) (by omega) ⟨q + 1, by omega, rfl, rfl⟩
    rw [cnt_s] at step
    cases ht : tT t q with
    | false =>
      rw [ht] at c0 step
      have c0' : aI_ σ (m + 5) q = nI 0 := c0
      simp (disch := omega) only [atg_sI, afI_sI, afL_sI, afR_sI, aln_sI, aaI_sI, aaL_sI, aaR_sI, anx_sI, abc_sI, abs_sI, alo_sI, atg_wI, afI_wI, afL_wI, afR_wI, aln_wI, aaI_wI, aaL_wI, aaR_wI, anx_wI, abc_wI, abs_wI, alo_wI, atg_wL, afI_wL, afL_wL, afR_wL, aln_wL, aaI_wL, aaL_wL, aaR_wL, anx_wL, abc_wL, abs_wL, alo_wL, u2_e, u2_r, u2_i, u3_e, u3_k, u3_c, u3_r, mw_tag hw, mw_lo hw, mw_loa hw, mf_3 hw, mt_3 hw, ml_3 hw, mf_4 hw, mt_4 hw, ml_4 hw, mf_5 hw, mt_5 hw, ml_5 hw, mf_9 hw, mt_9 hw, ml_9 hw, mf_11 hw, mt_11 hw, ml_11 hw, mf_12 hw, mt_12 hw, ml_12 hw, mf_13 hw, mt_13 hw, ml_13 hw, mf_14 hw, mt_14 hw, ml_14 hw, mf_15 hw, mt_15 hw, ml_15 hw, mf_16 hw, mt_16 hw, ml_16 hw, mf_17 hw, mt_17 hw, ml_17 hw, mf_18 hw, mt_18 hw, ml_18 hw, mf_19 hw, mt_19 hw, ml_19 hw, mf_21 hw, mt_21 hw, ml_21 hw, mf_24 hw, mt_24 hw, ml_24 hw, mf_25 hw, mt_25 hw, ml_25 hw, mf_26 hw, mt_26 hw, ml_26 hw, mf_29 hw, mt_29 hw, ml_29 hw, mf_30 hw, mt_30 hw, ml_30 hw, mf_31 hw, mt_31 hw, ml_31 hw, mf_32 hw, mt_32 hw, ml_32 hw, mf_33 hw, mt_33 hw, ml_33 hw, mf_34 hw, mt_34 hw, ml_34 hw, mf_36 hw, mt_36 hw, ml_36 hw, mf_37 hw, mt_37 hw, ml_37 hw, mf_38 hw, mt_38 hw, ml_38 hw, mf_39 hw, mt_39 hw, ml_39 hw, mf_40 hw, mt_40 hw, ml_40 hw, li_0, li_1, li_2, li_3, li_4, li_5, li_6, li_7, li_8, li_9, li_10, li_12, li_14, li_16, li_17, li_18, li_19, li_20, li_25, li_28, li_30, li_31, li_32, li_33, li_34, li_40, li_46, li_48, li_49, li_57, li_59, li_65, li_67, li_68, li_75, li_77, li_80, li_82, li_90, li_95, li_100, li_128, li_130, li_132, li_136, li_140, li_148, li_156, li_200, li_255, li_256, li_400, li_700, li_2047, li_2048, li_2049, li_2050, li_2054, li_2056, li_4096, li_6000, li_163840, li_409600, li_819200, nI_add, pk_mul, pk_sub, nI_leI, nI_ltI, nI_eq, nI_clamp, vin_t, forall_eq, true_and, and_true, forall_const, implies_true, hT.1, c0']
      exact ⟨fun z => by omega, fun _ => ⟨step, fun z => absurd trivial z⟩⟩
    | true =>
      rw [ht] at c0 step
      have c0' : aI_ σ (m + 5) q = nI 1 := c0
      simp (disch := omega) only [atg_sI, afI_sI, afL_sI, afR_sI, aln_sI, aaI_sI, aaL_sI, aaR_sI, anx_sI, abc_sI, abs_sI, alo_sI, atg_wI, afI_wI, afL_wI, afR_wI, aln_wI, aaI_wI, aaL_wI, aaR_wI, anx_wI, abc_wI, abs_wI, alo_wI, atg_wL, afI_wL, afL_wL, afR_wL, aln_wL, aaI_wL, aaL_wL, aaR_wL, anx_wL, abc_wL, abs_wL, alo_wL, u2_e, u2_r, u2_i, u3_e, u3_k, u3_c, u3_r, mw_tag hw, mw_lo hw, mw_loa hw, mf_3 hw, mt_3 hw, ml_3 hw, mf_4 hw, mt_4 hw, ml_4 hw, mf_5 hw, mt_5 hw, ml_5 hw, mf_9 hw, mt_9 hw, ml_9 hw, mf_11 hw, mt_11 hw, ml_11 hw, mf_12 hw, mt_12 hw, ml_12 hw, mf_13 hw, mt_13 hw, ml_13 hw, mf_14 hw, mt_14 hw, ml_14 hw, mf_15 hw, mt_15 hw, ml_15 hw, mf_16 hw, mt_16 hw, ml_16 hw, mf_17 hw, mt_17 hw, ml_17 hw, mf_18 hw, mt_18 hw, ml_18 hw, mf_19 hw, mt_19 hw, ml_19 hw, mf_21 hw, mt_21 hw, ml_21 hw, mf_24 hw, mt_24 hw, ml_24 hw, mf_25 hw, mt_25 hw, ml_25 hw, mf_26 hw, mt_26 hw, ml_26 hw, mf_29 hw, mt_29 hw, ml_29 hw, mf_30 hw, mt_30 hw, ml_30 hw, mf_31 hw, mt_31 hw, ml_31 hw, mf_32 hw, mt_32 hw, ml_32 hw, mf_33 hw, mt_33 hw, ml_33 hw, mf_34 hw, mt_34 hw, ml_34 hw, mf_36 hw, mt_36 hw, ml_36 hw, mf_37 hw, mt_37 hw, ml_37 hw, mf_38 hw, mt_38 hw, ml_38 hw, mf_39 hw, mt_39 hw, ml_39 hw, mf_40 hw, mt_40 hw, ml_40 hw, li_0, li_1, li_2, li_3, li_4, li_5, li_6, li_7, li_8, li_9, li_10, li_12, li_14, li_16, li_17, li_18, li_19, li_20, li_25, li_28, li_30, li_31, li_32, li_33, li_34, li_40, li_46, li_48, li_49, li_57, li_59, li_65, li_67, li_68, li_75, li_77, li_80, li_82, li_90, li_95, li_100, li_128, li_130, li_132, li_136, li_140, li_148, li_156, li_200, li_255, li_256, li_400, li_700, li_2047, li_2048, li_2049, li_2050, li_2054, li_2056, li_4096, li_6000, li_163840, li_409600, li_819200, nI_add, pk_mul, pk_sub, nI_leI, nI_ltI, nI_eq, nI_clamp, vin_t, forall_eq, true_and, and_true, forall_const, implies_true, hT.1, c0']
      exact ⟨fun z => by omega, fun _ => ⟨fun z => by omega, fun _ => step⟩⟩
  · simp (disch := omega) only [atg_sI, afI_sI, afL_sI, afR_sI, aln_sI, aaI_sI, aaL_sI, aaR_sI, anx_sI, abc_sI, abs_sI, alo_sI, atg_wI, afI_wI, afL_wI, afR_wI, aln_wI, aaI_wI, aaL_wI, aaR_wI, anx_wI, abc_wI, abs_wI, alo_wI, atg_wL, afI_wL, afL_wL, afR_wL, aln_wL, aaI_wL, aaL_wL, aaR_wL, anx_wL, abc_wL, abs_wL, alo_wL, u2_e, u2_r, u2_i, u3_e, u3_k, u3_c, u3_r, mw_tag hw, mw_lo hw, mw_loa hw, mf_3 hw, mt_3 hw, ml_3 hw, mf_4 hw, mt_4 hw, ml_4 hw, mf_5 hw, mt_5 hw, ml_5 hw, mf_9 hw, mt_9 hw, ml_9 hw, mf_11 hw, mt_11 hw, ml_11 hw, mf_12 hw, mt_12 hw, ml_12 hw, mf_13 hw, mt_13 hw, ml_13 hw, mf_14 hw, mt_14 hw, ml_14 hw, mf_15 hw, mt_15 hw, ml_15 hw, mf_16 hw, mt_16 hw, ml_16 hw, mf_17 hw, mt_17 hw, ml_17 hw, mf_18 hw, mt_18 hw, ml_18 hw, mf_19 hw, mt_19 hw, ml_19 hw, mf_21 hw, mt_21 hw, ml_21 hw, mf_24 hw, mt_24 hw, ml_24 hw, mf_25 hw, mt_25 hw, ml_25 hw, mf_26 hw, mt_26 hw, ml_26 hw, mf_29 hw, mt_29 hw, ml_29 hw, mf_30 hw, mt_30 hw, ml_30 hw, mf_31 hw, mt_31 hw, ml_31 hw, mf_32 hw, mt_32 hw, ml_32 hw, mf_33 hw, mt_33 hw, ml_33 hw, mf_34 hw, mt_34 hw, ml_34 hw, mf_36 hw, mt_36 hw, ml_36 hw, mf_37 hw, mt_37 hw, ml_37 hw, mf_38 hw, mt_38 hw, ml_38 hw, mf_39 hw, mt_39 hw, ml_39 hw, mf_40 hw, mt_40 hw, ml_40 hw, li_0, li_1, li_2, li_3, li_4, li_5, li_6, li_7, li_8, li_9, li_10, li_12, li_14, li_16, li_17, li_18, li_19, li_20, li_25, li_28, li_30, li_31, li_32, li_33, li_34, li_40, li_46, li_48, li_49, li_57, li_59, li_65, li_67, li_68, li_75, li_77, li_80, li_82, li_90, li_95, li_100, li_128, li_130, li_132, li_136, li_140, li_148, li_156, li_200, li_255, li_256, li_400, li_700, li_2047, li_2048, li_2049, li_2050, li_2054, li_2056, li_4096, li_6000, li_163840, li_409600, li_819200, nI_add, pk_mul, pk_sub, nI_leI, nI_ltI, nI_eq, nI_clamp, vin_t, forall_eq, true_and, and_true, forall_const, implies_true, hT.1]
    refine ⟨fun _ => ?_, fun z => by omega⟩
    rw [show q = tN t by omega]; exact k
end
