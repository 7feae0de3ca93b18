/-! the reference compacts -/
section
variable {σ : Hp} {m : Nat} {S : AS}
theorem MT0.lay {σ' : Hp} {fs k f : Nat} {t : TT} (h : MT0 σ m t) (fr : MFr m σ σ' (PLy fs k) QB) (hx : aI_ σ' (m + 12) k = nI f) : MT0 σ' m (tLay t k f) := by
  refine ⟨?_, fun i hi => ?_, fun i hi ht => ?_⟩
  · rw [fr.f (by unfold QB; omega)]; exact h.1
  · rw [fr.a (by unfold PLy PBn; omega)]; exact h.2.1 i hi
  · obtain ⟨c1, c2, c3, c4, c5, -, c7⟩ := h.2.2 i hi ht
    show _ = nI (tD t i) ∧ _ = nI (tP t i) ∧ _ = lN (wd (tM t i)) ∧ _ = nI (tS t i) ∧ _ = nI (tE t i) ∧ True ∧ _ = nI (upA (tX t) k f i)
    refine ⟨?_, ?_, ?_, ?_, ?_, trivial, ?_⟩
    · rw [fr.a (by unfold PLy PBn; omega)]; exact c1
    · rw [fr.a (by unfold PLy PBn; omega)]; exact c2
    · rw [fr.l (by unfold PLy PBn; omega)]; exact c3
    · rw [fr.a (by unfold PLy PBn; omega)]; exact c4
    · rw [fr.a (by unfold PLy PBn; omega)]; exact c5
    · by_cases e : i = k
      · subst e
        rw [upA_e]; exact hx
      · rw [upA_n e, fr.a (by unfold PLy PBn; omega)]; exact c7
/-- what stands of the state while a fresh medium is burnt: t0 the tree before -/
def CPi (σ2 σ : Hp) (m : Nat) (S : AS) (sd fs : Nat) (t : TT) (b : BS) : Prop := MedM σ m (sN S) sd (sB S) (sSt S) ∧ BMd σ m (sN S) sd fs b (fun _ => false) ∧ MT0 σ m t ∧ (∀ k, k < tN (sT S) → tT (sT S) k = true → tD (sT S) k = 0 → 0 < tS (sT S) k → aI_ σ (m + 11) k = b2 (tW (sT S) k)) ∧ (∀ k, k < tN (sT S) → aI_ σ (m + 13) k = aI_ σ2 (m + 12) k) ∧ (∀ s, s < sN S → sSt S s = 0 → aI_ σ (m + 3) s = b2 (sDf S s)) ∧ MO σ m (sO S) ∧ fI_ σ 8 20 m = nI (sLa S)
/-- the end when it went well -/
theorem m_cp213 {σ2 : Hp} {sd fs : Nat} {t : TT} {b : BS} (ok : AOK S) (hst : sameT (sT S) t) (hS : tS t = tS (sT S)) (hokT : TOK (sN S) t) (hfs : fs = 0 ∨ fs = 200) (h : CPi σ2 σ m S sd fs t b) (hlo : bLo b = false) (hWt : ∀ k, k < tN (sT S) → tT (sT S) k = true → tD (sT S) k = 0 → 0 < tS (sT S) k → tW t k = true) {post : Int32 → Hp → Prop}
    (k : ∀ σ', MI σ' m ((sN S, bB b, bSt b, fun _ => false), (bLo b, bL b, bWr b), t, 1, []) → MFr m σ σ' TP TQ → post 1 σ') : wX9_compact_L213 post m (nI fs) 1 σ := by
  obtain ⟨h1, h2, h3, h4, h5, h6, h7, h8⟩ := h
  obtain ⟨s1, s2, s3, s4, s5⟩ := hst
  have hN := ok.2.1.1.2.1
  have hN1 := ok.2.1.1.1
  have hn2 := h1.2.1.2.1
  have hw0 := h2.1
  unfold wX9_compact_L213
  refine lpG2 (B := fun R x τ => wX9_compact_B213 post R m (nI fs) x τ) (fun j x τ => ∃ q, q + j = tN (sT S) ∧ 1 ≤ q ∧ x = nI q ∧ MFr m σ τ (fun j _ => j = 11) N0 ∧ ∀ i, 0 < i → i < q → tT t i = true → tD t i = 0 → 0 < tS t i → aI_ τ (m + 11) i = 1) (tN (sT S) - 1) ⟨1, by omega, by omega, rfl, MFr.refl, fun i a b => by omega⟩ ?_
  rintro j x τ R ⟨q, g1, g2, rfl, g4, g5⟩ hR
  have hw := g4.mw hw0
  have h3' : MT0 τ m t := ⟨by rw [g4.f (fun z => z)]; exact h3.1, fun i hi => by rw [g4.a (by omega)]; exact h3.2.1 i hi, fun i hi ht => by
    obtain ⟨c1, c2, c3, c4, c5, c6, c7⟩ := h3.2.2 i hi ht
    exact ⟨by rw [g4.a (by omega)]; exact c1, by rw [g4.a (by omega)]; exact c2, by rw [g4.l (by omega)]; exact c3, by rw [g4.a (by omega)]; exact c4, by rw [g4.a (by omega)]; exact c5, c6, by rw [g4.a (by omega)]; exact c7⟩⟩
  unfold wX9_compact_B213 wX9_compact_L257 wX9_compact_L258
  refine ⟨mw_tag hw, ?_⟩
  rw [h3'.1, s1, nI_leI (by omega) (by omega)]
  refine ⟨fun z σ3 e3 => ?_, fun z => ?_⟩
  · have f3 : MFr m τ σ3 (fun _ _ => False) (fun k => k = 2) := by rw [e3]; exact MFr.sI rfl
    unfold wX9_compact_L272
    refine lpG2 (B := fun R x τ' => wX9_compact_B272 post R m x τ') (fun j x τ' => ∃ q, q + j = 200 ∧ x = nI q ∧ MFr m σ3 τ' (fun j _ => j = 3) N0 ∧ ∀ i, i < q → aI_ τ' (m + 3) i = 0) 200 ⟨0, by omega, rfl, MFr.refl, fun i a => by omega⟩ ?_
    rintro j' x τ' R' ⟨q', w1, rfl, w3, w4⟩ hR'
    have hw := w3.mw (f3.mw hw)
    unfold wX9_compact_B272
    rw [li_200, nI_leI (by omega) (by omega)]
    refine ⟨fun y => ⟨mw_tag hw, fun σ4 e4 σ5 e5 => ?_⟩, fun y => ?_⟩
    · have f5 : MFr m τ' σ5 (fun _ _ => False) (fun k => k = 20 ∨ k = 35) := by rw [e5, e4]; exact (MFr.sI (Or.inl rfl)).trans (MFr.sI (Or.inr rfl))
      have fall : MFr m σ σ5 (fun j _ => j = 11 ∨ j = 3) (fun k => k = 2 ∨ k = 20 ∨ k = 35) := (((g4.mono (fun _ _ z => Or.inl z) (fun _ z => z.elim)).trans (f3.mono (fun _ _ z => z.elim) (fun _ z => Or.inl z))).trans (w3.mono (fun _ _ z => Or.inr z) (fun _ z => z.elim))).trans (f5.mono (fun _ _ z => z.elim) (fun _ z => Or.inr z))
      have e2' : fI_ σ5 8 2 m = nI fs := by rw [f5.f (by omega), w3.f (fun z => z), e3, afI_sI, u3_e]
      obtain ⟨v1, v2, v3, v4, v5, v6, v7, v8, v9, v10, v11, v12, v13⟩ := h2
      refine k σ5 ⟨⟨fs, fall.mw v1, v2, by rw [fall.f (by omega)]; exact v3, e2', hfs, fun p hp => by rw [fall.a (by omega)]; exact v7 p hp, fun s hs => by rw [fall.a (by omega)]; exact v8 s hs⟩, ⟨fun s hs _ => ?_, by rw [fall.f (by omega)]; exact v9, fun _ => by rw [fall.f (by omega)]; exact v10 hlo, by rw [fall.f (by omega)]; exact v11, ?_⟩, ⟨by rw [fall.f (by omega)]; exact h3.1, fun i hi => by rw [fall.a (by omega)]; exact h3.2.1 i hi, fun i hi ht => ?_⟩, ⟨?_, fun i hi => absurd hi (by simp [sO])⟩⟩ fall.tt
      · rw [f5.a (fun z => z), w4 s (by have : s < sN S := hs; omega)]; rfl
      · rw [e5, e4]; simp (disch := omega) only [atg_sI, afI_sI, afL_sI, afR_sI, aln_sI, aaI_sI, aaL_sI, aaR_sI, anx_sI, abc_sI, abs_sI, alo_sI, atg_wI, afI_wI, afL_wI, afR_wI, aln_wI, aaI_wI, aaL_wI, aaR_wI, anx_wI, abc_wI, abs_wI, alo_wI, atg_wL, afI_wL, afL_wL, afR_wL, aln_wL, aaI_wL, aaL_wL, aaR_wL, anx_wL, abc_wL, abs_wL, alo_wL, u2_e, u2_r, u2_i, u3_e, u3_k, u3_c, u3_r]; rfl
      · obtain ⟨c1, c2, c3, c4, c5, c6, c7⟩ := h3.2.2 i hi ht
        refine ⟨by rw [fall.a (by omega)]; exact c1, by rw [fall.a (by omega)]; exact c2, by rw [fall.l (by omega)]; exact c3, by rw [fall.a (by omega)]; exact c4, by rw [fall.a (by omega)]; exact c5, fun z1 z2 => ?_, by rw [fall.a (by omega)]; exact c7⟩
        have z1' : tD t i = 0 := z1
        have z2' : 0 < tS t i := z2
        have ht' : tT t i = true := ht
        have hi' : i < tN t := hi
        have i0 : 0 < i := by
          rcases Nat.eq_zero_or_pos i with e | e
          · rw [e, s3, ok.2.1.2.1.2.1] at z1'; cases z1'
          · exact e
        have : aI_ σ5 (m + 11) i = aI_ τ (m + 11) i := by rw [f5.a (fun z => z), w3.a (by omega), f3.a (fun z => z)]
        rw [this, g5 i i0 (by omega) ht' z1' z2']
        show _ = b2 (tW t i)
        rw [hWt i (by omega) (by rw [← s2]; exact ht') (by rw [← s3]; exact z1') (by rw [← hS]; exact z2')]; rfl
      · rw [e5]; simp (disch := omega) only [atg_sI, afI_sI, afL_sI, afR_sI, aln_sI, aaI_sI, aaL_sI, aaR_sI, anx_sI, abc_sI, abs_sI, alo_sI, atg_wI, afI_wI, afL_wI, afR_wI, aln_wI, aaI_wI, aaL_wI, aaR_wI, anx_wI, abc_wI, abs_wI, alo_wI, atg_wL, afI_wL, afL_wL, afR_wL, aln_wL, aaI_wL, aaL_wL, aaR_wL, anx_wL, abc_wL, abs_wL, alo_wL, u2_e, u2_r, u2_i, u3_e, u3_k, u3_c, u3_r]; rfl
    · simp (disch := omega) only [atg_sI, afI_sI, afL_sI, afR_sI, aln_sI, aaI_sI, aaL_sI, aaR_sI, anx_sI, abc_sI, abs_sI, alo_sI, atg_wI, afI_wI, afL_wI, afR_wI, aln_wI, aaI_wI, aaL_wI, aaR_wI, anx_wI, abc_wI, abs_wI, alo_wI, atg_wL, afI_wL, afL_wL, afR_wL, aln_wL, aaI_wL, aaL_wL, aaR_wL, anx_wL, abc_wL, abs_wL, alo_wL, u2_e, u2_r, u2_i, u3_e, u3_k, u3_c, u3_r, mw_tag hw, mw_lo hw, mw_loa hw, mf_3 hw, mt_3 hw, ml_3 hw, mf_4 hw, mt_4 hw, ml_4 hw, mf_5 hw, mt_5 hw, ml_5 hw, mf_9 hw, mt_9 hw, ml_9 hw, mf_11 hw, mt_11 hw, ml_11 hw, mf_12 hw, mt_12 hw, ml_12 hw, mf_13 hw, mt_13 hw, ml_13 hw, mf_14 hw, mt_14 hw, ml_14 hw, mf_15 hw, mt_15 hw, ml_15 hw, mf_16 hw, mt_16 hw, ml_16 hw, mf_17 hw, mt_17 hw, ml_17 hw, mf_18 hw, mt_18 hw, ml_18 hw, mf_19 hw, mt_19 hw, ml_19 hw, mf_21 hw, mt_21 hw, ml_21 hw, mf_24 hw, mt_24 hw, ml_24 hw, mf_25 hw, mt_25 hw, ml_25 hw, mf_26 hw, mt_26 hw, ml_26 hw, mf_29 hw, mt_29 hw, ml_29 hw, mf_30 hw, mt_30 hw, ml_30 hw, mf_31 hw, mt_31 hw, ml_31 hw, mf_32 hw, mt_32 hw, ml_32 hw, mf_33 hw, mt_33 hw, ml_33 hw, mf_34 hw, mt_34 hw, ml_34 hw, mf_36 hw, mt_36 hw, ml_36 hw, mf_37 hw, mt_37 hw, ml_37 hw, mf_38 hw, mt_38 hw, ml_38 hw, mf_39 hw, mt_39 hw, ml_39 hw, mf_40 hw, mt_40 hw, ml_40 hw, li_0, li_1, li_2, li_3, li_4, li_5, li_6, li_7, li_8, li_9, li_10, li_12, li_14, li_16, li_17, li_18, li_19, li_20, li_25, li_28, li_30, li_31, li_32, li_33, li_34, li_40, li_46, li_48, li_49, li_57, li_59, li_65, li_67, li_68, li_75, li_77, li_80, li_82, li_90, li_95, li_100, li_128, li_130, li_132, li_136, li_140, li_148, li_156, li_200, li_255, li_256, li_400, li_700, li_2047, li_2048, li_2049, li_2050, li_2054, li_2056, li_4096, li_6000, li_163840, li_409600, li_819200, nI_add, pk_mul, pk_sub, nI_leI, nI_ltI, nI_eq, nI_clamp, vin_t, forall_eq, true_and, and_true, forall_const, implies_true]
      refine hR' (j' - 1) _ _ (by omega) ⟨q' + 1, by omega, rfl, by (repeat' first | with_reducible exact MFr.refl | with_reducible assumption | with_reducible apply MFr.wI' | with_reducible apply MFr.wL' | with_reducible apply MFr.sI' | omega | trivial | exact ⟨by omega, by omega⟩ | exact rfl), fun i hi => ?_⟩
      rw [aaI_wI]
      by_cases e : i = q'
      · subst e
        rw [u2_e]; rfl
      · rw [u2_i e]; exact w4 i (by omega)
  · have hq : q < tN t := by omega
    have c0 := h3'.2.1 q hq
    have step : ∀ w : Int32, (tT t q = true → tD t q = 0 → 0 < tS t q → w = 1) → R (nI (q + 1)) (wI_ τ (m + 11) q w) := by
      intro w hw'
      refine hR (j - 1) _ _ (by omega) ⟨q + 1, by omega, by omega, rfl, by (repeat' first | with_reducible exact MFr.refl | with_reducible assumption | with_reducible apply MFr.wI' | with_reducible apply MFr.wL' | with_reducible apply MFr.sI' | omega | trivial | exact ⟨by omega, by omega⟩ | exact rfl), fun i a b c d e => ?_⟩
      rw [aaI_wI]
      by_cases e' : i = q
      · subst e'
        rw [u2_e]; exact hw' c d e
      · rw [u2_i e']; exact g5 i a (by omega) c d e
    cases ht : tT t q with
    | false =>
      rw [ht] at c0
      have c0' : aI_ τ (m + 5) q = nI 0 := c0
      simp (disch := omega) only [atg_sI, afI_sI, afL_sI, afR_sI, aln_sI, aaI_sI, aaL_sI, aaR_sI, anx_sI, abc_sI, abs_sI, alo_sI, atg_wI, afI_wI, afL_wI, afR_wI, aln_wI, aaI_wI, aaL_wI, aaR_wI, anx_wI, abc_wI, abs_wI, alo_wI, atg_wL, afI_wL, afL_wL, afR_wL, aln_wL, aaI_wL, aaL_wL, aaR_wL, anx_wL, abc_wL, abs_wL, alo_wL, u2_e, u2_r, u2_i, u3_e, u3_k, u3_c, u3_r, mw_tag hw, mw_lo hw, mw_loa hw, mf_3 hw, mt_3 hw, ml_3 hw, mf_4 hw, mt_4 hw, ml_4 hw, mf_5 hw, mt_5 hw, ml_5 hw, mf_9 hw, mt_9 hw, ml_9 hw, mf_11 hw, mt_11 hw, ml_11 hw, mf_12 hw, mt_12 hw, ml_12 hw, mf_13 hw, mt_13 hw, ml_13 hw, mf_14 hw, mt_14 hw, ml_14 hw, mf_15 hw, mt_15 hw, ml_15 hw, mf_16 hw, mt_16 hw, ml_16 hw, mf_17 hw, mt_17 hw, ml_17 hw, mf_18 hw, mt_18 hw, ml_18 hw, mf_19 hw, mt_19 hw, ml_19 hw, mf_21 hw, mt_21 hw, ml_21 hw, mf_24 hw, mt_24 hw, ml_24 hw, mf_25 hw, mt_25 hw, ml_25 hw, mf_26 hw, mt_26 hw, ml_26 hw, mf_29 hw, mt_29 hw, ml_29 hw, mf_30 hw, mt_30 hw, ml_30 hw, mf_31 hw, mt_31 hw, ml_31 hw, mf_32 hw, mt_32 hw, ml_32 hw, mf_33 hw, mt_33 hw, ml_33 hw, mf_34 hw, mt_34 hw, ml_34 hw, mf_36 hw, mt_36 hw, ml_36 hw, mf_37 hw, mt_37 hw, ml_37 hw, mf_38 hw, mt_38 hw, ml_38 hw, mf_39 hw, mt_39 hw, ml_39 hw, mf_40 hw, mt_40 hw, ml_40 hw, li_0, li_1, li_2, li_3, li_4, li_5, li_6, li_7, li_8, li_9, li_10, li_12, li_14, li_16, li_17, li_18, li_19, li_20, li_25, li_28, li_30, li_31, li_32, li_33, li_34, li_40, li_46, li_48, li_49, li_57, li_59, li_65, li_67, li_68, li_75, li_77, li_80, li_82, li_90, li_95, li_100, li_128, li_130, li_132, li_136, li_140, li_148, li_156, li_200, li_255, li_256, li_400, li_700, li_2047, li_2048, li_2049, li_2050, li_2054, li_2056, li_4096, li_6000, li_163840, li_409600, li_819200, nI_add, pk_mul, pk_sub, nI_leI, nI_ltI, nI_eq, nI_clamp, vin_t, forall_eq, true_and, and_true, forall_const, implies_true, c0']
      exact ⟨step _ (fun y => by rw [ht] at y; cases y), fun y => absurd trivial y⟩
    | true =>
      rw [ht] at c0
      have c0' : aI_ τ (m + 5) q = nI 1 := c0
      obtain ⟨c1, c2, c3, c4, -⟩ := h3'.2.2 q hq ht
      have hD := root_D hokT hq ht
      have d4 := (hokT.2.2.2.1 q (by omega) hq ht).2.2.2.1
      simp (disch := omega) only [atg_sI, afI_sI, afL_sI, afR_sI, aln_sI, aaI_sI, aaL_sI, aaR_sI, anx_sI, abc_sI, abs_sI, alo_sI, atg_wI, afI_wI, afL_wI, afR_wI, aln_wI, aaI_wI, aaL_wI, aaR_wI, anx_wI, abc_wI, abs_wI, alo_wI, atg_wL, afI_wL, afL_wL, afR_wL, aln_wL, aaI_wL, aaL_wL, aaR_wL, anx_wL, abc_wL, abs_wL, alo_wL, u2_e, u2_r, u2_i, u3_e, u3_k, u3_c, u3_r, mw_tag hw, mw_lo hw, mw_loa hw, mf_3 hw, mt_3 hw, ml_3 hw, mf_4 hw, mt_4 hw, ml_4 hw, mf_5 hw, mt_5 hw, ml_5 hw, mf_9 hw, mt_9 hw, ml_9 hw, mf_11 hw, mt_11 hw, ml_11 hw, mf_12 hw, mt_12 hw, ml_12 hw, mf_13 hw, mt_13 hw, ml_13 hw, mf_14 hw, mt_14 hw, ml_14 hw, mf_15 hw, mt_15 hw, ml_15 hw, mf_16 hw, mt_16 hw, ml_16 hw, mf_17 hw, mt_17 hw, ml_17 hw, mf_18 hw, mt_18 hw, ml_18 hw, mf_19 hw, mt_19 hw, ml_19 hw, mf_21 hw, mt_21 hw, ml_21 hw, mf_24 hw, mt_24 hw, ml_24 hw, mf_25 hw, mt_25 hw, ml_25 hw, mf_26 hw, mt_26 hw, ml_26 hw, mf_29 hw, mt_29 hw, ml_29 hw, mf_30 hw, mt_30 hw, ml_30 hw, mf_31 hw, mt_31 hw, ml_31 hw, mf_32 hw, mt_32 hw, ml_32 hw, mf_33 hw, mt_33 hw, ml_33 hw, mf_34 hw, mt_34 hw, ml_34 hw, mf_36 hw, mt_36 hw, ml_36 hw, mf_37 hw, mt_37 hw, ml_37 hw, mf_38 hw, mt_38 hw, ml_38 hw, mf_39 hw, mt_39 hw, ml_39 hw, mf_40 hw, mt_40 hw, ml_40 hw, li_0, li_1, li_2, li_3, li_4, li_5, li_6, li_7, li_8, li_9, li_10, li_12, li_14, li_16, li_17, li_18, li_19, li_20, li_25, li_28, li_30, li_31, li_32, li_33, li_34, li_40, li_46, li_48, li_49, li_57, li_59, li_65, li_67, li_68, li_75, li_77, li_80, li_82, li_90, li_95, li_100, li_128, li_130, li_132, li_136, li_140, li_148, li_156, li_200, li_255, li_256, li_400, li_700, li_2047, li_2048, li_2049, li_2050, li_2054, li_2056, li_4096, li_6000, li_163840, li_409600, li_819200, nI_add, pk_mul, pk_sub, nI_leI, nI_ltI, nI_eq, nI_clamp, vin_t, forall_eq, true_and, and_true, forall_const, implies_true, c0', c1, c4]
      exact ⟨fun y => by omega, fun _ => ⟨fun y => step _ (fun _ z _ => absurd z y), fun y => ⟨fun y2 => step _ (fun _ _ z => by omega), fun y2 => step _ (fun _ _ _ => rfl)⟩⟩⟩
/-- the end when it didn't -/
theorem m_cp183 {σ2 : Hp} {sd fs : Nat} {t : TT} {b : BS} (ok : AOK S) (hst : sameT (sT S) t) (hS : tS t = tS (sT S)) (hE : tE t = tE (sT S)) (hT2 : MT σ2 m (sT S)) (h : CPi σ2 σ m S sd fs t b) {r : Int32} {post : Int32 → Hp → Prop}
    (k : ∀ σ', MI σ' m (wPow S (bLo b) (bL b) (bWr b)) → MFr m σ σ' TP TQ → post r σ') : wX9_compact_L183 post m r 0 σ := by
  obtain ⟨h1, h2, h3, h4, h5, h6, h7, h8⟩ := h
  obtain ⟨s1, s2, s3, s4, s5⟩ := hst
  have hN := ok.2.1.1.2.1
  have hw0 := h2.1
  unfold wX9_compact_L183
  refine lpG2 (B := fun R x τ => wX9_compact_B183 post R m r x τ) (fun j x τ => ∃ q, q + j = tN (sT S) ∧ x = nI q ∧ MFr m σ τ (fun j _ => j = 12) N0 ∧ ∀ i, i < q → aI_ τ (m + 12) i = aI_ σ2 (m + 12) i) (tN (sT S)) ⟨0, by omega, rfl, MFr.refl, fun i a => by omega⟩ ?_
  rintro j x τ R ⟨q, g1, rfl, g4, g5⟩ hR
  have hw := g4.mw hw0
  have h10 : fI_ τ 8 10 m = nI (tN (sT S)) := by rw [g4.f (fun z => z), h3.1, s1]
  unfold wX9_compact_B183
  simp (disch := omega) only [atg_sI, afI_sI, afL_sI, afR_sI, aln_sI, aaI_sI, aaL_sI, aaR_sI, anx_sI, abc_sI, abs_sI, alo_sI, atg_wI, afI_wI, afL_wI, afR_wI, aln_wI, aaI_wI, aaL_wI, aaR_wI, anx_wI, abc_wI, abs_wI, alo_wI, atg_wL, afI_wL, afL_wL, afR_wL, aln_wL, aaI_wL, aaL_wL, aaR_wL, anx_wL, abc_wL, abs_wL, alo_wL, u2_e, u2_r, u2_i, u3_e, u3_k, u3_c, u3_r, mw_tag hw, mw_lo hw, mw_loa hw, mf_3 hw, mt_3 hw, ml_3 hw, mf_4 hw, mt_4 hw, ml_4 hw, mf_5 hw, mt_5 hw, ml_5 hw, mf_9 hw, mt_9 hw, ml_9 hw, mf_11 hw, mt_11 hw, ml_11 hw, mf_12 hw, mt_12 hw, ml_12 hw, mf_13 hw, mt_13 hw, ml_13 hw, mf_14 hw, mt_14 hw, ml_14 hw, mf_15 hw, mt_15 hw, ml_15 hw, mf_16 hw, mt_16 hw, ml_16 hw, mf_17 hw, mt_17 hw, ml_17 hw, mf_18 hw, mt_18 hw, ml_18 hw, mf_19 hw, mt_19 hw, ml_19 hw, mf_21 hw, mt_21 hw, ml_21 hw, mf_24 hw, mt_24 hw, ml_24 hw, mf_25 hw, mt_25 hw, ml_25 hw, mf_26 hw, mt_26 hw, ml_26 hw, mf_29 hw, mt_29 hw, ml_29 hw, mf_30 hw, mt_30 hw, ml_30 hw, mf_31 hw, mt_31 hw, ml_31 hw, mf_32 hw, mt_32 hw, ml_32 hw, mf_33 hw, mt_33 hw, ml_33 hw, mf_34 hw, mt_34 hw, ml_34 hw, mf_36 hw, mt_36 hw, ml_36 hw, mf_37 hw, mt_37 hw, ml_37 hw, mf_38 hw, mt_38 hw, ml_38 hw, mf_39 hw, mt_39 hw, ml_39 hw, mf_40 hw, mt_40 hw, ml_40 hw, li_0, li_1, li_2, li_3, li_4, li_5, li_6, li_7, li_8, li_9, li_10, li_12, li_14, li_16, li_17, li_18, li_19, li_20, li_25, li_28, li_30, li_31, li_32, li_33, li_34, li_40, li_46, li_48, li_49, li_57, li_59, li_65, li_67, li_68, li_75, li_77, li_80, li_82, li_90, li_95, li_100, li_128, li_130, li_132, li_136, li_140, li_148, li_156, li_200, li_255, li_256, li_400, li_700, li_2047, li_2048, li_2049, li_2050, li_2054, li_2056, li_4096, li_6000, li_163840, li_409600, li_819200, nI_add, pk_mul, pk_sub, nI_leI, nI_ltI, nI_eq, nI_clamp, vin_t, forall_eq, true_and, and_true, forall_const, implies_true, h10]
  refine ⟨fun z => k τ ⟨⟨sd, g4.med h1 (fun z => z) (fun z => z) (fun i z => by omega) (fun i z => by omega)⟩, ⟨fun s a1 a2 => by rw [g4.a (by omega)]; exact h6 s a1 a2, by rw [g4.f (fun z => z)]; exact h2.2.2.2.2.2.2.2.2.1, fun e => by rw [g4.f (fun z => z)]; exact h2.2.2.2.2.2.2.2.2.2.1 e, by rw [g4.f (fun z => z)]; exact h2.2.2.2.2.2.2.2.2.2.2.1, by rw [g4.f (fun z => z)]; exact h8⟩, ⟨h10, fun i hi => ?_, fun i hi ht => ?_⟩, h7.fr g4 (fun z => z) (fun j i a b z => by omega)⟩ g4.tt, fun z => ?_⟩
  · have := h3.2.1 i (by rw [s1]; exact hi)
    rw [g4.a (by omega), this, s2]; rfl
  · have hi' : i < tN (sT S) := hi
    have ht' : tT (sT S) i = true := ht
    obtain ⟨c1, c2, c3, c4, c5, -, -⟩ := h3.2.2 i (by rw [s1]; exact hi') (by rw [s2]; exact ht')
    obtain ⟨-, -, -, -, -, -, d7⟩ := hT2.2.2 i hi' ht'
    rw [s3] at c1
    rw [s4] at c2
    rw [s5] at c3
    rw [hS] at c4
    rw [hE] at c5
    exact ⟨by rw [g4.a (by omega)]; exact c1, by rw [g4.a (by omega)]; exact c2, by rw [g4.l (by omega)]; exact c3, by rw [g4.a (by omega)]; exact c4, by rw [g4.a (by omega)]; exact c5, fun z1 z2 => by rw [g4.a (by omega)]; exact h4 i hi' ht' z1 z2, by rw [g5 i (by omega)]; exact d7⟩
  · rw [g4.a (by omega), h5 q (by omega)]
    refine hR (j - 1) _ _ (by omega) ⟨q + 1, by omega, rfl, by (repeat' first | with_reducible exact MFr.refl | with_reducible assumption | with_reducible apply MFr.wI' | with_reducible apply MFr.wL' | with_reducible apply MFr.sI' | omega | trivial | exact ⟨by omega, by omega⟩ | exact rfl), fun i hi => ?_⟩
    rw [aaI_wI]
    by_cases e : i = q
    · subst e
      rw [u2_e]
    · rw [u2_i e]; exact g5 i (by omega)
end
