/-! the reference compacts: the medium is made fresh first -/
section
variable {σ : Hp} {m : Nat} {S : AS}
theorem M_compact (h : MI σ m S) (ok : AOK S) {post : Int32 → Hp → Prop} (k : ∀ σ', MI σ' m (opCompact S).2 → MFr m σ σ' TP TQ → post (opCompact S).1 σ') : wX9_compact m σ post := by
  obtain ⟨⟨sd0, hM⟩, -⟩ := id h
  obtain ⟨okM, okT, okL, -⟩ := id ok
  have hN := okT.1.2.1
  have hn2 := okM.2.1
  unfold wX9_compact
  refine ⟨mw_tag hM.1, fun σ2 e2 => ?_⟩
  have f2 : MFr m σ σ2 PX QX := by rw [e2]; exact MFr.thr
  have h2 := h.fr f2
  obtain ⟨⟨sd, hM2⟩, hP, hT, hO⟩ := id h2
  rw [hP.2.1]
  cases hl : sLo S with
  | true =>
    have kk := k σ2
    unfold opCompact at kk
    rw [hl] at kk
    exact ⟨fun z => absurd z (by decide), fun _ => kk h2 f2.tt⟩
  | false =>
    refine ⟨fun _ y hy => ?_, fun z => absurd rfl z⟩
    have hsd := hM2.2.2.2.2.1
    obtain ⟨fs, hfs⟩ : ∃ fs, fs = 200 - sd := ⟨_, rfl⟩
    have hsf : (fs = 0 ∧ sd = 200) ∨ (fs = 200 ∧ sd = 0) := by omega
    rw [hM2.2.2.2.1, li_200, pk_sub (by omega), ← hfs] at hy
    subst hy
    have hw0 := hM2.1
    unfold wX9_compact_L26
    refine lpG2 (B := fun R x τ => wX9_compact_B26 post R m (nI fs) x τ) (fun j x τ => ∃ q, q + j = 200 ∧ x = nI q ∧ MFr m σ2 τ (PBn fs) N0 ∧ ∀ s, s < q → aI_ τ (m + 2) (fs + s) = nI 0) 200 ⟨0, by omega, rfl, MFr.refl, fun s hs => by omega⟩ ?_
    rintro j x τ R ⟨q, a1, rfl, a3, a4⟩ hR
    have hw := a3.mw hw0
    unfold wX9_compact_B26
    rw [li_200, nI_leI (by omega) (by omega)]
    refine ⟨fun z => ?_, fun z => ?_⟩
    · unfold wX9_compact_L50
      refine lpG2 (B := fun R x τ' => wX9_compact_B50 post R m (nI fs) x τ') (fun j x τ' => ∃ p, p + j = 409600 ∧ x = nI p ∧ MFr m σ2 τ' (PBn fs) N0 ∧ (∀ s, s < 200 → aI_ τ' (m + 2) (fs + s) = nI 0) ∧ ∀ i, i < p → aI_ τ' (m + 1) (2048 * fs + i) = sb_b 0) 409600 ⟨0, by omega, rfl, a3, fun s hs => a4 s (by omega), fun s hs => by omega⟩ ?_
      rintro j' x τ' R' ⟨p, b1, rfl, b3, b4, b5⟩ hR'
      have hw := b3.mw hw0
      unfold wX9_compact_B50
      rw [li_409600, nI_leI (by omega) (by omega)]
      refine ⟨fun z2 => ?_, fun z2 => ?_⟩
      · have h10 : fI_ τ' 8 10 m = nI (tN (sT S)) := by rw [b3.f (fun z => z)]; exact hT.1
        unfold wX9_compact_L77
        refine lpG2 (B := fun R x τ3 => wX9_compact_B77 post R m (nI fs) x τ3) (fun j x τ3 => ∃ i, i + j = tN (sT S) ∧ x = nI i ∧ MFr m τ' τ3 (fun j _ => j = 13) N0 ∧ ∀ i', i' < i → aI_ τ3 (m + 13) i' = aI_ σ2 (m + 12) i') (tN (sT S)) ⟨0, by omega, rfl, MFr.refl, fun s hs => by omega⟩ ?_
        rintro j3 x τ3 R3 ⟨i, c1, rfl, c3, c4⟩ hR3
        have hw := c3.mw hw
        have h10' : fI_ τ3 8 10 m = nI (tN (sT S)) := by rw [c3.f (fun z => z)]; exact h10
        unfold wX9_compact_B77
        simp (disch := omega) only [atg_sI, afI_sI, afL_sI, afR_sI, aln_sI, aaI_sI, aaL_sI, aaR_sI, anx_sI, abc_sI, abs_sI, alo_sI, atg_wI, afI_wI, afL_wI, afR_wI, aln_wI, aaI_wI, aaL_wI, aaR_wI, anx_wI, abc_wI, abs_wI, alo_wI, atg_wL, afI_wL, afL_wL, afR_wL, aln_wL, aaI_wL, aaL_wL, aaR_wL, anx_wL, abc_wL, abs_wL, alo_wL, u2_e, u2_r, u2_i, u3_e, u3_k, u3_c, u3_r, mw_tag hw, mw_lo hw, mw_loa hw, mf_3 hw, mt_3 hw, ml_3 hw, mf_4 hw, mt_4 hw, ml_4 hw, mf_5 hw, mt_5 hw, ml_5 hw, mf_9 hw, mt_9 hw, ml_9 hw, mf_11 hw, mt_11 hw, ml_11 hw, mf_12 hw, mt_12 hw, ml_12 hw, mf_13 hw, mt_13 hw, ml_13 hw, mf_14 hw, mt_14 hw, ml_14 hw, mf_15 hw, mt_15 hw, ml_15 hw, mf_16 hw, mt_16 hw, ml_16 hw, mf_17 hw, mt_17 hw, ml_17 hw, mf_18 hw, mt_18 hw, ml_18 hw, mf_19 hw, mt_19 hw, ml_19 hw, mf_21 hw, mt_21 hw, ml_21 hw, mf_24 hw, mt_24 hw, ml_24 hw, mf_25 hw, mt_25 hw, ml_25 hw, mf_26 hw, mt_26 hw, ml_26 hw, mf_29 hw, mt_29 hw, ml_29 hw, mf_30 hw, mt_30 hw, ml_30 hw, mf_31 hw, mt_31 hw, ml_31 hw, mf_32 hw, mt_32 hw, ml_32 hw, mf_33 hw, mt_33 hw, ml_33 hw, mf_34 hw, mt_34 hw, ml_34 hw, mf_36 hw, mt_36 hw, ml_36 hw, mf_37 hw, mt_37 hw, ml_37 hw, mf_38 hw, mt_38 hw, ml_38 hw, mf_39 hw, mt_39 hw, ml_39 hw, mf_40 hw, mt_40 hw, ml_40 hw, li_0, li_1, li_2, li_3, li_4, li_5, li_6, li_7, li_8, li_9, li_10, li_12, li_14, li_16, li_17, li_18, li_19, li_20, li_25, li_28, li_30, li_31, li_32, li_33, li_34, li_40, li_46, li_48, li_49, li_57, li_59, li_65, li_67, li_68, li_75, li_77, li_80, li_82, li_90, li_95, li_100, li_128, li_130, li_132, li_136, li_140, li_148, li_156, li_200, li_255, li_256, li_400, li_700, li_2047, li_2048, li_2049, li_2050, li_2054, li_2056, li_4096, li_6000, li_163840, li_409600, li_819200, nI_add, pk_mul, pk_sub, nI_leI, nI_ltI, nI_eq, nI_clamp, vin_t, forall_eq, true_and, and_true, forall_const, implies_true, h10']
        refine ⟨fun z3 => ?_, fun z3 => ?_⟩
        · have fa : MFr m σ2 τ3 (fun j i => PBn fs j i ∨ j = 13) N0 := (b3.mono (fun _ _ z => Or.inl z) (fun _ z => z)).trans (c3.mono (fun _ _ z => Or.inr z) (fun _ z => z))
          obtain ⟨v1, v2, v3, v4, v5, v6, v7⟩ := hM2
          have hMτ : MedM τ3 m (sN S) sd (sB S) (sSt S) := ⟨fa.mw v1, v2, by rw [fa.f (fun z => z)]; exact v3, by rw [fa.f (fun z => z)]; exact v4, v5, fun p hp => by rw [fa.a (by unfold PBn; omega)]; exact v6 p hp, fun s hs => by rw [fa.a (by unfold PBn; omega)]; exact v7 s hs⟩
          have hBτ : BMd τ3 m (sN S) sd fs (fun _ => 0, fun _ => 0, sLf S, sWr S, false) (fun _ => false) := by
            refine ⟨fa.mw v1, ⟨v2.1, v2.2.1, fun q => by show 0 < 256; omega, fun q => by show 0 < 3; omega⟩, hMτ.2.2.1, hMτ.2.2.2.1, by omega, v5, fun p hp => ?_, fun s hs => ?_, by rw [fa.f (fun z => z), hP.2.1, hl]; rfl, fun _ => by rw [fa.f (fun z => z)]; exact hP.2.2.1 hl, by rw [fa.f (fun z => z)]; exact hP.2.2.2.1, fun e => by omega, fun _ _ => rfl⟩
            · rw [c3.a (by omega)]; exact b5 p (by omega)
            · rw [c3.a (by omega)]; exact b4 s (by omega)
          refine m_cp107 ok hl hsf hT rfl ⟨hMτ, hBτ, hT.m0.fr fa (fun z => z) (fun j i a b z => by unfold PBn at z; omega), fun i' hi' ht hd hs => ?_, fun i' hi' => c4 i' (by omega), fun s a1 a2 => by rw [fa.a (by unfold PBn; omega)]; exact hP.1 s a1 a2, hO.fr fa (fun z => z) (fun j i a b z => by unfold PBn at z; omega), by rw [fa.f (fun z => z)]; exact hP.2.2.2.2⟩ (fun σ' x y => k σ' x ((f2.tt.trans fa.tt).trans y))
          rw [fa.a (by unfold PBn; omega)]
          exact (hT.2.2 i' hi' ht).2.2.2.2.2.1 hd hs
        · have e12 : aI_ τ3 (m + 12) i = aI_ σ2 (m + 12) i := by rw [c3.a (by omega), b3.a (by unfold PBn; omega)]
          rw [e12]
          refine hR3 (j3 - 1) _ _ (by omega) ⟨i + 1, by omega, rfl, by (repeat' first | with_reducible exact MFr.refl | with_reducible assumption | with_reducible apply MFr.wI' | with_reducible apply MFr.wL' | with_reducible apply MFr.sI' | omega | trivial | exact ⟨by omega, by omega⟩ | exact rfl), fun i' hi' => ?_⟩
          rw [aaI_wI]
          by_cases e : i' = i
          · subst e; rw [u2_e]
          · rw [u2_i e]; exact c4 i' (by omega)
      · simp (disch := omega) only [atg_sI, afI_sI, afL_sI, afR_sI, aln_sI, aaI_sI, aaL_sI, aaR_sI, anx_sI, abc_sI, abs_sI, alo_sI, atg_wI, afI_wI, afL_wI, afR_wI, aln_wI, aaI_wI, aaL_wI, aaR_wI, anx_wI, abc_wI, abs_wI, alo_wI, atg_wL, afI_wL, afL_wL, afR_wL, aln_wL, aaI_wL, aaL_wL, aaR_wL, anx_wL, abc_wL, abs_wL, alo_wL, u2_e, u2_r, u2_i, u3_e, u3_k, u3_c, u3_r, mw_tag hw, mw_lo hw, mw_loa hw, mf_3 hw, mt_3 hw, ml_3 hw, mf_4 hw, mt_4 hw, ml_4 hw, mf_5 hw, mt_5 hw, ml_5 hw, mf_9 hw, mt_9 hw, ml_9 hw, mf_11 hw, mt_11 hw, ml_11 hw, mf_12 hw, mt_12 hw, ml_12 hw, mf_13 hw, mt_13 hw, ml_13 hw, mf_14 hw, mt_14 hw, ml_14 hw, mf_15 hw, mt_15 hw, ml_15 hw, mf_16 hw, mt_16 hw, ml_16 hw, mf_17 hw, mt_17 hw, ml_17 hw, mf_18 hw, mt_18 hw, ml_18 hw, mf_19 hw, mt_19 hw, ml_19 hw, mf_21 hw, mt_21 hw, ml_21 hw, mf_24 hw, mt_24 hw, ml_24 hw, mf_25 hw, mt_25 hw, ml_25 hw, mf_26 hw, mt_26 hw, ml_26 hw, mf_29 hw, mt_29 hw, ml_29 hw, mf_30 hw, mt_30 hw, ml_30 hw, mf_31 hw, mt_31 hw, ml_31 hw, mf_32 hw, mt_32 hw, ml_32 hw, mf_33 hw, mt_33 hw, ml_33 hw, mf_34 hw, mt_34 hw, ml_34 hw, mf_36 hw, mt_36 hw, ml_36 hw, mf_37 hw, mt_37 hw, ml_37 hw, mf_38 hw, mt_38 hw, ml_38 hw, mf_39 hw, mt_39 hw, ml_39 hw, mf_40 hw, mt_40 hw, ml_40 hw, li_0, li_1, li_2, li_3, li_4, li_5, li_6, li_7, li_8, li_9, li_10, li_12, li_14, li_16, li_17, li_18, li_19, li_20, li_25, li_28, li_30, li_31, li_32, li_33, li_34, li_40, li_46, li_48, li_49, li_57, li_59, li_65, li_67, li_68, li_75, li_77, li_80, li_82, li_90, li_95, li_100, li_128, li_130, li_132, li_136, li_140, li_148, li_156, li_200, li_255, li_256, li_400, li_700, li_2047, li_2048, li_2049, li_2050, li_2054, li_2056, li_4096, li_6000, li_163840, li_409600, li_819200, nI_add, pk_mul, pk_sub, nI_leI, nI_ltI, nI_eq, nI_clamp, vin_t, forall_eq, true_and, and_true, forall_const, implies_true]
        rw [show vp_nar .byte (nI 0) = sb_b 0 from rfl]
        have fr : MFr m σ2 (wI_ τ' (m + 1) (2048 * fs + p) (sb_b 0)) (PBn fs) N0 := MFr.wI' b3 (by omega) (by omega) (by unfold PBn; omega)
        refine hR' (j' - 1) _ _ (by omega) ⟨p + 1, by omega, rfl, fr, fun s hs => ?_, fun i hi => ?_⟩
        · rw [aaI_wI, u2_r (by omega)]; exact b4 s hs
        · rw [aaI_wI]
          by_cases e : i = p
          · subst e; rw [u2_e]
          · rw [u2_i (by omega)]; exact b5 i (by omega)
    · simp (disch := omega) only [atg_sI, afI_sI, afL_sI, afR_sI, aln_sI, aaI_sI, aaL_sI, aaR_sI, anx_sI, abc_sI, abs_sI, alo_sI, atg_wI, afI_wI, afL_wI, afR_wI, aln_wI, aaI_wI, aaL_wI, aaR_wI, anx_wI, abc_wI, abs_wI, alo_wI, atg_wL, afI_wL, afL_wL, afR_wL, aln_wL, aaI_wL, aaL_wL, aaR_wL, anx_wL, abc_wL, abs_wL, alo_wL, u2_e, u2_r, u2_i, u3_e, u3_k, u3_c, u3_r, mw_tag hw, mw_lo hw, mw_loa hw, mf_3 hw, mt_3 hw, ml_3 hw, mf_4 hw, mt_4 hw, ml_4 hw, mf_5 hw, mt_5 hw, ml_5 hw, mf_9 hw, mt_9 hw, ml_9 hw, mf_11 hw, mt_11 hw, ml_11 hw, mf_12 hw, mt_12 hw, ml_12 hw, mf_13 hw, mt_13 hw, ml_13 hw, mf_14 hw, mt_14 hw, ml_14 hw, mf_15 hw, mt_15 hw, ml_15 hw, mf_16 hw, mt_16 hw, ml_16 hw, mf_17 hw, mt_17 hw, ml_17 hw, mf_18 hw, mt_18 hw, ml_18 hw, mf_19 hw, mt_19 hw, ml_19 hw, mf_21 hw, mt_21 hw, ml_21 hw, mf_24 hw, mt_24 hw, ml_24 hw, mf_25 hw, mt_25 hw, ml_25 hw, mf_26 hw, mt_26 hw, ml_26 hw, mf_29 hw, mt_29 hw, ml_29 hw, mf_30 hw, mt_30 hw, ml_30 hw, mf_31 hw, mt_31 hw, ml_31 hw, mf_32 hw, mt_32 hw, ml_32 hw, mf_33 hw, mt_33 hw, ml_33 hw, mf_34 hw, mt_34 hw, ml_34 hw, mf_36 hw, mt_36 hw, ml_36 hw, mf_37 hw, mt_37 hw, ml_37 hw, mf_38 hw, mt_38 hw, ml_38 hw, mf_39 hw, mt_39 hw, ml_39 hw, mf_40 hw, mt_40 hw, ml_40 hw, li_0, li_1, li_2, li_3, li_4, li_5, li_6, li_7, li_8, li_9, li_10, li_12, li_14, li_16, li_17, li_18, li_19, li_20, li_25, li_28, li_30, li_31, li_32, li_33, li_34, li_40, li_46, li_48, li_49, li_57, li_59, li_65, li_67, li_68, li_75, li_77, li_80, li_82, li_90, li_95, li_100, li_128, li_130, li_132, li_136, li_140, li_148, li_156, li_200, li_255, li_256, li_400, li_700, li_2047, li_2048, li_2049, li_2050, li_2054, li_2056, li_4096, li_6000, li_163840, li_409600, li_819200, nI_add, pk_mul, pk_sub, nI_leI, nI_ltI, nI_eq, nI_clamp, vin_t, forall_eq, true_and, and_true, forall_const, implies_true]
      rw [show vp_nar .byte (nI 0) = nI 0 from rfl]
      have fr : MFr m σ2 (wI_ τ (m + 2) (fs + q) (nI 0)) (PBn fs) N0 := MFr.wI' a3 (by omega) (by omega) (by unfold PBn; omega)
      refine hR (j - 1) _ _ (by omega) ⟨q + 1, by omega, rfl, fr, fun s hs => ?_⟩
      rw [aaI_wI]
      by_cases e : s = q
      · subst e; rw [u2_e]
      · rw [u2_i (by omega)]; exact a4 s (by omega)
end
