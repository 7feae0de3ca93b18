/-! the reference goes through a directory: its answer is scan's -/
theorem FOK_snoc {n : Nat} {F : List FT} {f : FT} {d : Nat} (h : FOK n F) (hl : F.length < 30) (hd : d < F.length) (hdd : fd_ (gF F d) = 1) (ho : FO n f) (hn : NM (fn_ f)) (ha : fa_ f = d) (hp : fp_ f = fp_ (gF F d) + 1) (h6 : fd_ f = 1 → fp_ f ≤ 6) : FOK n (F ++ [f]) := by
  obtain ⟨⟨a1, a2⟩, b, c, e⟩ := h
  have hd6 : fp_ (gF F d) ≤ 6 := by
    rcases Nat.eq_zero_or_pos d with z | z
    · rw [z, c.2.2.2]; omega
    · exact (e d z hd).2.2.2.2 hdd
  refine ⟨⟨by simp, by simp; omega⟩, fun k hk => ?_, by rw [gF_app (by omega)]; exact c, fun k h0 hk => ?_⟩
  · by_cases q : k < F.length
    · rw [gF_app q]; exact b k q
    · have : k = F.length := by simp at hk; omega
      rw [this, gF_new]
      exact ⟨ho, by omega⟩
  · by_cases q : k < F.length
    · rw [gF_app q]
      obtain ⟨x1, x2, x3, x4, x5⟩ := e k h0 q
      rw [gF_app (by omega)]
      exact ⟨x1, x2, x3, x4, x5⟩
    · have : k = F.length := by simp at hk; omega
      rw [this, gF_new, ha, gF_app hd]
      exact ⟨hn, hd, hdd, hp, h6⟩
theorem FO_sz {n : Nat} {f : FT} (h : FO n f) (hn : n ≤ 200) : fs_ f ≤ 409600 ∧ fx_ f ≤ 200 ∧ 2048 * fx_ f + fs_ f ≤ 2048 * n := by
  obtain ⟨_, _, _, _, h5, _⟩ := h
  omega
section
variable {σ : Hp} {m n sd : Nat} {B St : Nat → Nat}
theorem SF.push {τ σ' : Hp} {F : List FT} {f : FT} (h : SF τ m F) (h1 : MFr m τ σ' (PB F.length) N0) (h2 : SFd σ' m F.length f) : SF (sI_ σ' 8 27 m (nI (F.length + 1))) m (F ++ [f]) := by
  refine ⟨by rw [afI_sI, u3_e]; simp, fun k hk => ?_⟩
  show SFd σ' m k _
  by_cases q : k < F.length
  · rw [gF_app q]
    exact (h.fr h1 (fun z => z) (fun j i _ _ hi z => by unfold PB at z; omega)).2 k q
  · have : k = F.length := by simp at hk; omega
    rw [this, gF_new]; exact h2
theorem m_isGone (h : MedM σ m n sd B St) {F : List FT} (hF : SF σ m F) (hok : FOK n F) {d : Nat} (hd : d < F.length) (hdd : fd_ (gF F d) = 1) {post : Int32 → Hp → Prop}
    (k1 : ∀ F' σ', scan n B St d (gF F d) 500000 F 0 0 = .inr F' → MFr m σ σ' PS QS → SF σ' m F' → FOK n F' → post 1 σ') (k0 : ∀ w σ', scan n B St d (gF F d) 500000 F 0 0 = .inl w → w < 2048 * n → MFr m σ σ' PS QS → fI_ σ' 8 28 m = nI w → post 0 σ') : wX9_isGone m (nI d) σ post := by
  have hn := h.2.1.2.1
  have hB := h.2.1.2.2.1
  have hw := h.1
  have hl := hok.1.2
  obtain ⟨D, hD⟩ : ∃ D, D = gF F d := ⟨_, rfl⟩
  have hDo : FO n D := by rw [hD]; exact (hok.2.1 d hd).1
  obtain ⟨z1, z2, z3⟩ := FO_sz hDo hn
  have hD0 : 0 < fs_ D := (hDo.2.2.1 (by rw [hD]; exact hdd)).1
  rw [← hD] at k1 k0
  unfold wX9_isGone
  simp (disch := omega) only [atg_sI, afI_sI, afL_sI, afR_sI, aln_sI, aaI_sI, aaL_sI, aaR_sI, anx_sI, abc_sI, abs_sI, alo_sI, atg_wI, afI_wI, afL_wI, afR_wI, aln_wI, aaI_wI, aaL_wI, aaR_wI, anx_wI, abc_wI, abs_wI, alo_wI, atg_wL, afI_wL, afL_wL, afR_wL, aln_wL, aaI_wL, aaL_wL, aaR_wL, anx_wL, abc_wL, abs_wL, alo_wL, u2_e, u2_r, u2_i, u3_e, u3_k, u3_c, u3_r, mw_tag hw, mw_lo hw, mw_loa hw, mf_3 hw, mt_3 hw, ml_3 hw, mf_4 hw, mt_4 hw, ml_4 hw, mf_5 hw, mt_5 hw, ml_5 hw, mf_9 hw, mt_9 hw, ml_9 hw, mf_11 hw, mt_11 hw, ml_11 hw, mf_12 hw, mt_12 hw, ml_12 hw, mf_13 hw, mt_13 hw, ml_13 hw, mf_14 hw, mt_14 hw, ml_14 hw, mf_15 hw, mt_15 hw, ml_15 hw, mf_16 hw, mt_16 hw, ml_16 hw, mf_17 hw, mt_17 hw, ml_17 hw, mf_18 hw, mt_18 hw, ml_18 hw, mf_19 hw, mt_19 hw, ml_19 hw, mf_21 hw, mt_21 hw, ml_21 hw, mf_24 hw, mt_24 hw, ml_24 hw, mf_25 hw, mt_25 hw, ml_25 hw, mf_26 hw, mt_26 hw, ml_26 hw, mf_29 hw, mt_29 hw, ml_29 hw, mf_30 hw, mt_30 hw, ml_30 hw, mf_31 hw, mt_31 hw, ml_31 hw, mf_32 hw, mt_32 hw, ml_32 hw, mf_33 hw, mt_33 hw, ml_33 hw, mf_34 hw, mt_34 hw, ml_34 hw, mf_36 hw, mt_36 hw, ml_36 hw, mf_37 hw, mt_37 hw, ml_37 hw, mf_38 hw, mt_38 hw, ml_38 hw, mf_39 hw, mt_39 hw, ml_39 hw, mf_40 hw, mt_40 hw, ml_40 hw, li_0, li_1, li_2, li_3, li_4, li_5, li_6, li_7, li_8, li_9, li_10, li_12, li_14, li_16, li_17, li_18, li_19, li_20, li_25, li_28, li_30, li_31, li_32, li_33, li_34, li_40, li_46, li_48, li_49, li_57, li_59, li_65, li_67, li_68, li_75, li_77, li_80, li_82, li_90, li_95, li_100, li_128, li_130, li_132, li_136, li_140, li_148, li_156, li_200, li_255, li_256, li_400, li_700, li_2047, li_2048, li_2049, li_2050, li_2054, li_2056, li_4096, li_6000, li_163840, li_409600, li_819200, nI_add, pk_mul, pk_sub, nI_leI, nI_ltI, nI_eq, nI_clamp, vin_t, forall_eq, true_and, and_true, forall_const, implies_true, (hF.2 d hd).2.2.2.1]
  rw [← hD]
  unfold wX9_isGone_L19
  refine lpG4 (B := fun R x3 x4 x5 τ => wX9_isGone_B19 post R m (nI d) (nI (2048 * fx_ D)) x3 x4 x5 τ) (fun j x3 x4 x5 τ => ∃ (G : List FT) (p rc : Nat), x3 = nI rc ∧ x5 = nI p ∧ (2 < rc → x4 = nI (G.length - 1)) ∧ (¬ 2 < rc → x4 = -1) ∧ scan n B St d D j G p rc = scan n B St d D 500000 F 0 0 ∧ 500000 ≤ p + j ∧ SF τ m G ∧ FOK n G ∧ d < G.length ∧ gF G d = D ∧ MFr m σ τ PS QS ∧ p ≤ 412000 ∧ rc ≤ p) 500000
    ⟨F, 0, 0, rfl, rfl, fun q => absurd q (by omega), fun _ => rfl, rfl, by omega, hF, hok, hd, hD.symm, MFr.refl, by omega, by omega⟩ ?_
  rintro j x3 x4 x5 τ R ⟨G, p, rc, rfl, rfl, hx1, hx2, hsc, hj, hG, hGok, hGd, hGD, hfr, hp, hrc⟩ hR
  have hm := hfr.ps h
  have hw := hm.1
  obtain ⟨g1, g2, g3, g4, g5, g6⟩ := hG.2 d hGd
  rw [hGD] at g1 g2 g3 g4 g5 g6
  have hGl := hGok.1.2
  have fail : ∀ (w : Nat) (τ' : Hp), scan n B St d D 500000 F 0 0 = .inl w → w < 2048 * n → MFr m σ τ' PS QS → wX9_no m (nI w) τ' (fun r σ' => nr_ .boolean r ∧ post r σ') := by
    intro w τ' e1 e2 e3
    exact m_no (e3.mw h.1) ⟨nr_0, k0 w _ e1 e2 (e3.trans (MFr.sI (Or.inr rfl))) (by rw [afI_sI, u3_e])⟩
  cases j with
  | zero => omega
  | succ j =>
    unfold scan at hsc
    have L195 : ∀ (x4' : Int32) (G' : List FT) (τ' : Hp), (2 < rc + 1 → x4' = nI (G'.length - 1)) → (¬ 2 < rc + 1 → x4' = -1) → 0 < B (2048 * fx_ D + p) → p < fs_ D → scan n B St d D j G' (p + B (2048 * fx_ D + p)) (rc + 1) = scan n B St d D 500000 F 0 0 → SF τ' m G' → FOK n G' → d < G'.length → gF G' d = D → MFr m σ τ' PS QS → wX9_isGone_L195 post R m (nI d) (nI (2048 * fx_ D)) (nI rc) x4' (nI p) (nI (2048 * fx_ D + p)) τ' := by
      intro x4' G' τ' e1 e2 e3 e4 e5 e6 e7 e8 e9 e10
      have hm' := e10.ps h
      have hb := hB (2048 * fx_ D + p)
      unfold wX9_isGone_L195
      intro y hy
      refine ⟨mw_tag hm'.1, m_get hm' (by omega) ?_⟩
      intro y4 hy4
      refine hR j y x4' y4 τ' (by omega) ⟨G', p + B (2048 * fx_ D + p), rc + 1, ?_, ?_, e1, e2, e5, by omega, e6, e7, e8, e9, e10, by omega, by omega⟩
      · rw [hy, li_1, nI_add]
      · rw [hy4, nI_add]
    unfold wX9_isGone_B19
    simp (disch := omega) only [atg_sI, afI_sI, afL_sI, afR_sI, aln_sI, aaI_sI, aaL_sI, aaR_sI, anx_sI, abc_sI, abs_sI, alo_sI, atg_wI, afI_wI, afL_wI, afR_wI, aln_wI, aaI_wI, aaL_wI, aaR_wI, anx_wI, abc_wI, abs_wI, alo_wI, atg_wL, afI_wL, afL_wL, afR_wL, aln_wL, aaI_wL, aaL_wL, aaR_wL, anx_wL, abc_wL, abs_wL, alo_wL, u2_e, u2_r, u2_i, u3_e, u3_k, u3_c, u3_r, mw_tag hw, mw_lo hw, mw_loa hw, mf_3 hw, mt_3 hw, ml_3 hw, mf_4 hw, mt_4 hw, ml_4 hw, mf_5 hw, mt_5 hw, ml_5 hw, mf_9 hw, mt_9 hw, ml_9 hw, mf_11 hw, mt_11 hw, ml_11 hw, mf_12 hw, mt_12 hw, ml_12 hw, mf_13 hw, mt_13 hw, ml_13 hw, mf_14 hw, mt_14 hw, ml_14 hw, mf_15 hw, mt_15 hw, ml_15 hw, mf_16 hw, mt_16 hw, ml_16 hw, mf_17 hw, mt_17 hw, ml_17 hw, mf_18 hw, mt_18 hw, ml_18 hw, mf_19 hw, mt_19 hw, ml_19 hw, mf_21 hw, mt_21 hw, ml_21 hw, mf_24 hw, mt_24 hw, ml_24 hw, mf_25 hw, mt_25 hw, ml_25 hw, mf_26 hw, mt_26 hw, ml_26 hw, mf_29 hw, mt_29 hw, ml_29 hw, mf_30 hw, mt_30 hw, ml_30 hw, mf_31 hw, mt_31 hw, ml_31 hw, mf_32 hw, mt_32 hw, ml_32 hw, mf_33 hw, mt_33 hw, ml_33 hw, mf_34 hw, mt_34 hw, ml_34 hw, mf_36 hw, mt_36 hw, ml_36 hw, mf_37 hw, mt_37 hw, ml_37 hw, mf_38 hw, mt_38 hw, ml_38 hw, mf_39 hw, mt_39 hw, ml_39 hw, mf_40 hw, mt_40 hw, ml_40 hw, li_0, li_1, li_2, li_3, li_4, li_5, li_6, li_7, li_8, li_9, li_10, li_12, li_14, li_16, li_17, li_18, li_19, li_20, li_25, li_28, li_30, li_31, li_32, li_33, li_34, li_40, li_46, li_48, li_49, li_57, li_59, li_65, li_67, li_68, li_75, li_77, li_80, li_82, li_90, li_95, li_100, li_128, li_130, li_132, li_136, li_140, li_148, li_156, li_200, li_255, li_256, li_400, li_700, li_2047, li_2048, li_2049, li_2050, li_2054, li_2056, li_4096, li_6000, li_163840, li_409600, li_819200, nI_add, pk_mul, pk_sub, nI_leI, nI_ltI, nI_eq, nI_clamp, vin_t, forall_eq, true_and, and_true, forall_const, implies_true, g3]
    refine ⟨fun q => ⟨fun q2 => ?_, fun q2 => ?_⟩, fun q => m_get hm (by omega) ?_⟩
    · rw [ic_f (by omega), ic_t q2] at hsc
      exact k1 G τ hsc.symm hfr hG hGok
    · rw [ic_f (by omega), ic_f q2] at hsc
      exact m_no hw ⟨fun _ => k0 _ _ hsc.symm (by omega) (hfr.trans (MFr.sI (Or.inr rfl))) (by rw [afI_sI, u3_e]), fun z => absurd rfl z⟩
    · have hb := hB (2048 * fx_ D + p)
      rw [ic_t (by omega)] at hsc
      simp (disch := omega) only [atg_sI, afI_sI, afL_sI, afR_sI, aln_sI, aaI_sI, aaL_sI, aaR_sI, anx_sI, abc_sI, abs_sI, alo_sI, atg_wI, afI_wI, afL_wI, afR_wI, aln_wI, aaI_wI, aaL_wI, aaR_wI, anx_wI, abc_wI, abs_wI, alo_wI, atg_wL, afI_wL, afL_wL, afR_wL, aln_wL, aaI_wL, aaL_wL, aaR_wL, anx_wL, abc_wL, abs_wL, alo_wL, u2_e, u2_r, u2_i, u3_e, u3_k, u3_c, u3_r, mw_tag hw, mw_lo hw, mw_loa hw, mf_3 hw, mt_3 hw, ml_3 hw, mf_4 hw, mt_4 hw, ml_4 hw, mf_5 hw, mt_5 hw, ml_5 hw, mf_9 hw, mt_9 hw, ml_9 hw, mf_11 hw, mt_11 hw, ml_11 hw, mf_12 hw, mt_12 hw, ml_12 hw, mf_13 hw, mt_13 hw, ml_13 hw, mf_14 hw, mt_14 hw, ml_14 hw, mf_15 hw, mt_15 hw, ml_15 hw, mf_16 hw, mt_16 hw, ml_16 hw, mf_17 hw, mt_17 hw, ml_17 hw, mf_18 hw, mt_18 hw, ml_18 hw, mf_19 hw, mt_19 hw, ml_19 hw, mf_21 hw, mt_21 hw, ml_21 hw, mf_24 hw, mt_24 hw, ml_24 hw, mf_25 hw, mt_25 hw, ml_25 hw, mf_26 hw, mt_26 hw, ml_26 hw, mf_29 hw, mt_29 hw, ml_29 hw, mf_30 hw, mt_30 hw, ml_30 hw, mf_31 hw, mt_31 hw, ml_31 hw, mf_32 hw, mt_32 hw, ml_32 hw, mf_33 hw, mt_33 hw, ml_33 hw, mf_34 hw, mt_34 hw, ml_34 hw, mf_36 hw, mt_36 hw, ml_36 hw, mf_37 hw, mt_37 hw, ml_37 hw, mf_38 hw, mt_38 hw, ml_38 hw, mf_39 hw, mt_39 hw, ml_39 hw, mf_40 hw, mt_40 hw, ml_40 hw, li_0, li_1, li_2, li_3, li_4, li_5, li_6, li_7, li_8, li_9, li_10, li_12, li_14, li_16, li_17, li_18, li_19, li_20, li_25, li_28, li_30, li_31, li_32, li_33, li_34, li_40, li_46, li_48, li_49, li_57, li_59, li_65, li_67, li_68, li_75, li_77, li_80, li_82, li_90, li_95, li_100, li_128, li_130, li_132, li_136, li_140, li_148, li_156, li_200, li_255, li_256, li_400, li_700, li_2047, li_2048, li_2049, li_2050, li_2054, li_2056, li_4096, li_6000, li_163840, li_409600, li_819200, nI_add, pk_mul, pk_sub, nI_leI, nI_ltI, nI_eq, nI_clamp, vin_t, forall_eq, true_and, and_true, forall_const, implies_true]
      refine ⟨fun q2 => ?_, fun q2 => ?_⟩
      · rw [ic_f q2] at hsc
        have L78 : wX9_isGone_L78 post R m (nI d) (nI (2048 * fx_ D)) (nI rc) x4 (nI p) (nI (2048 * fx_ D + p)) (nI (if rc < 2 then rc else 2)) (nI (2048 * fx_ D + p)) m τ := by
          unfold wX9_isGone_L78
          refine ⟨mw_tag hw, m_isRecord hm (by split <;> omega) (by omega) (fun hr => ⟨fun _ => ?_, fun z => absurd z (by decide)⟩) (fun hr => ⟨fun z => absurd rfl z, fun _ => ?_⟩)⟩
          · rw [ic_t hr] at hsc
            have hlt : p % 2048 + B (2048 * fx_ D + p) ≤ 2048 := by
              have := hr.1.2.1
              omega
            have h34 := hr.1.1
            rw [li_2, nI_leI (by omega) (by omega)]
            refine ⟨fun q3 => ?_, fun q3 => ?_⟩
            · rw [if_neg (by omega)] at hr
              rw [ic_f (by omega)] at hsc
              obtain ⟨ho, hnm⟩ := rec_mk (d := d) (F := G) hr
              refine ⟨mw_tag hw, m_isNew hm hG (fun k hk => (hGok.2.1 k hk).1) (by omega) hGd (hGok.2.1 d hGd).2 hr (by omega) hx1 hx2 (fun σ' a b c => ⟨fun _ => ?_, fun z => absurd z (by decide)⟩) (fun σ' a b => ⟨fun z => absurd rfl z, fun _ => ?_⟩)⟩
              · rw [ic_t a] at hsc
                have fr' : MFr m σ σ' PS QS := hfr.trans (b.mono (fun j i z => ⟨z.1, z.2.1⟩) (fun k z => absurd z (fun y => y)))
                refine ⟨mw_tag (b.mw hw), fun y28 hy28 σ29 hσ => ?_⟩
                have e27 : fI_ σ' 8 27 m = nI G.length := by rw [b.f (fun z => z)]; exact hG.1
                rw [hσ, e27, li_1, nI_add]
                have fr2 : MFr m σ (sI_ σ' 8 27 m (nI (G.length + 1))) PS QS := fr'.trans (MFr.sI (Or.inl rfl))
                refine L195 y28 _ _ (fun _ => by rw [hy28, e27]; simp) (fun z => absurd (by omega) z) (by omega) (by omega) hsc (hG.push b c) (FOK_snoc hGok (by have := a.1; omega) hGd (by rw [hGD, hD]; exact hdd) ho hnm rfl rfl (fun z => (a.2.2 z).1)) (by simp; omega) (by rw [gF_app hGd]; exact hGD) fr2
              · rw [ic_f a] at hsc
                have fr' : MFr m σ σ' PS QS := hfr.trans (b.mono (fun j i z => ⟨z.1, z.2.1⟩) (fun k z => absurd z (fun y => y)))
                exact ⟨mw_tag (b.mw hw), fail _ _ hsc.symm (by omega) fr'⟩
            · rw [ic_t (by omega)] at hsc
              have L109 : ∀ o : Nat, o < G.length → (if rc = 0 ∨ d = 0 then D else gF G (fa_ D)) = gF G o → wX9_isGone_L109 post R m (nI d) (nI (2048 * fx_ D)) (nI rc) x4 (nI p) (nI (2048 * fx_ D + p)) (nI o) τ := by
                intro o ho1 ho2
                rw [ho2] at hsc
                obtain ⟨o1, o2, o3, o4, -⟩ := hG.2 o ho1
                obtain ⟨oo, -⟩ := hGok.2.1 o ho1
                obtain ⟨s1, s2, s3⟩ := FO_sz oo hn
                have l2 := lowN_lt hB 4 (2048 * fx_ D + p + 2)
                have l10 := lowN_lt hB 4 (2048 * fx_ D + p + 10)
                unfold wX9_isGone_L109 wX9_isGone_L150
                simp (disch := omega) only [atg_sI, afI_sI, afL_sI, afR_sI, aln_sI, aaI_sI, aaL_sI, aaR_sI, anx_sI, abc_sI, abs_sI, alo_sI, atg_wI, afI_wI, afL_wI, afR_wI, aln_wI, aaI_wI, aaL_wI, aaR_wI, anx_wI, abc_wI, abs_wI, alo_wI, atg_wL, afI_wL, afL_wL, afR_wL, aln_wL, aaI_wL, aaL_wL, aaR_wL, anx_wL, abc_wL, abs_wL, alo_wL, u2_e, u2_r, u2_i, u3_e, u3_k, u3_c, u3_r, mw_tag hw, mw_lo hw, mw_loa hw, mf_3 hw, mt_3 hw, ml_3 hw, mf_4 hw, mt_4 hw, ml_4 hw, mf_5 hw, mt_5 hw, ml_5 hw, mf_9 hw, mt_9 hw, ml_9 hw, mf_11 hw, mt_11 hw, ml_11 hw, mf_12 hw, mt_12 hw, ml_12 hw, mf_13 hw, mt_13 hw, ml_13 hw, mf_14 hw, mt_14 hw, ml_14 hw, mf_15 hw, mt_15 hw, ml_15 hw, mf_16 hw, mt_16 hw, ml_16 hw, mf_17 hw, mt_17 hw, ml_17 hw, mf_18 hw, mt_18 hw, ml_18 hw, mf_19 hw, mt_19 hw, ml_19 hw, mf_21 hw, mt_21 hw, ml_21 hw, mf_24 hw, mt_24 hw, ml_24 hw, mf_25 hw, mt_25 hw, ml_25 hw, mf_26 hw, mt_26 hw, ml_26 hw, mf_29 hw, mt_29 hw, ml_29 hw, mf_30 hw, mt_30 hw, ml_30 hw, mf_31 hw, mt_31 hw, ml_31 hw, mf_32 hw, mt_32 hw, ml_32 hw, mf_33 hw, mt_33 hw, ml_33 hw, mf_34 hw, mt_34 hw, ml_34 hw, mf_36 hw, mt_36 hw, ml_36 hw, mf_37 hw, mt_37 hw, ml_37 hw, mf_38 hw, mt_38 hw, ml_38 hw, mf_39 hw, mt_39 hw, ml_39 hw, mf_40 hw, mt_40 hw, ml_40 hw, li_0, li_1, li_2, li_3, li_4, li_5, li_6, li_7, li_8, li_9, li_10, li_12, li_14, li_16, li_17, li_18, li_19, li_20, li_25, li_28, li_30, li_31, li_32, li_33, li_34, li_40, li_46, li_48, li_49, li_57, li_59, li_65, li_67, li_68, li_75, li_77, li_80, li_82, li_90, li_95, li_100, li_128, li_130, li_132, li_136, li_140, li_148, li_156, li_200, li_255, li_256, li_400, li_700, li_2047, li_2048, li_2049, li_2050, li_2054, li_2056, li_4096, li_6000, li_163840, li_409600, li_819200, nI_add, pk_mul, pk_sub, nI_leI, nI_ltI, nI_eq, nI_clamp, vin_t, forall_eq, true_and, and_true, forall_const, implies_true, o3, o4]
                refine m_lowAt hm (by omega) (by omega) ?_
                rw [nI_eq32 l2 (by omega)]
                refine ⟨fun z => ?_, fun z => m_lowAt hm (by omega) (by omega) ?_⟩
                · rw [ic_f (fun y => z y.1)] at hsc
                  exact fail _ _ hsc.symm (by omega) hfr
                · rw [nI_eq32 l10 (by omega)]
                  refine ⟨fun z2 => ?_, fun z2 => ?_⟩
                  · rw [ic_t ⟨z, z2⟩] at hsc
                    exact L195 x4 G τ (fun y => by omega) (fun y => hx2 (by omega)) (by omega) (by omega) hsc hG hGok hGd hGD hfr
                  · rw [ic_f (fun y => z2 y.2)] at hsc
                    exact fail _ _ hsc.symm (by omega) hfr
              unfold wX9_isGone_L99
              rw [li_0, nI_eq (by omega) (by omega), nI_eq (by omega) (by omega)]
              refine ⟨fun e => L109 d hGd (by rw [if_pos (Or.inl e), hGD]), fun e => ⟨fun e2 => ?_, fun e2 => L109 d hGd (by rw [if_pos (Or.inr e2), hGD])⟩⟩
              have hab : fa_ D < d := by
                have := (hGok.2.2.2 d (by omega) hGd).2.1
                rw [hGD] at this; exact this
              simp (disch := omega) only [atg_sI, afI_sI, afL_sI, afR_sI, aln_sI, aaI_sI, aaL_sI, aaR_sI, anx_sI, abc_sI, abs_sI, alo_sI, atg_wI, afI_wI, afL_wI, afR_wI, aln_wI, aaI_wI, aaL_wI, aaR_wI, anx_wI, abc_wI, abs_wI, alo_wI, atg_wL, afI_wL, afL_wL, afR_wL, aln_wL, aaI_wL, aaL_wL, aaR_wL, anx_wL, abc_wL, abs_wL, alo_wL, u2_e, u2_r, u2_i, u3_e, u3_k, u3_c, u3_r, mw_tag hw, mw_lo hw, mw_loa hw, mf_3 hw, mt_3 hw, ml_3 hw, mf_4 hw, mt_4 hw, ml_4 hw, mf_5 hw, mt_5 hw, ml_5 hw, mf_9 hw, mt_9 hw, ml_9 hw, mf_11 hw, mt_11 hw, ml_11 hw, mf_12 hw, mt_12 hw, ml_12 hw, mf_13 hw, mt_13 hw, ml_13 hw, mf_14 hw, mt_14 hw, ml_14 hw, mf_15 hw, mt_15 hw, ml_15 hw, mf_16 hw, mt_16 hw, ml_16 hw, mf_17 hw, mt_17 hw, ml_17 hw, mf_18 hw, mt_18 hw, ml_18 hw, mf_19 hw, mt_19 hw, ml_19 hw, mf_21 hw, mt_21 hw, ml_21 hw, mf_24 hw, mt_24 hw, ml_24 hw, mf_25 hw, mt_25 hw, ml_25 hw, mf_26 hw, mt_26 hw, ml_26 hw, mf_29 hw, mt_29 hw, ml_29 hw, mf_30 hw, mt_30 hw, ml_30 hw, mf_31 hw, mt_31 hw, ml_31 hw, mf_32 hw, mt_32 hw, ml_32 hw, mf_33 hw, mt_33 hw, ml_33 hw, mf_34 hw, mt_34 hw, ml_34 hw, mf_36 hw, mt_36 hw, ml_36 hw, mf_37 hw, mt_37 hw, ml_37 hw, mf_38 hw, mt_38 hw, ml_38 hw, mf_39 hw, mt_39 hw, ml_39 hw, mf_40 hw, mt_40 hw, ml_40 hw, li_0, li_1, li_2, li_3, li_4, li_5, li_6, li_7, li_8, li_9, li_10, li_12, li_14, li_16, li_17, li_18, li_19, li_20, li_25, li_28, li_30, li_31, li_32, li_33, li_34, li_40, li_46, li_48, li_49, li_57, li_59, li_65, li_67, li_68, li_75, li_77, li_80, li_82, li_90, li_95, li_100, li_128, li_130, li_132, li_136, li_140, li_148, li_156, li_200, li_255, li_256, li_400, li_700, li_2047, li_2048, li_2049, li_2050, li_2054, li_2056, li_4096, li_6000, li_163840, li_409600, li_819200, nI_add, pk_mul, pk_sub, nI_leI, nI_ltI, nI_eq, nI_clamp, vin_t, forall_eq, true_and, and_true, forall_const, implies_true, g1]
              exact L109 (fa_ D) (by omega) (by rw [if_neg (by omega)])
          · rw [ic_f hr] at hsc
            exact k0 _ _ hsc.symm (by omega) (hfr.trans (MFr.sI (Or.inr rfl))) (by rw [afI_sI, u3_e])
        refine ⟨fun q3 => ?_, fun q3 => ?_⟩
        · rw [if_neg (by omega)] at L78; exact L78
        · rw [if_pos (by omega)] at L78; exact L78
      · rw [ic_t q2] at hsc
        refine hR j _ _ _ _ (by omega) ⟨G, p - p % 2048 + 2048, rc, rfl, ?_, hx1, hx2, hsc, by omega, hG, hGok, hGd, hGD, hfr, by omega, by omega⟩
        rw [pk_rem (by omega) (by decide) (by decide), pk_sub (by omega), nI_add]
end
