/-! the reference discovers -/
section
variable {σ : Hp} {m : Nat} {S : AS}
def cdB (b : Option (Nat × List FT)) : Int32 := match b with
  | some (s, _) => nI s
  | none => -1
theorem FOK_tree {n : Nat} {F : List FT} (h : FOK n F) : tD (treeOf F) 0 = 1 ∧ tP (treeOf F) 0 = 4294967295 ∧ tM (treeOf F) 0 = [] := ⟨h.2.2.1.1, h.2.2.1.2.1, h.2.2.1.2.2.1⟩
def P5 : Nat → Nat → Prop := fun j _ => j = 5
theorem m_disc84 (hw : MW σ m) {N : Nat} (hN : N ≤ 600) (h10 : fI_ σ 8 10 m = nI N) {x1 x2 : Int32} {post : Int32 → Hp → Prop}
    (k : ∀ τ, MFr m σ τ P5 N0 → wX9_rootAlone m τ (fun σ55 => ((0 ≤ x2 →
   (tg_ σ55 m = 9 ∧ (wX9_lowAt m (((2048 : Int32) * x2) + (8 : Int32)) (4 : Int32) σ55 (fun r58 => (∀ σ59, σ59 = sI_ σ55 8 20 m r58 → (wX9_lowAt m (((2048 : Int32) * x2) + (4 : Int32)) (4 : Int32) σ59 (fun r60 => (wX9_look m r60 σ59 (fun r61 σ62 => (tg_ σ62 m = 9 ∧ (∀ σ64, σ64 = sI_ σ62 8 10 m r61 → wX9_discover_L154 post m x1 (1 : Int32) σ64))))))))))) ∧
  (¬ 0 ≤ x2 → post (0 : Int32) σ55)))) : wX9_discover_L84 post m x1 x2 0 σ := by
  unfold wX9_discover_L84
  refine lpG2 (B := fun R x3 τ => wX9_discover_B84 post R m x1 x2 x3 τ) (fun j x3 τ => ∃ q, q + j = N ∧ x3 = nI q ∧ MFr m σ τ P5 N0) N ⟨0, by omega, rfl, MFr.refl⟩ ?_
  rintro j x3 τ R ⟨q, h1, rfl, h3⟩ hR
  have e10 : fI_ τ 8 10 m = nI N := by rw [h3.f (fun z => z)]; exact h10
  have hw' := h3.mw hw
  unfold wX9_discover_B84
  refine ⟨mw_tag hw', ?_⟩
  rw [e10]
  refine ⟨fun _ => k τ h3, fun a => ?_⟩
  have hw := hw'
  rw [nI_leI (by omega) (by omega)] at a
  simp (disch := omega) only [atg_sI, afI_sI, afL_sI, afR_sI, aln_sI, aaI_sI, aaL_sI, aaR_sI, anx_sI, abc_sI, abs_sI, alo_sI, atg_wI, afI_wI, afL_wI, afR_wI, aln_wI, aaI_wI, aaL_wI, aaR_wI, anx_wI, abc_wI, abs_wI, alo_wI, atg_wL, afI_wL, afL_wL, afR_wL, aln_wL, aaI_wL, aaL_wL, aaR_wL, anx_wL, abc_wL, abs_wL, alo_wL, u2_e, u2_r, u2_i, u3_e, u3_k, u3_c, u3_r, mw_tag hw, mw_lo hw, mw_loa hw, mf_3 hw, mt_3 hw, ml_3 hw, mf_4 hw, mt_4 hw, ml_4 hw, mf_5 hw, mt_5 hw, ml_5 hw, mf_9 hw, mt_9 hw, ml_9 hw, mf_11 hw, mt_11 hw, ml_11 hw, mf_12 hw, mt_12 hw, ml_12 hw, mf_13 hw, mt_13 hw, ml_13 hw, mf_14 hw, mt_14 hw, ml_14 hw, mf_15 hw, mt_15 hw, ml_15 hw, mf_16 hw, mt_16 hw, ml_16 hw, mf_17 hw, mt_17 hw, ml_17 hw, mf_18 hw, mt_18 hw, ml_18 hw, mf_19 hw, mt_19 hw, ml_19 hw, mf_21 hw, mt_21 hw, ml_21 hw, mf_24 hw, mt_24 hw, ml_24 hw, mf_25 hw, mt_25 hw, ml_25 hw, mf_26 hw, mt_26 hw, ml_26 hw, mf_29 hw, mt_29 hw, ml_29 hw, mf_30 hw, mt_30 hw, ml_30 hw, mf_31 hw, mt_31 hw, ml_31 hw, mf_32 hw, mt_32 hw, ml_32 hw, mf_33 hw, mt_33 hw, ml_33 hw, mf_34 hw, mt_34 hw, ml_34 hw, mf_36 hw, mt_36 hw, ml_36 hw, mf_37 hw, mt_37 hw, ml_37 hw, mf_38 hw, mt_38 hw, ml_38 hw, mf_39 hw, mt_39 hw, ml_39 hw, mf_40 hw, mt_40 hw, ml_40 hw, li_0, li_1, li_2, li_3, li_4, li_5, li_6, li_7, li_8, li_9, li_10, li_12, li_14, li_16, li_17, li_18, li_19, li_20, li_25, li_28, li_30, li_31, li_32, li_33, li_34, li_40, li_46, li_48, li_49, li_57, li_59, li_65, li_67, li_68, li_75, li_77, li_80, li_82, li_90, li_95, li_100, li_128, li_130, li_132, li_136, li_140, li_148, li_156, li_200, li_255, li_256, li_400, li_700, li_2047, li_2048, li_2049, li_2050, li_2054, li_2056, li_4096, li_6000, li_163840, li_409600, li_819200, nI_add, pk_mul, pk_sub, nI_leI, nI_ltI, nI_eq, nI_clamp, vin_t, forall_eq, true_and, and_true, forall_const, implies_true]
  exact hR (j - 1) _ _ (by omega) ⟨q + 1, by omega, rfl, by (repeat' first | with_reducible exact MFr.refl | with_reducible assumption | with_reducible apply MFr.wI' | with_reducible apply MFr.wL' | with_reducible apply MFr.sI' | omega | trivial | exact ⟨by omega, by omega⟩ | exact rfl)⟩
theorem m_disc72 {sd : Nat} (hM : MedM σ m (sN S) sd (sB S) (sSt S)) (hO : MO σ m (sO S)) (hdf : ∀ s, s < sN S → sSt S s = 0 → aI_ σ (m + 3) s = b2 (sDf S s)) (h7 : fI_ σ 8 7 m = (if sLo S then -1 else sLf S)) (h8 : fI_ σ 8 8 m = sWr S) {N : Nat} (hN : N ≤ 600) (h10 : fI_ σ 8 10 m = nI N)
    {c : Nat} {b : Option (Nat × List FT)} (hcb : dsc S (sM S) 0 none = (c, b)) (hb : ∀ s F, b = some (s, F) → s < sN S ∧ isMk (sN S) (sB S) (sSt S) s ∧ sRd S s = .inr F) {post : Int32 → Hp → Prop}
    (k : ∀ σ', MI σ' m (opDiscover S).2 → MFr m σ σ' TP TQ → post (opDiscover S).1 σ') : wX9_discover_L72 post m (nI c) (cdB b) σ := by
  have hn := hM.2.1.2.1
  have hB := hM.2.1.2.2.1
  unfold wX9_discover_L72
  refine ⟨mw_tag hM.1, fun σ1 e1 σ2 e2 => ?_⟩
  have f2 : MFr m σ σ2 P0 (fun k => k = 6 ∨ k = 20) := by rw [e2, e1]; exact (MFr.sI (Or.inl rfl)).trans (MFr.sI (Or.inr rfl))
  have g6 : fI_ σ2 8 6 m = 0 := by rw [e2, e1]; simp (disch := omega) only [atg_sI, afI_sI, afL_sI, afR_sI, aln_sI, aaI_sI, aaL_sI, aaR_sI, anx_sI, abc_sI, abs_sI, alo_sI, atg_wI, afI_wI, afL_wI, afR_wI, aln_wI, aaI_wI, aaL_wI, aaR_wI, anx_wI, abc_wI, abs_wI, alo_wI, atg_wL, afI_wL, afL_wL, afR_wL, aln_wL, aaI_wL, aaL_wL, aaR_wL, anx_wL, abc_wL, abs_wL, alo_wL, u2_e, u2_r, u2_i, u3_e, u3_k, u3_c, u3_r]
  have g20 : fI_ σ2 8 20 m = nI 0 := by rw [e2, e1]; simp (disch := omega) only [atg_sI, afI_sI, afL_sI, afR_sI, aln_sI, aaI_sI, aaL_sI, aaR_sI, anx_sI, abc_sI, abs_sI, alo_sI, atg_wI, afI_wI, afL_wI, afR_wI, aln_wI, aaI_wI, aaL_wI, aaR_wI, anx_wI, abc_wI, abs_wI, alo_wI, atg_wL, afI_wL, afL_wL, afR_wL, aln_wL, aaI_wL, aaL_wL, aaR_wL, anx_wL, abc_wL, abs_wL, alo_wL, u2_e, u2_r, u2_i, u3_e, u3_k, u3_c, u3_r]; rfl
  refine m_disc84 (f2.mw hM.1) hN (by rw [f2.f (by omega)]; exact h10) (fun τ f3 => m_rootAlone (f3.mw (f2.mw hM.1)) (fun σ3 f4 a10 a5 at0 => ?_))
  have f34 : MFr m σ2 σ3 PT QT := (f3.mono (fun j i z => by unfold P5 at z; unfold PT; omega) (fun _ z => z.elim)).trans f4
  have f : MFr m σ σ3 PT (fun k => k = 6 ∨ k = 20 ∨ k = 10) := (f2.mono (fun _ _ z => z.elim) (fun k z => by omega)).trans (f34.mono (fun _ _ z => z) (fun k z => by unfold QT at z; omega))
  have hM3 : MedM σ3 m (sN S) sd (sB S) (sSt S) := f.med hM (by omega) (by omega) (fun i z => by unfold PT at z; omega) (fun i z => by unfold PT at z; omega)
  have hO3 : MO σ3 m (sO S) := hO.fr f (by omega) (fun j i h1 h2 z => by unfold PT at z; omega)
  have k6 : fI_ σ3 8 6 m = 0 := by rw [f34.f (by unfold QT; omega)]; exact g6
  have k20 : fI_ σ3 8 20 m = nI 0 := by rw [f34.f (by unfold QT; omega)]; exact g20
  have k7 : fI_ σ3 8 7 m = (if sLo S then -1 else sLf S) := by rw [f.f (by omega)]; exact h7
  have k8 : fI_ σ3 8 8 m = sWr S := by rw [f.f (by omega)]; exact h8
  have k3 : ∀ s, s < sN S → sSt S s = 0 → aI_ σ3 (m + 3) s = b2 (sDf S s) := fun s a b => by rw [f.a (by unfold PT; omega)]; exact hdf s a b
  unfold opDiscover at k
  rw [hcb] at k
  cases b with
  | none =>
    refine ⟨fun z => absurd z (by decide), fun _ => k σ3 ⟨⟨sd, hM3⟩, ⟨k3, k6, fun _ => k7, k8, k20⟩, ⟨a10, fun i hi => ?_, fun i hi _ => ?_⟩, hO3⟩ f.tt⟩
    · have : i = 0 := by have : i < 1 := hi; omega
      rw [this, a5]; rfl
    · have : i = 0 := by have : i < 1 := hi; omega
      rw [this]
      exact at0 [rootF] rfl rfl rfl
  | some sF =>
    obtain ⟨s, F⟩ := sF
    obtain ⟨hs, hmk, hrd⟩ := hb s F rfl
    have hlt := hmk.2.2.2.2.2.1
    rw [show cdB (some (s, F)) = nI s from rfl]
    refine ⟨fun _ => ⟨mw_tag hM3.1, ?_⟩, fun z => absurd (nI_pos' (by omega)) z⟩
    simp only [li_2048, li_4, li_8, pk_mul, nI_add]
    refine m_lowAt hM3 (by omega) (by omega) (fun σ4 e4 => ?_)
    have f5 : MFr m σ3 σ4 P0 (fun k => k = 20) := by rw [e4]; exact MFr.sI rfl
    have hM4 : MedM σ4 m (sN S) sd (sB S) (sSt S) := f5.med hM3 (by omega) (by omega) (fun i z => z) (fun i z => z)
    refine m_lowAt hM4 (by omega) (by omega) (m_look hM4 (by omega) (fun F' σ5 b1 b2 b3 b4 => ⟨mw_tag (b2.mw hM4.1), fun σ6 e6 => ?_⟩) (fun w σ5 b1 => ?_))
    · have hFF : F' = F := by
        have : sRd S s = .inr F' := b1
        rw [hrd] at this
        cases this; rfl
      subst hFF
      have f6 : MFr m σ5 σ6 P0 (fun k => k = 10) := by rw [e6]; exact MFr.sI rfl
      have f36 : MFr m σ3 σ6 PS (fun k => k = 20 ∨ k = 27 ∨ k = 28 ∨ k = 10) := ((f5.mono (fun _ _ z => z.elim) (fun k z => by omega)).trans (b2.mono (fun _ _ z => z) (fun k z => by unfold QS at z; omega))).trans (f6.mono (fun _ _ z => z.elim) (fun k z => by omega))
      have hp : ∀ j i, j ≤ 17 → ¬ PS j i := fun j i hj z => by unfold PS at z; omega
      have hroot : MTk σ6 m (treeOf F') 0 := by
        obtain ⟨c1, c2, c3, c4, c5, c6, c7⟩ := at0 F' (FOK_tree b4).1 (FOK_tree b4).2.1 (FOK_tree b4).2.2
        exact ⟨by rw [f36.a (hp _ _ (by omega))]; exact c1, by rw [f36.a (hp _ _ (by omega))]; exact c2, by rw [f36.l (hp _ _ (by omega))]; exact c3, by rw [f36.a (hp _ _ (by omega))]; exact c4, by rw [f36.a (hp _ _ (by omega))]; exact c5, by rw [f36.a (hp _ _ (by omega))]; exact c6, by rw [f36.a (hp _ _ (by omega))]; exact c7⟩
      refine m_disc154 (f6.mw (b2.mw hM4.1)) (fun i hi => ?_) b4 (by rw [e6, afI_sI, u3_e]) (by rw [f36.a (hp _ _ (by omega))]; exact a5) hroot (fun σ7 f7 hT => ?_)
      · rw [e6]; exact b3.2 i hi
      · have fa : MFr m σ3 σ7 (fun j _ => 5 ≤ j ∧ j ≤ 23) (fun k => k = 20 ∨ k = 27 ∨ k = 28 ∨ k = 10) := (f36.mono (fun j i z => by unfold PS at z; omega) (fun k z => z)).trans (f7.mono (fun j i z => by unfold PT at z; omega) (fun k z => z.elim))
        refine k σ7 ⟨⟨sd, fa.med hM3 (by omega) (by omega) (fun i z => by omega) (fun i z => by omega)⟩, ⟨fun i x y => ?_, ?_, fun _ => ?_, ?_, ?_⟩, hT, hO3.fr fa (by omega) (fun j i x y z => by omega)⟩ (f.tt.trans fa.tt)
        · rw [fa.a (by omega)]; exact k3 i x y
        · rw [fa.f (by omega)]; exact k6
        · rw [fa.f (by omega)]; exact k7
        · rw [fa.f (by omega)]; exact k8
        · rw [f7.f (fun z => z), f6.f (by omega), b2.f (by unfold QS; omega), e4, afI_sI, u3_e]; rfl
    · have : sRd S s = .inl w := b1
      rw [hrd] at this
      cases this
theorem M_discover (h : MI σ m S) (ok : AOK S) {post : Int32 → Hp → Prop} (k : ∀ σ', MI σ' m (opDiscover S).2 → MFr m σ σ' TP TQ → post (opDiscover S).1 σ') : wX9_discover m σ post := by
  obtain ⟨⟨sd, hM⟩, -⟩ := id h
  have hn := hM.2.1.2.1
  have hN := ok.2.1.1.2.1
  unfold wX9_discover
  refine ⟨mw_tag hM.1, fun σ2 e2 => ?_⟩
  have f2 : MFr m σ σ2 PX QX := by rw [e2]; exact MFr.thr
  have h2 := h.fr f2
  obtain ⟨Z, hZ⟩ : ∃ Z, dsc S (sM S) 0 none = Z := ⟨_, rfl⟩
  unfold wX9_discover_L11
  refine lpG4 (B := fun R x1 x2 x3 τ => wX9_discover_B11 post R m x1 x2 x3 τ) (fun j x1 x2 x3 τ => ∃ s c b, s + j = sN S ∧ c ≤ s ∧ x1 = nI c ∧ x2 = cdB b ∧ x3 = nI s ∧ dsc S (mkR (sN S) (sB S) (sSt S) j s) c b = Z ∧ MI τ m S ∧ MFr m σ τ PX QX ∧ (∀ s' F, b = some (s', F) → s' < sN S ∧ isMk (sN S) (sB S) (sSt S) s' ∧ sRd S s' = .inr F)) (sN S) ⟨0, 0, none, by omega, by omega, rfl, rfl, rfl, hZ, h2, f2, fun s' F e => by cases e⟩ ?_
  rintro j x1 x2 x3 τ R ⟨s, c, b, h1, hc, rfl, rfl, rfl, h5, h6, h7, h8⟩ hR
  obtain ⟨⟨sd', hM'⟩, hP, hT, hO⟩ := id h6
  have hw := hM'.1
  unfold wX9_discover_B11 wX9_discover_L54
  refine ⟨mw_tag hw, ?_⟩
  rw [hM'.2.2.1, hP.2.1]
  refine ⟨fun q => ?_, fun q => ?_⟩
  · rw [nI_leI (by omega) (by omega)] at q
    have hj : j = 0 := by omega
    subst hj
    have h5' : (c, b) = Z := by simpa [mkR, dsc] using h5
    have kk : ∀ σ', MI σ' m (opDiscover S).2 → MFr m τ σ' TP TQ → post (opDiscover S).1 σ' := fun σ' x y => k σ' x (h7.tt.trans y)
    cases hl : sLo S with
    | false =>
      refine ⟨fun _ => m_disc72 hM' hO hP.1 ?_ hP.2.2.2.1 hN hT.1 (by rw [hZ, ← h5']) h8 kk, fun z => absurd rfl z⟩
      rw [hl]; exact hP.2.2.1 hl
    | true =>
      refine ⟨fun z => absurd z (by decide), fun _ σ3 e3 => ?_⟩
      have f3 : MFr m τ σ3 P0 (fun k => k = 7) := by rw [e3]; exact MFr.sI rfl
      refine m_disc72 (f3.med hM' (by omega) (by omega) (fun i z => z) (fun i z => z)) (hO.fr f3 (by omega) (fun j i a b z => z)) (fun s a b => by rw [f3.a (fun z => z)]; exact hP.1 s a b) ?_ (by rw [f3.f (by omega)]; exact hP.2.2.2.1) hN (by rw [f3.f (by omega)]; exact hT.1) (by rw [hZ, ← h5']) h8 (fun σ' x y => kk σ' x (f3.tt.trans y))
      rw [e3, afI_sI, u3_e, hl]; rfl
  · rw [nI_leI (by omega) (by omega)] at q
    obtain ⟨j, rfl⟩ : ∃ i, j = i + 1 := ⟨j - 1, by omega⟩
    unfold mkR at h5
    refine m_isMark hM' (by omega) (fun a => ⟨fun z => absurd z (by decide), fun _ => ?_⟩) (fun a => ⟨fun _ y hy => ?_, fun z => absurd rfl z⟩)
    · rw [ic_t a] at h5
      have hlt := a.2.2.2.2.2.1
      simp only [li_2048, li_4, pk_mul, nI_add]
      refine m_lowAt hM' (by omega) (by omega) (M_look h6 (by omega) a (fun F σ' a1 a2 a3 a4 a5 => ⟨fun _ y83 h83 y hy => ?_, fun z => absurd (nI_pos' (by have := a5.1.2; omega)) z⟩) (fun w σ' a1 a2 a3 a4 => ⟨fun z => absurd (rdA_neg a4) (Int32.not_lt.mpr z), fun _ y hy => ?_⟩))
      · unfold dsc at h5
        rw [a1] at h5
        refine hR j _ _ _ _ (by omega) ⟨s + 1, c + 1, some (s, F), by omega, by omega, by rw [h83, li_1, nI_add], rfl, by rw [hy, li_1, nI_add], h5, a2, h7.trans a3, fun s' F' e => ?_⟩
        cases e
        exact ⟨by omega, a, a1⟩
      · unfold dsc at h5
        rw [a1] at h5
        exact hR j _ _ _ _ (by omega) ⟨s + 1, c, b, by omega, by omega, rfl, rfl, by rw [hy, li_1, nI_add], h5, a2, h7.trans a3, h8⟩
    · rw [ic_f a] at h5
      exact hR j _ _ _ _ (by omega) ⟨s + 1, c, b, by omega, by omega, rfl, rfl, by rw [hy, li_1, nI_add], h5, h6, h7, h8⟩
end
