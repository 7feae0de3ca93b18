/-! the reference commits -/
section
variable {σ : Hp} {m : Nat} {S : AS}
theorem MI.bmd (h : MI σ m S) (hl : sLo S = false) : ∃ sd, BMd σ m (sN S) sd sd (sB S, sSt S, sLf S, sWr S, false) (sDf S) := by
  obtain ⟨⟨sd, a1, a2, a3, a4, a5, a6, a7⟩, ⟨b1, b2', b3, b4, b5⟩, -⟩ := h
  exact ⟨sd, a1, a2, a3, a4, a5, a5, a6, a7, by rw [b2', hl]; rfl, fun _ => b3 hl, b4, fun _ s h1 h2 => b1 s h1 h2, fun z => absurd rfl z⟩
theorem BMd.medM {n sd : Nat} {b : BS} {Df : Nat → Bool} (h : BMd σ m n sd sd b Df) : MedM σ m n sd (bB b) (bSt b) := by
  obtain ⟨h1, h2, h3, h4, h5, h6, h7, h8, -⟩ := h
  exact ⟨h1, h2, h3, h4, h5, h7, h8⟩
theorem MT.lay {σ' : Hp} {n fs k f : Nat} {t : TT} (ok : TOK n t) (h : MT σ m t) (fr : MFr m σ σ' (PLy fs k) QB) (hx : aI_ σ' (m + 12) k = nI f) (w : Int32) (hw : w = 1 ∨ (tD t k ≠ 0 ∨ tS t k = 0)) : MT (wI_ σ' (m + 11) k w) m (tLay t k f) := by
  refine ⟨?_, fun i hi => ?_, fun i hi ht => ?_⟩
  · rw [afI_wI, fr.f (by unfold QB; omega)]; exact h.1
  · rw [aaI_wI, u2_r (by omega), fr.a (by unfold PLy PBn; omega)]; exact h.2.1 i hi
  · obtain ⟨c1, c2, c3, c4, c5, c6, c7⟩ := h.2.2 i hi ht
    show _ = nI (tD t i) ∧ _ = nI (tP t i) ∧ _ = lN (wd (tM t i)) ∧ _ = nI (tS t i) ∧ _ = nI (tE t i) ∧ (tD t i = 0 → 0 < tS t i → _ = b2 (upA (tW t) k true i)) ∧ _ = nI (upA (tX t) k f i)
    refine ⟨?_, ?_, ?_, ?_, ?_, fun z1 z2 => ?_, ?_⟩
    · rw [aaI_wI, u2_r (by omega), fr.a (by unfold PLy PBn; omega)]; exact c1
    · rw [aaI_wI, u2_r (by omega), fr.a (by unfold PLy PBn; omega)]; exact c2
    · rw [aaL_wI, fr.l (by unfold PLy PBn; omega)]; exact c3
    · rw [aaI_wI, u2_r (by omega), fr.a (by unfold PLy PBn; omega)]; exact c4
    · rw [aaI_wI, u2_r (by omega), fr.a (by unfold PLy PBn; omega)]; exact c5
    · rw [aaI_wI]
      by_cases e : i = k
      · subst e
        rw [u2_e, upA_e]
        rcases hw with q | q
        · rw [q]; rfl
        · omega
      · rw [u2_i e, upA_n e, fr.a (by unfold PLy PBn; omega)]; exact c6 z1 z2
    · rw [aaI_wI, u2_r (by omega)]
      by_cases e : i = k
      · subst e
        rw [upA_e]; exact hx
      · rw [upA_n e, fr.a (by unfold PLy PBn; omega)]; exact c7
/-- what a commit may change -/
def PCm : Nat → Nat → Prop := fun j _ => j = 1 ∨ j = 2 ∨ j = 4 ∨ j = 11 ∨ j = 12 ∨ (14 ≤ j ∧ j ≤ 17)
def QCm : Nat → Prop := fun k => QB k ∨ k = 22
theorem cod_neg {c : Nat} (h : c = 3 ∨ c = 4) : ¬ (0 : Int32) ≤ cod c := by
  rcases h with e | e <;> subst e <;> decide
theorem M_commit (h : MI σ m S) (ok : AOK S) {post : Int32 → Hp → Prop} (k : ∀ σ', MI σ' m (opCommit S).2 → MFr m σ σ' TP TQ → post (opCommit S).1 σ') (hne : inc32 (sLa S) ≠ 4294967293 ∧ inc32 (sLa S) ≠ 4294967292) : wX9_commit m σ post := by
  obtain ⟨⟨sd0, hM⟩, -⟩ := id h
  obtain ⟨okM, okT, okL, -⟩ := id ok
  have hN := okT.1.2.1
  have h1' := okT.1.1
  unfold wX9_commit
  refine ⟨mw_tag hM.1, fun σ2 e2 => ?_⟩
  have f2 : MFr m σ σ2 PX QX := by rw [e2]; exact MFr.thr
  have h2 := h.fr f2
  obtain ⟨-, hP, hT, hO⟩ := id h2
  rw [hP.2.1]
  unfold opCommit at k
  cases hl : sLo S with
  | true =>
    rw [hl] at k
    exact ⟨fun z => absurd z (by decide), fun _ => k σ2 h2 f2.tt⟩
  | false =>
    rw [hl] at k
    rw [if_neg (by decide)] at k
    refine ⟨fun _ => ?_, fun z => absurd rfl z⟩
    obtain ⟨sd, hBM⟩ := h2.bmd hl
    obtain ⟨b0, hb0⟩ : ∃ b0 : BS, b0 = (sB S, sSt S, sLf S, sWr S, false) := ⟨_, rfl⟩
    rw [← hb0] at hBM k
    obtain ⟨Z, hZ⟩ : ∃ Z, cmF (sN S) (sDf S) (sB S) false (tL (sT S)) (sT S) b0 = Z := ⟨_, rfl⟩
    have hB256 := okM.2.2.1
    have hsd := hBM.2.2.2.2.1
    -- the end, when the files lie
    have fin : ∀ (τ : Hp) (c : Nat) (t : TT) (b : BS), sameT (sT S) t → (cmA (sN S) (sDf S) (sB S) false (sT S) (inc32 (sLa S)) b0) = (c, t, b) → BMd τ m (sN S) sd sd b (sDf S) → MT τ m t → MFr m σ2 τ PCm QCm → ∀ nm, (fI_ τ 8 20 m = nI (if c = 0 then inc32 (sLa S) else sLa S)) → nm = (if c = 0 then nI (inc32 (sLa S)) else cod c) → (∀ τ' , MI τ' m (cmS S (c, t, b)) → MFr m σ τ' TP TQ → post nm τ') → post nm τ := by
      intro τ c t b hs hc hb ht hf nm h20 hn1 kk
      refine kk τ ⟨⟨sd, hb.medM⟩, ⟨hb.2.2.2.2.2.2.2.2.2.2.2.1 rfl, hb.2.2.2.2.2.2.2.2.1, hb.2.2.2.2.2.2.2.2.2.1, hb.2.2.2.2.2.2.2.2.2.2.1, h20⟩, ht, hO.fr hf (by unfold QCm QB; omega) (fun j i a b z => by unfold PCm at z; omega)⟩ (f2.tt.trans hf.tt)
    unfold wX9_commit_L17
    refine lpG2 (B := fun R x τ => wX9_commit_B17 post R m x τ) (fun j x τ => ∃ q t b, q + j = tN (sT S) ∧ 1 ≤ q ∧ x = nI q ∧ cmF (sN S) (sDf S) (sB S) false (rmF (tT (sT S)) j q) t b = Z ∧ sameT (sT S) t ∧ TOK (sN S) t ∧ BMd τ m (sN S) sd sd b (sDf S) ∧ bLo b = false ∧ MT τ m t ∧ MFr m σ2 τ PCm QCm) (tN (sT S) - 1) ⟨1, sT S, b0, by omega, by omega, rfl, ?_, sameT.refl _, okT, hBM, by rw [hb0]; rfl, hT, MFr.refl⟩ ?_
    · have e0 : tL (sT S) = 0 :: rmF (tT (sT S)) (tN (sT S) - 1) 1 := by
        rw [tL_rm]
        obtain ⟨N, hNe⟩ : ∃ N, tN (sT S) = N + 1 := ⟨tN (sT S) - 1, by omega⟩
        rw [hNe]
        show (if tT (sT S) 0 = true then 0 :: rmF (tT (sT S)) N 1 else rmF (tT (sT S)) N 1) = _
        rw [if_pos okT.2.1.1]; rfl
      rw [← hZ, e0, cmF, if_pos (Or.inl okT.2.1.2.1)]
    rintro j x τ R ⟨q, t, b, g1, g2, rfl, g4, g5, g6, g7, g8, g9, g10⟩ hR
    obtain ⟨s1, s2, s3, s4, s5⟩ := g5
    have hw := g7.1
    unfold wX9_commit_B17 wX9_commit_L88
    refine ⟨mw_tag hw, ?_⟩
    rw [g9.1, s1, nI_leI (by omega) (by omega)]
    refine ⟨fun z => ?_, fun z => ?_⟩
    · have hj : j = 0 := by omega
      subst hj
      have g4' : (0, t, b) = Z := g4
      have h20 : fI_ τ 8 20 m = nI (sLa S) := by rw [g10.f (by unfold QCm QB; omega)]; exact hP.2.2.2.2
      have h2s : fI_ τ 8 2 m = nI sd := g7.2.2.2.1
      have einc : nI (sLa S) + 1 = nI (inc32 (sLa S)) := by
        rw [li_1, nI_add, nI_wrap]; rfl
      have hdt : dirT t = dirT (sT S) := dirT_same ⟨s1, s2, s3, s4, s5⟩
      rw [h2s, h20, einc]
      have hcm : ∀ c b', sesB (sN S) (sDf S) t (dirT t) (inc32 (sLa S)) 201 b = (c, b') → cmA (sN S) (sDf S) (sB S) false (sT S) (inc32 (sLa S)) b0 = (c, t, b') := by
        intro c b' e
        unfold cmA
        rw [hZ, ← g4']
        simp only [if_true]
        rw [← hdt, e]
      refine m_session g7 g8 g9.m0 g6 (by unfold inc32; omega) (fun σ' b' e1 e2 e3 e4 => ⟨fun y => ?_, fun y => ⟨fun y2 => ⟨mw_tag e3.1, fun σ9 e9 => ?_⟩, fun y2 => ?_⟩⟩) (fun σ' c b' e1 e2 e3 e4 => ?_)
      · exfalso
        have := congrArg (fun x : Int32 => x.toBitVec.toNat) y
        rw [pk_tn (by unfold inc32; omega)] at this
        exact hne.2 (this.trans (by decide))
      · have hfr : MFr m σ2 σ' PCm QCm := g10.trans (e4.mono (fun j i z => by unfold PSs PBn at z; unfold PCm; omega) (fun k z => z))
        have f9 : MFr m σ' σ9 (fun _ _ => False) (fun k => k = 20) := by rw [e9]; exact MFr.sI rfl
        have h20' : fI_ σ' 8 20 m = nI (sLa S) := by rw [e4.f (by unfold QSs QB; omega)]; exact h20
        have ev : fI_ σ9 8 20 m = nI (inc32 (sLa S)) := by rw [e9, afI_sI, u3_e, h20', einc]
        rw [ev]
        have hc := hcm 0 b' e1
        rw [hc] at k
        have e3' : BMd σ9 m (sN S) sd sd b' (sDf S) := e3.fr f9 (fun k hk z => by omega) (fun j i a z => z)
        have hT9 : MT σ9 m t := (g9.fr e4 (by unfold QSs QB; omega) (fun j i a b z => by unfold PSs PBn at z; omega)).fr f9 (by omega) (fun j i a b z => z)
        exact k σ9 ⟨⟨sd, e3'.medM⟩, ⟨e3'.2.2.2.2.2.2.2.2.2.2.2.1 rfl, e3'.2.2.2.2.2.2.2.2.1, e3'.2.2.2.2.2.2.2.2.2.1, e3'.2.2.2.2.2.2.2.2.2.2.1, ev⟩, hT9, (hO.fr hfr (by unfold QCm QB; omega) (fun j i a b z => by unfold PCm at z; omega)).fr f9 (by omega) (fun j i a b z => z)⟩ ((f2.tt.trans hfr.tt).trans f9.tt)
      · exfalso
        have := congrArg (fun x : Int32 => x.toBitVec.toNat) y2
        rw [pk_tn (by unfold inc32; omega)] at this
        exact hne.1 (this.trans (by decide))
      · have hfr : MFr m σ2 σ' PCm QCm := g10.trans (e4.mono (fun j i z => by unfold PSs PBn at z; unfold PCm; omega) (fun k z => z))
        have hT9 : MT σ' m t := g9.fr e4 (by unfold QSs QB; omega) (fun j i a b z => by unfold PSs PBn at z; omega)
        have hc := hcm c b' e1
        have c0 : ¬ c = 0 := by omega
        rw [hc] at k
        simp only [if_neg c0] at k
        have fin' : post (cod c) σ' := by
          refine fin σ' c t b' ⟨s1, s2, s3, s4, s5⟩ hc e3 hT9 hfr (cod c) ?_ (by rw [if_neg c0]) k
          rw [if_neg c0, e4.f (by unfold QSs QB; omega)]; exact h20
        rcases e2 with e | e
        · subst e
          exact ⟨fun y => absurd y (by decide), fun _ => ⟨fun y => absurd (by decide) y, fun _ => fin'⟩⟩
        · subst e
          exact ⟨fun _ => fin', fun y => absurd (by decide) y⟩
    · obtain ⟨j, rfl⟩ : ∃ i, j = i + 1 := ⟨j - 1, by omega⟩
      have hq : q < tN t := by omega
      have c0 := g9.2.1 q hq
      unfold rmF at g4
      have skip : cmF (sN S) (sDf S) (sB S) false (rmF (tT (sT S)) j (q + 1)) t b = Z → R (nI (q + 1)) τ := fun e => hR j _ _ (by omega) ⟨q + 1, t, b, by omega, by omega, rfl, e, ⟨s1, s2, s3, s4, s5⟩, g6, g7, g8, g9, g10⟩
      cases ht : tT t q with
      | false =>
        rw [ht] at c0
        have c0' : aI_ τ (m + 5) q = nI 0 := c0
        rw [← s2, ht] at g4
        simp (disch := omega) only [atg_sI, afI_sI, afL_sI, afR_sI, aln_sI, aaI_sI, aaL_sI, aaR_sI, anx_sI, abc_sI, abs_sI, alo_sI, atg_wI, afI_wI, afL_wI, afR_wI, aln_wI, aaI_wI, aaL_wI, aaR_wI, anx_wI, abc_wI, abs_wI, alo_wI, atg_wL, afI_wL, afL_wL, afR_wL, aln_wL, aaI_wL, aaL_wL, aaR_wL, anx_wL, abc_wL, abs_wL, alo_wL, u2_e, u2_r, u2_i, u3_e, u3_k, u3_c, u3_r, mw_tag hw, mw_lo hw, mw_loa hw, mf_3 hw, mt_3 hw, ml_3 hw, mf_4 hw, mt_4 hw, ml_4 hw, mf_5 hw, mt_5 hw, ml_5 hw, mf_9 hw, mt_9 hw, ml_9 hw, mf_11 hw, mt_11 hw, ml_11 hw, mf_12 hw, mt_12 hw, ml_12 hw, mf_13 hw, mt_13 hw, ml_13 hw, mf_14 hw, mt_14 hw, ml_14 hw, mf_15 hw, mt_15 hw, ml_15 hw, mf_16 hw, mt_16 hw, ml_16 hw, mf_17 hw, mt_17 hw, ml_17 hw, mf_18 hw, mt_18 hw, ml_18 hw, mf_19 hw, mt_19 hw, ml_19 hw, mf_21 hw, mt_21 hw, ml_21 hw, mf_24 hw, mt_24 hw, ml_24 hw, mf_25 hw, mt_25 hw, ml_25 hw, mf_26 hw, mt_26 hw, ml_26 hw, mf_29 hw, mt_29 hw, ml_29 hw, mf_30 hw, mt_30 hw, ml_30 hw, mf_31 hw, mt_31 hw, ml_31 hw, mf_32 hw, mt_32 hw, ml_32 hw, mf_33 hw, mt_33 hw, ml_33 hw, mf_34 hw, mt_34 hw, ml_34 hw, mf_36 hw, mt_36 hw, ml_36 hw, mf_37 hw, mt_37 hw, ml_37 hw, mf_38 hw, mt_38 hw, ml_38 hw, mf_39 hw, mt_39 hw, ml_39 hw, mf_40 hw, mt_40 hw, ml_40 hw, li_0, li_1, li_2, li_3, li_4, li_5, li_6, li_7, li_8, li_9, li_10, li_12, li_14, li_16, li_17, li_18, li_19, li_20, li_25, li_28, li_30, li_31, li_32, li_33, li_34, li_40, li_46, li_48, li_49, li_57, li_59, li_65, li_67, li_68, li_75, li_77, li_80, li_82, li_90, li_95, li_100, li_128, li_130, li_132, li_136, li_140, li_148, li_156, li_200, li_255, li_256, li_400, li_700, li_2047, li_2048, li_2049, li_2050, li_2054, li_2056, li_4096, li_6000, li_163840, li_409600, li_819200, nI_add, pk_mul, pk_sub, nI_leI, nI_ltI, nI_eq, nI_clamp, vin_t, forall_eq, true_and, and_true, forall_const, implies_true, c0']
        exact ⟨skip (by rw [s2] at g4; exact g4), fun y => absurd trivial y⟩
      | true =>
        rw [ht] at c0
        have c0' : aI_ τ (m + 5) q = nI 1 := c0
        rw [← s2, ht] at g4
        simp only [if_true] at g4
        rw [s2, cmF] at g4
        obtain ⟨c1, c2, c3, c4, c5, c6, c7⟩ := g9.2.2 q hq ht
        have hD := root_D g6 hq ht
        obtain ⟨d1, d2, d3, d4, d5, d6, d7, d8, d9⟩ := g6.2.2.2.1 q (by omega) hq ht
        simp (disch := omega) only [atg_sI, afI_sI, afL_sI, afR_sI, aln_sI, aaI_sI, aaL_sI, aaR_sI, anx_sI, abc_sI, abs_sI, alo_sI, atg_wI, afI_wI, afL_wI, afR_wI, aln_wI, aaI_wI, aaL_wI, aaR_wI, anx_wI, abc_wI, abs_wI, alo_wI, atg_wL, afI_wL, afL_wL, afR_wL, aln_wL, aaI_wL, aaL_wL, aaR_wL, anx_wL, abc_wL, abs_wL, alo_wL, u2_e, u2_r, u2_i, u3_e, u3_k, u3_c, u3_r, mw_tag hw, mw_lo hw, mw_loa hw, mf_3 hw, mt_3 hw, ml_3 hw, mf_4 hw, mt_4 hw, ml_4 hw, mf_5 hw, mt_5 hw, ml_5 hw, mf_9 hw, mt_9 hw, ml_9 hw, mf_11 hw, mt_11 hw, ml_11 hw, mf_12 hw, mt_12 hw, ml_12 hw, mf_13 hw, mt_13 hw, ml_13 hw, mf_14 hw, mt_14 hw, ml_14 hw, mf_15 hw, mt_15 hw, ml_15 hw, mf_16 hw, mt_16 hw, ml_16 hw, mf_17 hw, mt_17 hw, ml_17 hw, mf_18 hw, mt_18 hw, ml_18 hw, mf_19 hw, mt_19 hw, ml_19 hw, mf_21 hw, mt_21 hw, ml_21 hw, mf_24 hw, mt_24 hw, ml_24 hw, mf_25 hw, mt_25 hw, ml_25 hw, mf_26 hw, mt_26 hw, ml_26 hw, mf_29 hw, mt_29 hw, ml_29 hw, mf_30 hw, mt_30 hw, ml_30 hw, mf_31 hw, mt_31 hw, ml_31 hw, mf_32 hw, mt_32 hw, ml_32 hw, mf_33 hw, mt_33 hw, ml_33 hw, mf_34 hw, mt_34 hw, ml_34 hw, mf_36 hw, mt_36 hw, ml_36 hw, mf_37 hw, mt_37 hw, ml_37 hw, mf_38 hw, mt_38 hw, ml_38 hw, mf_39 hw, mt_39 hw, ml_39 hw, mf_40 hw, mt_40 hw, ml_40 hw, li_0, li_1, li_2, li_3, li_4, li_5, li_6, li_7, li_8, li_9, li_10, li_12, li_14, li_16, li_17, li_18, li_19, li_20, li_25, li_28, li_30, li_31, li_32, li_33, li_34, li_40, li_46, li_48, li_49, li_57, li_59, li_65, li_67, li_68, li_75, li_77, li_80, li_82, li_90, li_95, li_100, li_128, li_130, li_132, li_136, li_140, li_148, li_156, li_200, li_255, li_256, li_400, li_700, li_2047, li_2048, li_2049, li_2050, li_2054, li_2056, li_4096, li_6000, li_163840, li_409600, li_819200, nI_add, pk_mul, pk_sub, nI_leI, nI_ltI, nI_eq, nI_clamp, vin_t, forall_eq, true_and, and_true, forall_const, implies_true, c0', c1, c4]
        refine ⟨fun y => by omega, fun _ => ⟨fun y => skip ?_, fun y => ⟨fun y2 => skip ?_, fun y2 => ?_⟩⟩⟩
        · rw [if_pos (Or.inl (by omega))] at g4; exact g4
        · rw [if_pos (Or.inr (Or.inl y2))] at g4; exact g4
        · rw [c6 y (by omega)]
          cases hW : tW t q with
          | true =>
            rw [if_pos (Or.inr (Or.inr ⟨rfl, hW⟩))] at g4
            exact ⟨fun u => absurd u (by decide), fun _ => skip g4⟩
          | false =>
            have hno : ¬ (tD t q = 1 ∨ tS t q = 0 ∨ (false = false ∧ tW t q = true)) := by
              rintro (u | u | u)
              · omega
              · omega
              · rw [hW] at u; exact absurd u.2 (by decide)
            rw [if_neg hno, hW] at g4
            refine ⟨fun _ => ?_, fun u => absurd rfl u⟩
            have h2s : fI_ τ 8 2 m = nI sd := g7.2.2.2.1
            rw [h2s]
            refine m_lay (t := t) (B0 := sB S) (St0 := sSt S) (old := false) g7 g8 (by omega) c4 (by omega) (by omega) c5 (fun _ => (d9 y hW).2.1) hB256 (fun e => by cases e) (fun σ' f b' e1 e2' e2 e3 e4 e5 => ⟨fun _ => ?_, fun u => absurd (by decide) u⟩) (fun σ' c f b' e1 e2 e3 e4 => ⟨fun u => absurd u (cod_neg e2), fun _ => ?_⟩)
            · have hw := e3.1
              rw [e1] at g4
              simp only [if_true] at g4
              have hfn : f + (tS t q + 2047) / 2048 ≤ sN S := by
                have := (layB_ok (n := sN S) (need := (tS t q + 2047) / 2048) (Df := sDf S) (g := filP t (sB S) q false) (fun j i => filP_lt hB256 q _ j i) 201 b g7.2.1).2.1 (by rw [e1])
                rw [e1] at this; exact this
              simp (disch := omega) only [atg_sI, afI_sI, afL_sI, afR_sI, aln_sI, aaI_sI, aaL_sI, aaR_sI, anx_sI, abc_sI, abs_sI, alo_sI, atg_wI, afI_wI, afL_wI, afR_wI, aln_wI, aaI_wI, aaL_wI, aaR_wI, anx_wI, abc_wI, abs_wI, alo_wI, atg_wL, afI_wL, afL_wL, afR_wL, aln_wL, aaI_wL, aaL_wL, aaR_wL, anx_wL, abc_wL, abs_wL, alo_wL, u2_e, u2_r, u2_i, u3_e, u3_k, u3_c, u3_r, mw_tag hw, mw_lo hw, mw_loa hw, mf_3 hw, mt_3 hw, ml_3 hw, mf_4 hw, mt_4 hw, ml_4 hw, mf_5 hw, mt_5 hw, ml_5 hw, mf_9 hw, mt_9 hw, ml_9 hw, mf_11 hw, mt_11 hw, ml_11 hw, mf_12 hw, mt_12 hw, ml_12 hw, mf_13 hw, mt_13 hw, ml_13 hw, mf_14 hw, mt_14 hw, ml_14 hw, mf_15 hw, mt_15 hw, ml_15 hw, mf_16 hw, mt_16 hw, ml_16 hw, mf_17 hw, mt_17 hw, ml_17 hw, mf_18 hw, mt_18 hw, ml_18 hw, mf_19 hw, mt_19 hw, ml_19 hw, mf_21 hw, mt_21 hw, ml_21 hw, mf_24 hw, mt_24 hw, ml_24 hw, mf_25 hw, mt_25 hw, ml_25 hw, mf_26 hw, mt_26 hw, ml_26 hw, mf_29 hw, mt_29 hw, ml_29 hw, mf_30 hw, mt_30 hw, ml_30 hw, mf_31 hw, mt_31 hw, ml_31 hw, mf_32 hw, mt_32 hw, ml_32 hw, mf_33 hw, mt_33 hw, ml_33 hw, mf_34 hw, mt_34 hw, ml_34 hw, mf_36 hw, mt_36 hw, ml_36 hw, mf_37 hw, mt_37 hw, ml_37 hw, mf_38 hw, mt_38 hw, ml_38 hw, mf_39 hw, mt_39 hw, ml_39 hw, mf_40 hw, mt_40 hw, ml_40 hw, li_0, li_1, li_2, li_3, li_4, li_5, li_6, li_7, li_8, li_9, li_10, li_12, li_14, li_16, li_17, li_18, li_19, li_20, li_25, li_28, li_30, li_31, li_32, li_33, li_34, li_40, li_46, li_48, li_49, li_57, li_59, li_65, li_67, li_68, li_75, li_77, li_80, li_82, li_90, li_95, li_100, li_128, li_130, li_132, li_136, li_140, li_148, li_156, li_200, li_255, li_256, li_400, li_700, li_2047, li_2048, li_2049, li_2050, li_2054, li_2056, li_4096, li_6000, li_163840, li_409600, li_819200, nI_add, pk_mul, pk_sub, nI_leI, nI_ltI, nI_eq, nI_clamp, vin_t, forall_eq, true_and, and_true, forall_const, implies_true]
              rw [show vp_nar .boolean (nI 1) = (1 : Int32) from rfl]
              have hTn := MT.lay g6 g9 e4 e5 1 (Or.inl rfl)
              have f11 : MFr m σ' (wI_ σ' (m + 11) q 1) (fun j _ => j = 11) N0 := MFr.wI (by omega) (by omega) rfl
              refine hR j _ _ (by omega) ⟨q + 1, tLay t q f, b', by omega, by omega, rfl, g4, sameT.trans ⟨s1, s2, s3, s4, s5⟩ (sameT_lay t q f), tLay_ok g6 (by omega) e2' hfn (by omega) y, e3.fr f11 (fun k hk z => z) (fun j i a z => by omega), e2, hTn, ?_⟩
              exact (g10.trans (e4.mono (fun j i z => by unfold PLy PBn at z; unfold PCm; omega) (fun k z => Or.inl z))).trans (f11.mono (fun j i z => by unfold PCm; omega) (fun k z => z.elim))
            · rw [e1] at g4
              have c0n : ¬ c = 0 := by omega
              simp only [if_neg c0n] at g4
              have hc : cmA (sN S) (sDf S) (sB S) false (sT S) (inc32 (sLa S)) b0 = (c, t, b') := by
                unfold cmA
                rw [hZ, ← g4]
                simp only [if_neg c0n]
              have hfr : MFr m σ2 σ' PCm QCm := g10.trans (e4.mono (fun j i z => by unfold PLz PBn at z; unfold PCm; omega) (fun k z => Or.inl z))
              have hT9 : MT σ' m t := g9.fr e4 (by unfold QB; omega) (fun j i a b z => by unfold PLz PBn at z; omega)
              rw [hc] at k
              simp only [if_neg c0n] at k
              refine fin σ' c t b' ⟨s1, s2, s3, s4, s5⟩ hc e3 hT9 hfr (cod c) ?_ (by rw [if_neg c0n]) k
              rw [if_neg c0n, hfr.f (by unfold QCm QB; omega)]; exact hP.2.2.2.2
end
