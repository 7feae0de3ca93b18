/-! the reference compacts, whole -/
section
variable {σ : Hp} {m : Nat} {S : AS}
theorem CPi.fr {σ2 σ' : Hp} {sd fs : Nat} {t t' : TT} {b b' : BS} {k : Nat} (hsf : (fs = 0 ∧ sd = 200) ∨ (fs = 200 ∧ sd = 0)) (h : CPi σ2 σ m S sd fs t b) (f : MFr m σ σ' (fun j i => PLy fs k j i ∨ (14 ≤ j ∧ j ≤ 17)) QSs) (hb : BMd σ' m (sN S) sd fs b' (fun _ => false)) (ht : MT0 σ' m t') : CPi σ2 σ' m S sd fs t' b' := by
  obtain ⟨⟨v1, v2, v3, v4, v5, v6, v7⟩, h2, h3, h4, h5, h6, h7, h8⟩ := h
  have hn2 := v2.2.1
  refine ⟨⟨f.mw v1, v2, by rw [f.f (by unfold QSs QB; omega)]; exact v3, by rw [f.f (by unfold QSs QB; omega)]; exact v4, v5, fun p hp => by rw [f.a (by unfold PLy PBn; omega)]; exact v6 p hp, fun s hs => by rw [f.a (by unfold PLy PBn; omega)]; exact v7 s hs⟩, hb, ht, fun k hk a1 a2 a3 => by rw [f.a (by unfold PLy PBn; omega)]; exact h4 k hk a1 a2 a3, fun k hk => by rw [f.a (by unfold PLy PBn; omega)]; exact h5 k hk, fun s a1 a2 => by rw [f.a (by unfold PLy PBn; omega)]; exact h6 s a1 a2, h7.fr f (by unfold QSs QB; omega) (fun j i a b z => by unfold PLy PBn at z; omega), by rw [f.f (by unfold QSs QB; omega)]; exact h8⟩
theorem cmF_W {n : Nat} {Df : Nat → Bool} {B : Nat → Nat} : ∀ (l : List Nat) (t : TT) (b : BS), tS (cmF n Df B true l t b).2.1 = tS t ∧ tE (cmF n Df B true l t b).2.1 = tE t
  | [], t, b => ⟨rfl, rfl⟩
  | k :: l, t, b => by
    unfold cmF
    split
    · exact cmF_W l t b
    · split
      · exact cmF_W l _ _
      · exact ⟨rfl, rfl⟩
theorem m_cp107 {σ2 : Hp} {sd fs : Nat} {b0 : BS} (ok : AOK S) (hlS : sLo S = false) (hsf : (fs = 0 ∧ sd = 200) ∨ (fs = 200 ∧ sd = 0)) (hT2 : MT σ2 m (sT S)) (hb0 : b0 = (fun _ => 0, fun _ => 0, sLf S, sWr S, false)) (h : CPi σ2 σ m S sd fs (sT S) b0) {post : Int32 → Hp → Prop}
    (k : ∀ σ', MI σ' m (opCompact S).2 → MFr m σ σ' TP TQ → post (opCompact S).1 σ') : wX9_compact_L107 post m (nI fs) 0 1 σ := by
  obtain ⟨okM, okT, okL, -⟩ := id ok
  have hN := okT.1.2.1
  have h1' := okT.1.1
  have hB256 := okM.2.2.1
  obtain ⟨Z, hZ⟩ : ∃ Z, cmF (sN S) (fun _ => false) (sB S) true (tL (sT S)) (sT S) b0 = Z := ⟨_, rfl⟩
  have hcp : cpA S = if Z.1 = 0 then ((sesB (sN S) (fun _ => false) Z.2.1 (dirT (sT S)) 1 201 Z.2.2).1, Z.2.1, (sesB (sN S) (fun _ => false) Z.2.1 (dirT (sT S)) 1 201 Z.2.2).2) else Z := by
    unfold cpA cmA
    rw [← hb0, hZ]
  unfold opCompact at k
  rw [hlS] at k
  rw [if_neg (by decide)] at k
  -- the end
  have L176 : ∀ (τ : Hp) (c : Nat) (t : TT) (b : BS), cpA S = (c, t, b) → (c = 0 ∨ c = 3 ∨ c = 4) → (c = 0 → bLo b = false) → sameT (sT S) t → tS t = tS (sT S) → tE t = tE (sT S) → TOK (sN S) t → CPi σ2 τ m S sd fs t b → MFr m σ τ TP TQ → (c = 0 → ∀ k, k < tN (sT S) → tT (sT S) k = true → tD (sT S) k = 0 → 0 < tS (sT S) k → tW t k = true) → wX9_compact_L176 post m (nI fs) (if c = 0 then 1 else cod c) τ := by
    intro τ c t b e1 e2 e2' e3 e4 e5 e6 e7 e8 e9
    rw [e1] at k
    unfold wX9_compact_L176
    by_cases hc : c = 0
    · rw [if_pos hc]
      simp only [if_pos hc] at k
      refine ⟨fun _ => m_cp213 ok e3 e4 e6 (by omega) e7 (e2' hc) (e9 hc) (fun σ' x y => k σ' x (e8.trans y)), fun z => absurd rfl z⟩
    · rw [if_neg hc]
      simp only [if_neg hc] at k
      refine ⟨fun z => ?_, fun _ => m_cp183 ok e3 e4 e5 hT2 e7 (fun σ' x y => k σ' x (e8.trans y))⟩
      rcases e2 with q | q | q
      · exact absurd q hc
      · subst q; exact absurd z (by decide)
      · subst q; exact absurd z (by decide)
  unfold wX9_compact_L107
  refine lpG3 (B := fun R x2 x3 τ => wX9_compact_B107 post R m (nI fs) x2 x3 τ) (fun j x2 x3 τ => ∃ q c t b, q + j = tN (sT S) + 1 ∧ 1 ≤ q ∧ q ≤ tN (sT S) ∧ x3 = nI q ∧ (c = 0 ∨ c = 3 ∨ c = 4) ∧ x2 = (if c = 0 then 0 else cod c) ∧ (c ≠ 0 → Z = (c, t, b)) ∧ (c = 0 → cmF (sN S) (fun _ => false) (sB S) true (rmF (tT (sT S)) (tN (sT S) - q) q) t b = Z ∧ bLo b = false ∧ ∀ k, q ≤ k → tX t k = tX (sT S) k ∧ tW t k = tW (sT S) k) ∧ sameT (sT S) t ∧ tS t = tS (sT S) ∧ tE t = tE (sT S) ∧ TOK (sN S) t ∧ CPi σ2 τ m S sd fs t b ∧ MFr m σ τ TP TQ ∧ (∀ k, 0 < k → k < q → tT (sT S) k = true → tD (sT S) k = 0 → 0 < tS (sT S) k → c = 0 → tW t k = true)) (tN (sT S)) ⟨1, 0, sT S, b0, by omega, by omega, by omega, rfl, Or.inl rfl, rfl, fun z => absurd rfl z, fun _ => ⟨?_, by rw [hb0]; rfl, fun _ _ => ⟨rfl, rfl⟩⟩, sameT.refl _, rfl, rfl, okT, h, MFr.refl, fun k a1 a2 => by omega⟩ ?_
  · have e0 : tL (sT S) = 0 :: rmF (tT (sT S)) (tN (sT S) - 1) 1 := by
      rw [tL_rm]
      obtain ⟨N, hNe⟩ : ∃ N, tN (sT S) = N + 1 := ⟨tN (sT S) - 1, by omega⟩
      rw [hNe]
      show (if tT (sT S) 0 = true then 0 :: rmF (tT (sT S)) N 1 else rmF (tT (sT S)) N 1) = _
      rw [if_pos okT.2.1.1]; rfl
    rw [← hZ, e0, cmF, if_pos (Or.inl okT.2.1.2.1)]
  rintro j x2 x3 τ R ⟨q, c, t, b, g1, g2, g2', rfl, gc, rfl, g5, g6, g7, g8, g9, g10, g11, g12, g13⟩ hR
  obtain ⟨s1, s2, s3, s4, s5⟩ := id g7
  obtain ⟨u1, u2, u3, u4, u5, u6, u7, u8⟩ := id g11
  have hw := u2.1
  have hcne : ∀ c, (c = 0 ∨ c = 3 ∨ c = 4) → c ≠ 0 → ¬ (if c = 0 then (0 : Int32) else cod c) = 0 := by
    intro c h1 h2
    rw [if_neg h2]
    rcases h1 with e | e | e
    · exact absurd e h2
    · subst e; decide
    · subst e; decide
  -- behind the files
  have L165 : (c = 0 → q = tN (sT S)) → wX9_compact_L165 post m (nI fs) (if c = 0 then 0 else cod c) τ := by
    intro hce
    unfold wX9_compact_L165
    by_cases hc : c = 0
    · obtain ⟨a1, a2, a3⟩ := g6 hc
      rw [hce hc, Nat.sub_self] at a1
      have a1' : (0, t, b) = Z := a1
      subst hc
      refine ⟨fun z => absurd rfl z, fun _ => ⟨mw_tag hw, ?_⟩⟩
      have hdt : dirT t = dirT (sT S) := dirT_same g7
      have hW0 : ∀ k, k < tN (sT S) → tT (sT S) k = true → tD (sT S) k = 0 → 0 < tS (sT S) k → tW t k = true := by
        intro k hk ht hd hs
        have k0 : 0 < k := by
          rcases Nat.eq_zero_or_pos k with e | e
          · rw [e, okT.2.1.2.1] at hd; cases hd
          · exact e
        exact g13 k k0 (by rw [hce rfl]; exact hk) ht hd hs rfl
      have hcpa : ∀ c b', sesB (sN S) (fun _ => false) t (dirT t) 1 201 b = (c, b') → cpA S = (c, t, b') := by
        intro c b' e
        rw [hcp, ← a1']
        simp only [if_true]
        rw [← hdt, e]
      refine m_session (num := 1) u2 a2 u3 g10 (by decide) (fun σ' b' e1 e2 e3 e4 => ?_) (fun σ' c b' e1 e2 e3 e4 => ?_)
      · have hfr : MFr m τ σ' (fun j i => PLy fs 0 j i ∨ (14 ≤ j ∧ j ≤ 17)) QSs := e4.mono (fun j i z => by
          rcases z with z | z | z
          · exact Or.inl (Or.inl z)
          · exact Or.inl (Or.inr (Or.inl z))
          · exact Or.inr z) (fun _ z => z)
        have hT' : MT0 σ' m t := u3.fr e4 (by unfold QSs QB; omega) (fun j i a b z => by unfold PSs PBn at z; omega)
        exact L176 σ' 0 t b' (hcpa 0 b' e1) (Or.inl rfl) (fun _ => e2) g7 g8 g9 g10 (g11.fr hsf hfr e3 hT') (g12.trans e4.tt) (fun _ => hW0)
      · have hfr : MFr m τ σ' (fun j i => PLy fs 0 j i ∨ (14 ≤ j ∧ j ≤ 17)) QSs := e4.mono (fun j i z => by
          rcases z with z | z | z
          · exact Or.inl (Or.inl z)
          · exact Or.inl (Or.inr (Or.inl z))
          · exact Or.inr z) (fun _ z => z)
        have hT' : MT0 σ' m t := u3.fr e4 (by unfold QSs QB; omega) (fun j i a b z => by unfold PSs PBn at z; omega)
        have := L176 σ' c t b' (hcpa c b' e1) (Or.inr e2) (fun z => by omega) g7 g8 g9 g10 (g11.fr hsf hfr e3 hT') (g12.trans e4.tt) (fun z => by omega)
        rw [if_neg (by omega)] at this
        exact this
    · refine ⟨fun _ => ?_, fun z => absurd z (hcne c gc hc)⟩
      have hz := g5 hc
      have hcpa : cpA S = (c, t, b) := by
        rw [hcp, hz]
        simp only [if_neg hc]
      have := L176 τ c t b hcpa gc (fun z => absurd z hc) g7 g8 g9 g10 g11 g12 (fun z => absurd z hc)
      rw [if_neg hc] at this
      rw [if_neg hc]
      exact this
  unfold wX9_compact_B107 wX9_compact_L159
  refine ⟨mw_tag hw, ?_⟩
  rw [u3.1, s1, nI_leI (by omega) (by omega)]
  refine ⟨fun z => L165 (fun _ => by omega), fun z => ⟨fun z2 => L165 (fun e => by rw [if_pos e] at z2; exact absurd rfl z2), fun z2 => ?_⟩⟩
  have hc : c = 0 := Classical.byContradiction (fun e => hcne c gc e z2)
  obtain ⟨a1, a2, a3⟩ := g6 hc
  have hq : q < tN t := by omega
  have c0 := u3.2.1 q hq
  rw [show tN (sT S) - q = (tN (sT S) - (q + 1)) + 1 by omega] at a1
  have skip : cmF (sN S) (fun _ => false) (sB S) true (rmF (tT (sT S)) (tN (sT S) - (q + 1)) (q + 1)) t b = Z → (tT (sT S) q = true → tD (sT S) q = 0 → 0 < tS (sT S) q → False) → R (if c = 0 then 0 else cod c) (nI (q + 1)) τ := by
    intro e1 e2
    refine hR (j - 1) _ _ _ (by omega) ⟨q + 1, c, t, b, by omega, by omega, by omega, rfl, gc, rfl, g5, fun _ => ⟨e1, a2, fun k hk => a3 k (by omega)⟩, g7, g8, g9, g10, g11, g12, fun k k0 kq kt kd ks kc => ?_⟩
    by_cases e : k = q
    · subst e; exact (e2 kt kd ks).elim
    · exact g13 k k0 (by omega) kt kd ks kc
  have rm1 : rmF (tT (sT S)) ((tN (sT S) - (q + 1)) + 1) q = if tT (sT S) q then q :: rmF (tT (sT S)) (tN (sT S) - (q + 1)) (q + 1) else rmF (tT (sT S)) (tN (sT S) - (q + 1)) (q + 1) := rfl
  rw [rm1] at a1
  cases ht : tT t q with
  | false =>
    rw [ht] at c0
    have c0' : aI_ τ (m + 5) q = nI 0 := c0
    rw [s2] at ht
    rw [ht] at a1
    simp (disch := omega) only [atg_sI, afI_sI, afL_sI, afR_sI, aln_sI, aaI_sI, aaL_sI, aaR_sI, anx_sI, abc_sI, abs_sI, alo_sI, atg_wI, afI_wI, afL_wI, afR_wI, aln_wI, aaI_wI, aaL_wI, aaR_wI, anx_wI, abc_wI, abs_wI, alo_wI, atg_wL, afI_wL, afL_wL, afR_wL, aln_wL, aaI_wL, aaL_wL, aaR_wL, anx_wL, abc_wL, abs_wL, alo_wL, u2_e, u2_r, u2_i, u3_e, u3_k, u3_c, u3_r, mw_tag hw, mw_lo hw, mw_loa hw, mf_3 hw, mt_3 hw, ml_3 hw, mf_4 hw, mt_4 hw, ml_4 hw, mf_5 hw, mt_5 hw, ml_5 hw, mf_9 hw, mt_9 hw, ml_9 hw, mf_11 hw, mt_11 hw, ml_11 hw, mf_12 hw, mt_12 hw, ml_12 hw, mf_13 hw, mt_13 hw, ml_13 hw, mf_14 hw, mt_14 hw, ml_14 hw, mf_15 hw, mt_15 hw, ml_15 hw, mf_16 hw, mt_16 hw, ml_16 hw, mf_17 hw, mt_17 hw, ml_17 hw, mf_18 hw, mt_18 hw, ml_18 hw, mf_19 hw, mt_19 hw, ml_19 hw, mf_21 hw, mt_21 hw, ml_21 hw, mf_24 hw, mt_24 hw, ml_24 hw, mf_25 hw, mt_25 hw, ml_25 hw, mf_26 hw, mt_26 hw, ml_26 hw, mf_29 hw, mt_29 hw, ml_29 hw, mf_30 hw, mt_30 hw, ml_30 hw, mf_31 hw, mt_31 hw, ml_31 hw, mf_32 hw, mt_32 hw, ml_32 hw, mf_33 hw, mt_33 hw, ml_33 hw, mf_34 hw, mt_34 hw, ml_34 hw, mf_36 hw, mt_36 hw, ml_36 hw, mf_37 hw, mt_37 hw, ml_37 hw, mf_38 hw, mt_38 hw, ml_38 hw, mf_39 hw, mt_39 hw, ml_39 hw, mf_40 hw, mt_40 hw, ml_40 hw, li_0, li_1, li_2, li_3, li_4, li_5, li_6, li_7, li_8, li_9, li_10, li_12, li_14, li_16, li_17, li_18, li_19, li_20, li_25, li_28, li_30, li_31, li_32, li_33, li_34, li_40, li_46, li_48, li_49, li_57, li_59, li_65, li_67, li_68, li_75, li_77, li_80, li_82, li_90, li_95, li_100, li_128, li_130, li_132, li_136, li_140, li_148, li_156, li_200, li_255, li_256, li_400, li_700, li_2047, li_2048, li_2049, li_2050, li_2054, li_2056, li_4096, li_6000, li_163840, li_409600, li_819200, nI_add, pk_mul, pk_sub, nI_leI, nI_ltI, nI_eq, nI_clamp, vin_t, forall_eq, true_and, and_true, forall_const, implies_true, c0']
    exact ⟨skip a1 (fun y => by rw [ht] at y; cases y), fun y => absurd trivial y⟩
  | true =>
    rw [ht] at c0
    have c0' : aI_ τ (m + 5) q = nI 1 := c0
    have ht' := ht
    rw [s2] at ht'
    rw [ht'] at a1
    simp only [if_true] at a1
    rw [cmF] at a1
    obtain ⟨c1, c2, c3, c4, c5, c6, c7⟩ := u3.2.2 q hq ht
    have hD := root_D g10 hq ht
    obtain ⟨d1, d2, d3, d4, d5, d6, d7, d8, d9⟩ := g10.2.2.2.1 q (by omega) hq ht
    simp (disch := omega) only [atg_sI, afI_sI, afL_sI, afR_sI, aln_sI, aaI_sI, aaL_sI, aaR_sI, anx_sI, abc_sI, abs_sI, alo_sI, atg_wI, afI_wI, afL_wI, afR_wI, aln_wI, aaI_wI, aaL_wI, aaR_wI, anx_wI, abc_wI, abs_wI, alo_wI, atg_wL, afI_wL, afL_wL, afR_wL, aln_wL, aaI_wL, aaL_wL, aaR_wL, anx_wL, abc_wL, abs_wL, alo_wL, u2_e, u2_r, u2_i, u3_e, u3_k, u3_c, u3_r, mw_tag hw, mw_lo hw, mw_loa hw, mf_3 hw, mt_3 hw, ml_3 hw, mf_4 hw, mt_4 hw, ml_4 hw, mf_5 hw, mt_5 hw, ml_5 hw, mf_9 hw, mt_9 hw, ml_9 hw, mf_11 hw, mt_11 hw, ml_11 hw, mf_12 hw, mt_12 hw, ml_12 hw, mf_13 hw, mt_13 hw, ml_13 hw, mf_14 hw, mt_14 hw, ml_14 hw, mf_15 hw, mt_15 hw, ml_15 hw, mf_16 hw, mt_16 hw, ml_16 hw, mf_17 hw, mt_17 hw, ml_17 hw, mf_18 hw, mt_18 hw, ml_18 hw, mf_19 hw, mt_19 hw, ml_19 hw, mf_21 hw, mt_21 hw, ml_21 hw, mf_24 hw, mt_24 hw, ml_24 hw, mf_25 hw, mt_25 hw, ml_25 hw, mf_26 hw, mt_26 hw, ml_26 hw, mf_29 hw, mt_29 hw, ml_29 hw, mf_30 hw, mt_30 hw, ml_30 hw, mf_31 hw, mt_31 hw, ml_31 hw, mf_32 hw, mt_32 hw, ml_32 hw, mf_33 hw, mt_33 hw, ml_33 hw, mf_34 hw, mt_34 hw, ml_34 hw, mf_36 hw, mt_36 hw, ml_36 hw, mf_37 hw, mt_37 hw, ml_37 hw, mf_38 hw, mt_38 hw, ml_38 hw, mf_39 hw, mt_39 hw, ml_39 hw, mf_40 hw, mt_40 hw, ml_40 hw, li_0, li_1, li_2, li_3, li_4, li_5, li_6, li_7, li_8, li_9, li_10, li_12, li_14, li_16, li_17, li_18, li_19, li_20, li_25, li_28, li_30, li_31, li_32, li_33, li_34, li_40, li_46, li_48, li_49, li_57, li_59, li_65, li_67, li_68, li_75, li_77, li_80, li_82, li_90, li_95, li_100, li_128, li_130, li_132, li_136, li_140, li_148, li_156, li_200, li_255, li_256, li_400, li_700, li_2047, li_2048, li_2049, li_2050, li_2054, li_2056, li_4096, li_6000, li_163840, li_409600, li_819200, nI_add, pk_mul, pk_sub, nI_leI, nI_ltI, nI_eq, nI_clamp, vin_t, forall_eq, true_and, and_true, forall_const, implies_true, c0', c1, c4]
    refine ⟨fun y => by omega, fun _ => ⟨fun y => skip ?_ (fun _ e _ => by rw [← s3] at e; omega), fun y => ⟨fun y2 => skip ?_ (fun _ _ e => by rw [← g8] at e; omega), fun y2 => ?_⟩⟩⟩
    · rw [if_pos (Or.inl (by omega))] at a1; exact a1
    · rw [if_pos (Or.inr (Or.inl (by omega)))] at a1; exact a1
    · rw [if_neg (by rintro (e | e | e); omega; omega; exact absurd e.1 (by decide))] at a1
      have e11 : aI_ τ (m + 11) q = b2 (tW t q) := by
        rw [u4 q (by omega) ht' (by rw [← s3]; exact y) (by rw [← g8]; omega), (a3 q (Nat.le_refl _)).2]
      rw [e11]
      have e13 : aI_ τ (m + 13) q = nI (tX t q) := by
        rw [u5 q (by omega), (hT2.2.2 q (by omega) ht').2.2.2.2.2.2, (a3 q (Nat.le_refl _)).1]
      refine m_lay (t := t) (B0 := sB S) (St0 := sSt S) (old := tW t q) u2 a2 (by omega) c4 (by omega) (by omega) c5 (fun e => (d9 y e).2.1) hB256 (fun e => ⟨by omega, u1, e13, d8 y e⟩) (fun σ' f b' e1 e2' e2 e3 e4 e5 => ?_) (fun σ' c' f b' e1 e2 e3 e4 => ?_)
      · rw [e1] at a1
        simp only [if_true] at a1
        have hfn : f + (tS t q + 2047) / 2048 ≤ sN S := by
          have := (layB_ok (n := sN S) (need := (tS t q + 2047) / 2048) (Df := fun _ => false) (g := filP t (sB S) q (tW t q)) (fun j i => filP_lt hB256 q _ j i) 201 b u2.2.1).2.1 (by rw [e1])
          rw [e1] at this; exact this
        have hfr : MFr m τ σ' (fun j i => PLy fs q j i ∨ (14 ≤ j ∧ j ≤ 17)) QSs := e4.mono (fun j i z => Or.inl z) (fun _ z => Or.inl z)
        refine hR (j - 1) _ _ _ (by omega) ⟨q + 1, 0, tLay t q f, b', by omega, by omega, by omega, rfl, Or.inl rfl, rfl, fun z => absurd rfl z, fun _ => ⟨a1, e2, fun k hk => ?_⟩, sameT.trans g7 (sameT_lay t q f), g8, g9, tLay_ok g10 (by omega) e2' hfn (by omega) y, g11.fr hsf hfr e3 (u3.lay e4 e5), g12.trans e4.tt, fun k k0 kq kt kd ks kc => ?_⟩
        · show upA (tX t) q f k = _ ∧ upA (tW t) q true k = _
          rw [upA_n (by omega), upA_n (by omega)]
          exact a3 k (by omega)
        · show upA (tW t) q true k = true
          by_cases e : k = q
          · subst e; exact upA_e
          · rw [upA_n e]; exact g13 k k0 (by omega) kt kd ks hc
      · rw [e1] at a1
        have c0n : ¬ c' = 0 := by omega
        simp only [if_neg c0n] at a1
        have hfr : MFr m τ σ' (fun j i => PLy fs q j i ∨ (14 ≤ j ∧ j ≤ 17)) QSs := e4.mono (fun j i z => Or.inl (z.elim Or.inl (fun y => Or.inr (Or.inl y)))) (fun _ z => Or.inl z)
        have hT' : MT0 σ' m t := u3.fr e4 (by unfold QB; omega) (fun j i a b z => by unfold PLz PBn at z; omega)
        refine hR (j - 1) _ _ _ (by omega) ⟨q + 1, c', t, b', by omega, by omega, by omega, rfl, Or.inr e2, by rw [if_neg c0n], fun _ => a1.symm, fun z => absurd z c0n, g7, g8, g9, g10, g11.fr hsf hfr e3 hT', g12.trans e4.tt, fun k k0 kq kt kd ks kc => absurd kc c0n⟩
end
