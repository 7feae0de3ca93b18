/-! the reference: designing a session, whole -/
section
variable {σ : Hp} {m n : Nat} {t : TT} {base num : Nat}
/-- the plan holds the session -/
def PLs (σ : Hp) (m n : Nat) (t : TT) (base num : Nat) : Prop := ∃ f, PL σ m f ∧ ∀ j, j < 5 + (dirT t).length → ∀ q, q < 2048 → f (2048 * j + q) = pz (pgS n t (dirT t) base num j) q
theorem m_des187 (hw : MW σ m) (hT : MT0 σ m t) (ok : TOK n t) (hb : base ≤ 200) {f : Nat → Nat} (h : PL σ m f) (hD : DTb σ m (dirT t)) (hA : AT σ m (dirT t) base) {i : Nat} (hi : i < (dirT t).length) (hdi : DI n t base i f) {s : Nat} (hs : s = if (dirT t).getD i 0 = 0 then 0 else 2) {post : Hp → Prop} {rc : Int32 → Int32 → Hp → Prop} {x2 x3 : Int32}
    (k : ∀ σ' f', MFr m σ σ' P14 N0 → PL σ' m f' → DI n t base (i + 1) f' → rc (nI (4096 + (ptT t (dirT t) base true (i + 1)).length)) (nI (i + 1)) σ') :
    wX9_design_L187 post rc m (nI base) x2 x3 (nI (4096 + (ptT t (dirT t) base true i).length)) (nI i) (nI ((dirT t).getD i 0)) (nI s) m σ := by
  have hN := ok.1.2.1
  have hl := dirT_len ok
  have hm : (dirT t).getD i 0 ∈ dirT t := getD_mem hi
  obtain ⟨⟨a1, a2⟩, a3⟩ := dirT_mem ok hm
  have h0' : (dirT t).getD 0 0 = 0 := by
    have h0 : (dirT t).getD 0 1 = 0 := (dirT_ok ok).2.1
    have hlen := (dirT_ok ok).2.2.1
    rw [List.getD_eq_getElem?_getD, List.getElem?_eq_getElem (by omega)] at h0 ⊢
    exact h0
  have hi0 : (dirT t).getD i 0 = 0 ↔ i = 0 := by
    constructor
    · intro e
      exact getD_inj (dirT_ok ok).1 hi (by have := (dirT_ok ok).2.2.1; omega) (by rw [e, h0'])
    · intro e; rw [e]; exact h0'
  have hid : (if s < 2 then [s] else tI t ((dirT t).getD i 0)).length = (if (dirT t).getD i 0 = 0 then [0] else tM t ((dirT t).getD i 0)).length := by
    by_cases e : (dirT t).getD i 0 = 0
    · rw [if_pos e] at hs
      rw [hs, if_pos e]; rfl
    · rw [if_neg e] at hs
      rw [hs, if_neg e]
      unfold tI idb
      rw [if_pos a3]; rfl
  unfold wX9_design_L187
  refine ⟨mw_tag hw, m_recordId hw hT ok (by rw [hs]; split <;> omega) a1 a2 ?_⟩
  rw [hid, li_0, nI_eq (by omega) (by omega)]
  refine ⟨fun e => ?_, fun e => ?_⟩
  · obtain ⟨c1, c2, -⟩ := hT.2.2 _ a1 a2
    have hpm := dirT_par ok hm e
    have hpN := (dirT_mem ok hpm).1.1
    simp (disch := omega) only [atg_sI, afI_sI, afL_sI, afR_sI, aln_sI, aaI_sI, aaL_sI, aaR_sI, anx_sI, abc_sI, abs_sI, alo_sI, atg_wI, afI_wI, afL_wI, afR_wI, aln_wI, aaI_wI, aaL_wI, aaR_wI, anx_wI, abc_wI, abs_wI, alo_wI, atg_wL, afI_wL, afL_wL, afR_wL, aln_wL, aaI_wL, aaL_wL, aaR_wL, anx_wL, abc_wL, abs_wL, alo_wL, u2_e, u2_r, u2_i, u3_e, u3_k, u3_c, u3_r, mw_tag hw, mw_lo hw, mw_loa hw, mf_3 hw, mt_3 hw, ml_3 hw, mf_4 hw, mt_4 hw, ml_4 hw, mf_5 hw, mt_5 hw, ml_5 hw, mf_9 hw, mt_9 hw, ml_9 hw, mf_11 hw, mt_11 hw, ml_11 hw, mf_12 hw, mt_12 hw, ml_12 hw, mf_13 hw, mt_13 hw, ml_13 hw, mf_14 hw, mt_14 hw, ml_14 hw, mf_15 hw, mt_15 hw, ml_15 hw, mf_16 hw, mt_16 hw, ml_16 hw, mf_17 hw, mt_17 hw, ml_17 hw, mf_18 hw, mt_18 hw, ml_18 hw, mf_19 hw, mt_19 hw, ml_19 hw, mf_21 hw, mt_21 hw, ml_21 hw, mf_24 hw, mt_24 hw, ml_24 hw, mf_25 hw, mt_25 hw, ml_25 hw, mf_26 hw, mt_26 hw, ml_26 hw, mf_29 hw, mt_29 hw, ml_29 hw, mf_30 hw, mt_30 hw, ml_30 hw, mf_31 hw, mt_31 hw, ml_31 hw, mf_32 hw, mt_32 hw, ml_32 hw, mf_33 hw, mt_33 hw, ml_33 hw, mf_34 hw, mt_34 hw, ml_34 hw, mf_36 hw, mt_36 hw, ml_36 hw, mf_37 hw, mt_37 hw, ml_37 hw, mf_38 hw, mt_38 hw, ml_38 hw, mf_39 hw, mt_39 hw, ml_39 hw, mf_40 hw, mt_40 hw, ml_40 hw, li_0, li_1, li_2, li_3, li_4, li_5, li_6, li_7, li_8, li_9, li_10, li_12, li_14, li_16, li_17, li_18, li_19, li_20, li_25, li_28, li_30, li_31, li_32, li_33, li_34, li_40, li_46, li_48, li_49, li_57, li_59, li_65, li_67, li_68, li_75, li_77, li_80, li_82, li_90, li_95, li_100, li_128, li_130, li_132, li_136, li_140, li_148, li_156, li_200, li_255, li_256, li_400, li_700, li_2047, li_2048, li_2049, li_2050, li_2054, li_2056, li_4096, li_6000, li_163840, li_409600, li_819200, nI_add, pk_mul, pk_sub, nI_leI, nI_ltI, nI_eq, nI_clamp, vin_t, forall_eq, true_and, and_true, forall_const, implies_true, c2]
    have hpl : plc (dirT t) (tP t ((dirT t).getD i 0)) < (dirT t).length := List.idxOf_lt_length_of_mem hpm
    refine m_numberOf hw hl hD hpm (fun x hx => by have := (dirT_mem ok hx).1.1; omega) ?_
    exact m_des214 hw hT ok hb h hA hi hdi (by omega) (by rw [if_neg (fun z => e (hi0.mpr z))]) k
  · exact m_des214 (up := 1) hw hT ok hb h hA hi hdi (by omega) (by rw [if_pos (hi0.mp e)]) k
theorem m_des158 (hw : MW σ m) (hT : MT0 σ m t) (ok : TOK n t) (hb : base ≤ 200) (hnum : num < 2 ^ 32) {f : Nat → Nat} (h : PL σ m f) (hD : DTb σ m (dirT t)) (hA : AT σ m (dirT t) base) (hdi : DI n t base 0 f) {post : Hp → Prop}
    (k : ∀ σ', MFr m σ σ' P14 N0 → PLs σ' m n t base num → post σ') : wX9_design_L158 post m (nI base) (nI (21 + (dirT t).length)) (nI num) (nI 4096) 0 σ := by
  have hN := ok.1.2.1
  have hl := dirT_len ok
  have hw0 := hw
  unfold wX9_design_L158
  refine lpG3 (B := fun R x4 x5 τ => wX9_design_B158 post R m (nI base) (nI (21 + (dirT t).length)) (nI num) x4 x5 τ) (fun j x4 x5 τ => ∃ i g, i + j = (dirT t).length ∧ x4 = nI (4096 + (ptT t (dirT t) base true i).length) ∧ x5 = nI i ∧ MFr m σ τ P14 N0 ∧ PL τ m g ∧ DI n t base i g) (dirT t).length ⟨0, f, by omega, rfl, rfl, MFr.refl, h, hdi⟩ ?_
  rintro j x4 x5 τ R ⟨i, g, h1, rfl, rfl, h4, h5, h6⟩ hR
  have hw := h4.mw hw
  have hDτ := hD.f14 h4
  have hAτ := hA.f14 h4
  have hTτ := hT.f14 h4
  unfold wX9_design_B158
  refine ⟨mw_tag hw, ?_⟩
  rw [hDτ.1, nI_leI (by omega) (by omega)]
  refine ⟨fun q => ?_, fun q => ?_⟩
  · have hie : i = (dirT t).length := by omega
    subst hie
    obtain ⟨q1, q2⟩ := ptT_len ok (base := base) (dirT t).length (Nat.le_refl _)
    obtain ⟨v, hv⟩ : ∃ v, v = (ptT t (dirT t) base true (dirT t).length).length := ⟨_, rfl⟩
    rw [li_4096, pk_sub (by omega), show 4096 + (ptT t (dirT t) base true (dirT t).length).length - 4096 = v by omega]
    rw [li_132, li_4]
    refine m_both hw h5 (by omega) (by omega) (by omega) (fun σ1 a1 b1 y hy => ?_)
    rw [ov_app (f := g) (p := 132) (q := 132 + 4) (a := lowB 4 v) (b := highB 4 v) (by simp [lowB_len])] at b1
    have hyv : y = nI (2048 * (4 + (dirT t).length)) := by
      rw [hy, li_17, pk_sub (by omega), li_2048, pk_mul]
      congr 1; omega
    rw [hyv]
    have f1 := h4.trans a1
    refine ⟨mw_tag (f1.mw hw0), m_letters (f1.mw hw0) b1 (by omega) (fun σ2 a2 b2 => ?_)⟩
    have f2 := f1.trans a2
    -- the last letter is a zero where a zero is
    have e5 : ov (ov g 132 (lowB 4 v ++ highB 4 v)) (2048 * (4 + (dirT t).length)) [77, 65, 82, 75, 0] = ov (ov g 132 (lowB 4 v ++ highB 4 v)) (2048 * (4 + (dirT t).length)) [77, 65, 82, 75] := by
      rw [ov_pad (a := [77, 65, 82, 75]) (g := 1)]
      · rfl
      · intro q g1 g2
        rw [ov_out (by simp [lowB_len, highB_len] at g1 ⊢; omega)]
        exact h6.2.2.2.2.2 q (by simp at g1; omega) (by simp at g2; omega)
    rw [e5] at b2
    simp only [li_4, li_8, nI_add]
    refine ⟨mw_tag (f2.mw hw0), m_low (f2.mw hw0) b2 (by omega) (by omega) (by omega) (fun σ3 a3 b3 => ?_)⟩
    have f3 := f2.trans a3
    refine ⟨mw_tag (f3.mw hw0), m_low (f3.mw hw0) b3 (by omega) (by omega) hnum (fun σ4 a4 b4 => ?_)⟩
    exact k σ4 (f3.trans a4) ⟨_, b4, DI_end ok h6 hv⟩
  · have hi : i < (dirT t).length := by omega
    have hm : (dirT t).getD i 0 ∈ dirT t := getD_mem hi
    have hdN := (dirT_mem ok hm).1.1
    simp (disch := omega) only [atg_sI, afI_sI, afL_sI, afR_sI, aln_sI, aaI_sI, aaL_sI, aaR_sI, anx_sI, abc_sI, abs_sI, alo_sI, atg_wI, afI_wI, afL_wI, afR_wI, aln_wI, aaI_wI, aaL_wI, aaR_wI, anx_wI, abc_wI, abs_wI, alo_wI, atg_wL, afI_wL, afL_wL, afR_wL, aln_wL, aaI_wL, aaL_wL, aaR_wL, anx_wL, abc_wL, abs_wL, alo_wL, u2_e, u2_r, u2_i, u3_e, u3_k, u3_c, u3_r, mw_tag hw, mw_lo hw, mw_loa hw, mf_3 hw, mt_3 hw, ml_3 hw, mf_4 hw, mt_4 hw, ml_4 hw, mf_5 hw, mt_5 hw, ml_5 hw, mf_9 hw, mt_9 hw, ml_9 hw, mf_11 hw, mt_11 hw, ml_11 hw, mf_12 hw, mt_12 hw, ml_12 hw, mf_13 hw, mt_13 hw, ml_13 hw, mf_14 hw, mt_14 hw, ml_14 hw, mf_15 hw, mt_15 hw, ml_15 hw, mf_16 hw, mt_16 hw, ml_16 hw, mf_17 hw, mt_17 hw, ml_17 hw, mf_18 hw, mt_18 hw, ml_18 hw, mf_19 hw, mt_19 hw, ml_19 hw, mf_21 hw, mt_21 hw, ml_21 hw, mf_24 hw, mt_24 hw, ml_24 hw, mf_25 hw, mt_25 hw, ml_25 hw, mf_26 hw, mt_26 hw, ml_26 hw, mf_29 hw, mt_29 hw, ml_29 hw, mf_30 hw, mt_30 hw, ml_30 hw, mf_31 hw, mt_31 hw, ml_31 hw, mf_32 hw, mt_32 hw, ml_32 hw, mf_33 hw, mt_33 hw, ml_33 hw, mf_34 hw, mt_34 hw, ml_34 hw, mf_36 hw, mt_36 hw, ml_36 hw, mf_37 hw, mt_37 hw, ml_37 hw, mf_38 hw, mt_38 hw, ml_38 hw, mf_39 hw, mt_39 hw, ml_39 hw, mf_40 hw, mt_40 hw, ml_40 hw, li_0, li_1, li_2, li_3, li_4, li_5, li_6, li_7, li_8, li_9, li_10, li_12, li_14, li_16, li_17, li_18, li_19, li_20, li_25, li_28, li_30, li_31, li_32, li_33, li_34, li_40, li_46, li_48, li_49, li_57, li_59, li_65, li_67, li_68, li_75, li_77, li_80, li_82, li_90, li_95, li_100, li_128, li_130, li_132, li_136, li_140, li_148, li_156, li_200, li_255, li_256, li_400, li_700, li_2047, li_2048, li_2049, li_2050, li_2054, li_2056, li_4096, li_6000, li_163840, li_409600, li_819200, nI_add, pk_mul, pk_sub, nI_leI, nI_ltI, nI_eq, nI_clamp, vin_t, forall_eq, true_and, and_true, forall_const, implies_true, hDτ.2 i hi]
    have go : ∀ s, s = (if (dirT t).getD i 0 = 0 then 0 else 2) → wX9_design_L187 post R m (nI base) (nI (21 + (dirT t).length)) (nI num) (nI (4096 + (ptT t (dirT t) base true i).length)) (nI i) (nI ((dirT t).getD i 0)) (nI s) m τ := fun s hs => m_des187 hw hTτ ok hb h5 hDτ hAτ hi h6 hs (fun σ' f' b1 b2 b3 => hR (j - 1) _ _ _ (by omega) ⟨i + 1, f', by omega, rfl, rfl, h4.trans b1, b2, b3⟩)
    exact ⟨fun e => go 2 (by rw [if_neg e]), fun e => go 0 (by rw [if_pos e])⟩
theorem m_design (hw0 : MW σ m) (hn1 : fI_ σ 8 1 m = nI n) (hn : n ≤ 200) (hT : MT0 σ m t) (ok : TOK n t) (hb : base ≤ 200) (hnum : num < 2 ^ 32) (hD : DTb σ m (dirT t)) (hA : AT σ m (dirT t) base) {post : Hp → Prop}
    (k : ∀ σ', MFr m σ σ' P14 N0 → PLs σ' m n t base num → post σ') : wX9_design m (nI base) (nI (21 + (dirT t).length)) (nI num) σ post := by
  have hN := ok.1.2.1
  have hl := dirT_len ok
  obtain ⟨f0, hf0⟩ : ∃ f, PL σ m f := ⟨_, PL_0⟩
  unfold wX9_design wX9_design_L3
  refine lpG2 (B := fun R x τ => wX9_design_B3 post R m (nI base) (nI (21 + (dirT t).length)) (nI num) x τ) (fun j x τ => ∃ i g, i + j = 2048 * (5 + (dirT t).length) ∧ x = nI i ∧ MFr m σ τ P14 N0 ∧ PL τ m g ∧ ∀ q, q < i → g q = 0) (2048 * (5 + (dirT t).length)) ⟨0, f0, by omega, rfl, MFr.refl, hf0, fun q z => absurd z (by omega)⟩ ?_
  rintro j x τ R ⟨i, g, h1, rfl, h3, h4, h5⟩ hR
  have hw := h3.mw hw0
  unfold wX9_design_B3
  rw [li_16, pk_sub (by omega), li_2048, pk_mul, show 2048 * (21 + (dirT t).length - 16) = 2048 * (5 + (dirT t).length) by omega, nI_leI (by omega) (by omega)]
  refine ⟨fun q => ?_, fun q => ?_⟩
  · have hie : i = 2048 * (5 + (dirT t).length) := by omega
    subst hie
    have hM : fI_ τ 8 1 m = nI n := by rw [h3.f (fun z => z)]; exact hn1
    simp (disch := omega) only [atg_sI, afI_sI, afL_sI, afR_sI, aln_sI, aaI_sI, aaL_sI, aaR_sI, anx_sI, abc_sI, abs_sI, alo_sI, atg_wI, afI_wI, afL_wI, afR_wI, aln_wI, aaI_wI, aaL_wI, aaR_wI, anx_wI, abc_wI, abs_wI, alo_wI, atg_wL, afI_wL, afL_wL, afR_wL, aln_wL, aaI_wL, aaL_wL, aaR_wL, anx_wL, abc_wL, abs_wL, alo_wL, u2_e, u2_r, u2_i, u3_e, u3_k, u3_c, u3_r, mw_tag hw, mw_lo hw, mw_loa hw, mf_3 hw, mt_3 hw, ml_3 hw, mf_4 hw, mt_4 hw, ml_4 hw, mf_5 hw, mt_5 hw, ml_5 hw, mf_9 hw, mt_9 hw, ml_9 hw, mf_11 hw, mt_11 hw, ml_11 hw, mf_12 hw, mt_12 hw, ml_12 hw, mf_13 hw, mt_13 hw, ml_13 hw, mf_14 hw, mt_14 hw, ml_14 hw, mf_15 hw, mt_15 hw, ml_15 hw, mf_16 hw, mt_16 hw, ml_16 hw, mf_17 hw, mt_17 hw, ml_17 hw, mf_18 hw, mt_18 hw, ml_18 hw, mf_19 hw, mt_19 hw, ml_19 hw, mf_21 hw, mt_21 hw, ml_21 hw, mf_24 hw, mt_24 hw, ml_24 hw, mf_25 hw, mt_25 hw, ml_25 hw, mf_26 hw, mt_26 hw, ml_26 hw, mf_29 hw, mt_29 hw, ml_29 hw, mf_30 hw, mt_30 hw, ml_30 hw, mf_31 hw, mt_31 hw, ml_31 hw, mf_32 hw, mt_32 hw, ml_32 hw, mf_33 hw, mt_33 hw, ml_33 hw, mf_34 hw, mt_34 hw, ml_34 hw, mf_36 hw, mt_36 hw, ml_36 hw, mf_37 hw, mt_37 hw, ml_37 hw, mf_38 hw, mt_38 hw, ml_38 hw, mf_39 hw, mt_39 hw, ml_39 hw, mf_40 hw, mt_40 hw, ml_40 hw, li_0, li_1, li_2, li_3, li_4, li_5, li_6, li_7, li_8, li_9, li_10, li_12, li_14, li_16, li_17, li_18, li_19, li_20, li_25, li_28, li_30, li_31, li_32, li_33, li_34, li_40, li_46, li_48, li_49, li_57, li_59, li_65, li_67, li_68, li_75, li_77, li_80, li_82, li_90, li_95, li_100, li_128, li_130, li_132, li_136, li_140, li_148, li_156, li_200, li_255, li_256, li_400, li_700, li_2047, li_2048, li_2049, li_2050, li_2054, li_2056, li_4096, li_6000, li_163840, li_409600, li_819200, nI_add, pk_mul, pk_sub, nI_leI, nI_ltI, nI_eq, nI_clamp, vin_t, forall_eq, true_and, and_true, forall_const, implies_true]
    rw [show vp_nar .byte (nI 1) = sb_b 1 from rfl]
    have f1 : MFr m σ (wI_ τ (m + 14) 0 (sb_b 1)) P14 N0 := by (repeat' first | with_reducible exact MFr.refl | with_reducible assumption | with_reducible apply MFr.wI' | with_reducible apply MFr.wL' | with_reducible apply MFr.sI' | omega | trivial | exact ⟨by omega, by omega⟩ | exact rfl)
    have p1 := PL_w (p := 0) (c := 1) h4
    refine m_letters (f1.mw hw0) p1 (by omega) (fun σ2 a2 b2 => ?_)
    rw [ov_app (f := g) (p := 0) (q := 1) (a := [1]) rfl] at b2
    have f2 := f1.trans a2
    have hw := f2.mw hw0
    simp (disch := omega) only [atg_sI, afI_sI, afL_sI, afR_sI, aln_sI, aaI_sI, aaL_sI, aaR_sI, anx_sI, abc_sI, abs_sI, alo_sI, atg_wI, afI_wI, afL_wI, afR_wI, aln_wI, aaI_wI, aaL_wI, aaR_wI, anx_wI, abc_wI, abs_wI, alo_wI, atg_wL, afI_wL, afL_wL, afR_wL, aln_wL, aaI_wL, aaL_wL, aaR_wL, anx_wL, abc_wL, abs_wL, alo_wL, u2_e, u2_r, u2_i, u3_e, u3_k, u3_c, u3_r, mw_tag hw, mw_lo hw, mw_loa hw, mf_3 hw, mt_3 hw, ml_3 hw, mf_4 hw, mt_4 hw, ml_4 hw, mf_5 hw, mt_5 hw, ml_5 hw, mf_9 hw, mt_9 hw, ml_9 hw, mf_11 hw, mt_11 hw, ml_11 hw, mf_12 hw, mt_12 hw, ml_12 hw, mf_13 hw, mt_13 hw, ml_13 hw, mf_14 hw, mt_14 hw, ml_14 hw, mf_15 hw, mt_15 hw, ml_15 hw, mf_16 hw, mt_16 hw, ml_16 hw, mf_17 hw, mt_17 hw, ml_17 hw, mf_18 hw, mt_18 hw, ml_18 hw, mf_19 hw, mt_19 hw, ml_19 hw, mf_21 hw, mt_21 hw, ml_21 hw, mf_24 hw, mt_24 hw, ml_24 hw, mf_25 hw, mt_25 hw, ml_25 hw, mf_26 hw, mt_26 hw, ml_26 hw, mf_29 hw, mt_29 hw, ml_29 hw, mf_30 hw, mt_30 hw, ml_30 hw, mf_31 hw, mt_31 hw, ml_31 hw, mf_32 hw, mt_32 hw, ml_32 hw, mf_33 hw, mt_33 hw, ml_33 hw, mf_34 hw, mt_34 hw, ml_34 hw, mf_36 hw, mt_36 hw, ml_36 hw, mf_37 hw, mt_37 hw, ml_37 hw, mf_38 hw, mt_38 hw, ml_38 hw, mf_39 hw, mt_39 hw, ml_39 hw, mf_40 hw, mt_40 hw, ml_40 hw, li_0, li_1, li_2, li_3, li_4, li_5, li_6, li_7, li_8, li_9, li_10, li_12, li_14, li_16, li_17, li_18, li_19, li_20, li_25, li_28, li_30, li_31, li_32, li_33, li_34, li_40, li_46, li_48, li_49, li_57, li_59, li_65, li_67, li_68, li_75, li_77, li_80, li_82, li_90, li_95, li_100, li_128, li_130, li_132, li_136, li_140, li_148, li_156, li_200, li_255, li_256, li_400, li_700, li_2047, li_2048, li_2049, li_2050, li_2054, li_2056, li_4096, li_6000, li_163840, li_409600, li_819200, nI_add, pk_mul, pk_sub, nI_leI, nI_ltI, nI_eq, nI_clamp, vin_t, forall_eq, true_and, and_true, forall_const, implies_true]
    have f3 : MFr m σ (wI_ σ2 (m + 14) 6 (sb_b 1)) P14 N0 := by (repeat' first | with_reducible exact MFr.refl | with_reducible assumption | with_reducible apply MFr.wI' | with_reducible apply MFr.wL' | with_reducible apply MFr.sI' | omega | trivial | exact ⟨by omega, by omega⟩ | exact rfl)
    have p3 := PL_w (p := 6) (c := 1) b2
    rw [ov_app (f := g) (p := 0) (q := 6) (a := [1] ++ [67, 68, 48, 48, 49]) rfl] at p3
    obtain ⟨A3, hA3⟩ : ∃ A, A = ([1] ++ [67, 68, 48, 48, 49] ++ [1] : List Nat) := ⟨_, rfl⟩
    have l3 : A3.length = 7 := by rw [hA3]; rfl
    rw [← hA3] at p3
    have hn3 : fI_ σ2 8 1 m = nI n := by rw [(a2.f (fun z => z) : fI_ σ2 8 1 m = _)]; exact hM
    rw [hn3]
    have gz : ∀ (A : List Nat) (q' : Nat), q' ≤ 2048 → ∀ i, 0 + A.length ≤ i → i < q' → g i = 0 := fun A q' hq' i _ z2 => h5 i (by omega)
    refine m_both (f3.mw hw0) p3 (by omega) (by omega) (by omega) (fun σ4 a4 b4 => ?_)
    rw [ov_gap' (f := g) (p := 0) (q := 80) (g := 73) (a := A3) (b := lowB 4 n) (by omega) (gz _ _ (by omega)), ov_app (f := g) (p := 0) (q := 80 + 4) (b := highB 4 n) (by simp [l3, lowB_len])] at b4
    obtain ⟨A4, hA4⟩ : ∃ A, A = A3 ++ (List.replicate 73 0 ++ lowB 4 n) ++ highB 4 n := ⟨_, rfl⟩
    have l4 : A4.length = 88 := by rw [hA4]; simp [l3, lowB_len, highB_len]
    rw [← hA4] at b4
    have f4 := f3.trans a4
    refine ⟨mw_tag (f4.mw hw0), m_both (f4.mw hw0) b4 (by omega) (by omega) (by omega) (fun σ5 a5 b5 => ?_)⟩
    rw [ov_gap' (f := g) (p := 0) (q := 128) (g := 40) (a := A4) (b := lowB 2 2048) (by omega) (gz _ _ (by omega)), ov_app (f := g) (p := 0) (q := 128 + 2) (b := highB 2 2048) (by simp [l4, lowB_len])] at b5
    obtain ⟨A5, hA5⟩ : ∃ A, A = A4 ++ (List.replicate 40 0 ++ lowB 2 2048) ++ highB 2 2048 := ⟨_, rfl⟩
    have l5 : A5.length = 132 := by rw [hA5]; simp [l4, lowB_len, highB_len]
    rw [← hA5] at b5
    have f5 := f4.trans a5
    refine ⟨mw_tag (f5.mw hw0), m_low (f5.mw hw0) b5 (by omega) (by omega) (by omega) (fun σ6 a6 b6 => ?_)⟩
    rw [ov_gap' (f := g) (p := 0) (q := 140) (g := 8) (a := A5) (b := lowB 4 (base + 18)) (by omega) (gz _ _ (by omega))] at b6
    obtain ⟨A6, hA6⟩ : ∃ A, A = A5 ++ (List.replicate 8 0 ++ lowB 4 (base + 18)) := ⟨_, rfl⟩
    have l6 : A6.length = 144 := by rw [hA6]; simp [l5, lowB_len]
    rw [← hA6] at b6
    have f6 := f5.trans a6
    refine ⟨mw_tag (f6.mw hw0), m_high (f6.mw hw0) b6 (by omega) (by omega) (by omega) (fun σ7 a7 b7 => ?_)⟩
    rw [ov_gap' (f := g) (p := 0) (q := 148) (g := 4) (a := A6) (b := highB 4 (base + 19)) (by omega) (gz _ _ (by omega))] at b7
    obtain ⟨A7, hA7⟩ : ∃ A, A = A6 ++ (List.replicate 4 0 ++ highB 4 (base + 19)) := ⟨_, rfl⟩
    have l7 : A7.length = 152 := by rw [hA7]; simp [l6, highB_len]
    rw [← hA7] at b7
    have f7 := f6.trans a7
    have hroot : 0 ∈ dirT t := by
      have h0 : (dirT t).getD 0 1 = 0 := (dirT_ok ok).2.1
      rw [← h0]; exact getD_mem (by have := (dirT_ok ok).2.2.1; omega)
    obtain ⟨⟨r1, r2⟩, r3⟩ := dirT_mem ok hroot
    refine ⟨mw_tag (f7.mw hw0), m_record (tb := dirT t) (base := base) (f7.mw hw0) (hT.f14 f7) ok b7 (hA.f14 f7) hb hl (by omega) r1 r2 (fun _ => hroot) (by omega) (fun i i1 i2 => ?_) (fun σ8 a8 b8 => ?_)⟩
    · have : ev (33 + (if 0 < 2 then [0] else tI t 0).length) = 34 := by simp [ev]
      rw [this] at i2
      rw [ov_out (by omega)]
      exact h5 i (by omega)
    · have b8' : PL σ8 m (ov (ov g 0 A7) 156 (recS t (dirT t) base 0 0)) := b8
      rw [ov_gap' (f := g) (p := 0) (q := 156) (g := 4) (a := A7) (by omega) (gz _ _ (by omega))] at b8'
      have hD0 : A7 ++ (List.replicate 4 0 ++ recS t (dirT t) base 0 0) = D0L n t (dirT t) base := by
        rw [hA7, hA6, hA5, hA4, hA3]
        unfold D0L
        simp only [List.append_assoc, List.cons_append, List.nil_append]
      rw [hD0] at b8'
      have f8 := f7.trans a8
      have hw := f8.mw hw0
      simp (disch := omega) only [atg_sI, afI_sI, afL_sI, afR_sI, aln_sI, aaI_sI, aaL_sI, aaR_sI, anx_sI, abc_sI, abs_sI, alo_sI, atg_wI, afI_wI, afL_wI, afR_wI, aln_wI, aaI_wI, aaL_wI, aaR_wI, anx_wI, abc_wI, abs_wI, alo_wI, atg_wL, afI_wL, afL_wL, afR_wL, aln_wL, aaI_wL, aaL_wL, aaR_wL, anx_wL, abc_wL, abs_wL, alo_wL, u2_e, u2_r, u2_i, u3_e, u3_k, u3_c, u3_r, mw_tag hw, mw_lo hw, mw_loa hw, mf_3 hw, mt_3 hw, ml_3 hw, mf_4 hw, mt_4 hw, ml_4 hw, mf_5 hw, mt_5 hw, ml_5 hw, mf_9 hw, mt_9 hw, ml_9 hw, mf_11 hw, mt_11 hw, ml_11 hw, mf_12 hw, mt_12 hw, ml_12 hw, mf_13 hw, mt_13 hw, ml_13 hw, mf_14 hw, mt_14 hw, ml_14 hw, mf_15 hw, mt_15 hw, ml_15 hw, mf_16 hw, mt_16 hw, ml_16 hw, mf_17 hw, mt_17 hw, ml_17 hw, mf_18 hw, mt_18 hw, ml_18 hw, mf_19 hw, mt_19 hw, ml_19 hw, mf_21 hw, mt_21 hw, ml_21 hw, mf_24 hw, mt_24 hw, ml_24 hw, mf_25 hw, mt_25 hw, ml_25 hw, mf_26 hw, mt_26 hw, ml_26 hw, mf_29 hw, mt_29 hw, ml_29 hw, mf_30 hw, mt_30 hw, ml_30 hw, mf_31 hw, mt_31 hw, ml_31 hw, mf_32 hw, mt_32 hw, ml_32 hw, mf_33 hw, mt_33 hw, ml_33 hw, mf_34 hw, mt_34 hw, ml_34 hw, mf_36 hw, mt_36 hw, ml_36 hw, mf_37 hw, mt_37 hw, ml_37 hw, mf_38 hw, mt_38 hw, ml_38 hw, mf_39 hw, mt_39 hw, ml_39 hw, mf_40 hw, mt_40 hw, ml_40 hw, li_0, li_1, li_2, li_3, li_4, li_5, li_6, li_7, li_8, li_9, li_10, li_12, li_14, li_16, li_17, li_18, li_19, li_20, li_25, li_28, li_30, li_31, li_32, li_33, li_34, li_40, li_46, li_48, li_49, li_57, li_59, li_65, li_67, li_68, li_75, li_77, li_80, li_82, li_90, li_95, li_100, li_128, li_130, li_132, li_136, li_140, li_148, li_156, li_200, li_255, li_256, li_400, li_700, li_2047, li_2048, li_2049, li_2050, li_2054, li_2056, li_4096, li_6000, li_163840, li_409600, li_819200, nI_add, pk_mul, pk_sub, nI_leI, nI_ltI, nI_eq, nI_clamp, vin_t, forall_eq, true_and, and_true, forall_const, implies_true]
      rw [show vp_nar .byte (-nI 1) = sb_b 255 from by decide]
      have f9 : MFr m σ (wI_ σ8 (m + 14) 2048 (sb_b 255)) P14 N0 := by (repeat' first | with_reducible exact MFr.refl | with_reducible assumption | with_reducible apply MFr.wI' | with_reducible apply MFr.wL' | with_reducible apply MFr.sI' | omega | trivial | exact ⟨by omega, by omega⟩ | exact rfl)
      have p9 := PL_w (p := 2048) (c := 255) b8'
      refine m_letters (f9.mw hw0) p9 (by omega) (fun σ10 a10 b10 => ?_)
      rw [ov_app (f := ov g 0 (D0L n t (dirT t) base)) (p := 2048) (q := 2049) (a := [255]) rfl] at b10
      have f10 := f9.trans a10
      have hw := f10.mw hw0
      simp (disch := omega) only [atg_sI, afI_sI, afL_sI, afR_sI, aln_sI, aaI_sI, aaL_sI, aaR_sI, anx_sI, abc_sI, abs_sI, alo_sI, atg_wI, afI_wI, afL_wI, afR_wI, aln_wI, aaI_wI, aaL_wI, aaR_wI, anx_wI, abc_wI, abs_wI, alo_wI, atg_wL, afI_wL, afL_wL, afR_wL, aln_wL, aaI_wL, aaL_wL, aaR_wL, anx_wL, abc_wL, abs_wL, alo_wL, u2_e, u2_r, u2_i, u3_e, u3_k, u3_c, u3_r, mw_tag hw, mw_lo hw, mw_loa hw, mf_3 hw, mt_3 hw, ml_3 hw, mf_4 hw, mt_4 hw, ml_4 hw, mf_5 hw, mt_5 hw, ml_5 hw, mf_9 hw, mt_9 hw, ml_9 hw, mf_11 hw, mt_11 hw, ml_11 hw, mf_12 hw, mt_12 hw, ml_12 hw, mf_13 hw, mt_13 hw, ml_13 hw, mf_14 hw, mt_14 hw, ml_14 hw, mf_15 hw, mt_15 hw, ml_15 hw, mf_16 hw, mt_16 hw, ml_16 hw, mf_17 hw, mt_17 hw, ml_17 hw, mf_18 hw, mt_18 hw, ml_18 hw, mf_19 hw, mt_19 hw, ml_19 hw, mf_21 hw, mt_21 hw, ml_21 hw, mf_24 hw, mt_24 hw, ml_24 hw, mf_25 hw, mt_25 hw, ml_25 hw, mf_26 hw, mt_26 hw, ml_26 hw, mf_29 hw, mt_29 hw, ml_29 hw, mf_30 hw, mt_30 hw, ml_30 hw, mf_31 hw, mt_31 hw, ml_31 hw, mf_32 hw, mt_32 hw, ml_32 hw, mf_33 hw, mt_33 hw, ml_33 hw, mf_34 hw, mt_34 hw, ml_34 hw, mf_36 hw, mt_36 hw, ml_36 hw, mf_37 hw, mt_37 hw, ml_37 hw, mf_38 hw, mt_38 hw, ml_38 hw, mf_39 hw, mt_39 hw, ml_39 hw, mf_40 hw, mt_40 hw, ml_40 hw, li_0, li_1, li_2, li_3, li_4, li_5, li_6, li_7, li_8, li_9, li_10, li_12, li_14, li_16, li_17, li_18, li_19, li_20, li_25, li_28, li_30, li_31, li_32, li_33, li_34, li_40, li_46, li_48, li_49, li_57, li_59, li_65, li_67, li_68, li_75, li_77, li_80, li_82, li_90, li_95, li_100, li_128, li_130, li_132, li_136, li_140, li_148, li_156, li_200, li_255, li_256, li_400, li_700, li_2047, li_2048, li_2049, li_2050, li_2054, li_2056, li_4096, li_6000, li_163840, li_409600, li_819200, nI_add, pk_mul, pk_sub, nI_leI, nI_ltI, nI_eq, nI_clamp, vin_t, forall_eq, true_and, and_true, forall_const, implies_true]
      have f11 : MFr m σ (wI_ σ10 (m + 14) 2054 (sb_b 1)) P14 N0 := by (repeat' first | with_reducible exact MFr.refl | with_reducible assumption | with_reducible apply MFr.wI' | with_reducible apply MFr.wL' | with_reducible apply MFr.sI' | omega | trivial | exact ⟨by omega, by omega⟩ | exact rfl)
      have p11 := PL_w (p := 2054) (c := 1) b10
      rw [ov_app (f := ov g 0 (D0L n t (dirT t) base)) (p := 2048) (q := 2054) (a := [255] ++ [67, 68, 48, 48, 49]) rfl] at p11
      have lD : (D0L n t (dirT t) base).length = 190 := by rw [← hD0]; simp [l7, recS_len]
      refine m_des158 (f11.mw hw0) (hT.f14 f11) ok hb hnum p11 (hD.f14 f11) (hA.f14 f11) ⟨fun q hq => ?_, fun q hq => ?_, fun q hq => ?_, fun q hq => ?_, fun i' z => absurd z (by omega), fun q z1 z2 => ?_⟩ (fun σ' y1 y2 => k σ' (f11.trans y1) y2)
      · rw [ov_out (by omega)]
        unfold ov pz
        split
        · rw [Nat.sub_zero]
        · rename_i z
          rw [h5 q (by omega), List.getD_eq_getElem?_getD, List.getElem?_eq_none (by omega)]; rfl
      · rw [ov_win (Nat.le_refl _), Nat.sub_self]
        unfold ov pz
        split
        · rw [Nat.sub_zero]; rfl
        · rename_i z
          show (if 0 ≤ 2048 + q ∧ 2048 + q < 0 + (D0L n t (dirT t) base).length then (D0L n t (dirT t) base).getD (2048 + q - 0) 0 else g (2048 + q)) = _
          rw [if_neg (by omega), h5 _ (by omega)]
          rw [List.getD_eq_getElem?_getD, List.getElem?_eq_none (by simp at z ⊢; omega)]; rfl
      · rw [ov_out (by simp; omega), ov_out (by omega), h5 _ (by omega)]; simp [ptT, pz]
      · rw [ov_out (by simp; omega), ov_out (by omega), h5 _ (by omega)]; simp [ptT, pz]
      · rw [ov_out (by simp; omega), ov_out (by omega), h5 _ (by omega)]
  · simp (disch := omega) only [atg_sI, afI_sI, afL_sI, afR_sI, aln_sI, aaI_sI, aaL_sI, aaR_sI, anx_sI, abc_sI, abs_sI, alo_sI, atg_wI, afI_wI, afL_wI, afR_wI, aln_wI, aaI_wI, aaL_wI, aaR_wI, anx_wI, abc_wI, abs_wI, alo_wI, atg_wL, afI_wL, afL_wL, afR_wL, aln_wL, aaI_wL, aaL_wL, aaR_wL, anx_wL, abc_wL, abs_wL, alo_wL, u2_e, u2_r, u2_i, u3_e, u3_k, u3_c, u3_r, mw_tag hw, mw_lo hw, mw_loa hw, mf_3 hw, mt_3 hw, ml_3 hw, mf_4 hw, mt_4 hw, ml_4 hw, mf_5 hw, mt_5 hw, ml_5 hw, mf_9 hw, mt_9 hw, ml_9 hw, mf_11 hw, mt_11 hw, ml_11 hw, mf_12 hw, mt_12 hw, ml_12 hw, mf_13 hw, mt_13 hw, ml_13 hw, mf_14 hw, mt_14 hw, ml_14 hw, mf_15 hw, mt_15 hw, ml_15 hw, mf_16 hw, mt_16 hw, ml_16 hw, mf_17 hw, mt_17 hw, ml_17 hw, mf_18 hw, mt_18 hw, ml_18 hw, mf_19 hw, mt_19 hw, ml_19 hw, mf_21 hw, mt_21 hw, ml_21 hw, mf_24 hw, mt_24 hw, ml_24 hw, mf_25 hw, mt_25 hw, ml_25 hw, mf_26 hw, mt_26 hw, ml_26 hw, mf_29 hw, mt_29 hw, ml_29 hw, mf_30 hw, mt_30 hw, ml_30 hw, mf_31 hw, mt_31 hw, ml_31 hw, mf_32 hw, mt_32 hw, ml_32 hw, mf_33 hw, mt_33 hw, ml_33 hw, mf_34 hw, mt_34 hw, ml_34 hw, mf_36 hw, mt_36 hw, ml_36 hw, mf_37 hw, mt_37 hw, ml_37 hw, mf_38 hw, mt_38 hw, ml_38 hw, mf_39 hw, mt_39 hw, ml_39 hw, mf_40 hw, mt_40 hw, ml_40 hw, li_0, li_1, li_2, li_3, li_4, li_5, li_6, li_7, li_8, li_9, li_10, li_12, li_14, li_16, li_17, li_18, li_19, li_20, li_25, li_28, li_30, li_31, li_32, li_33, li_34, li_40, li_46, li_48, li_49, li_57, li_59, li_65, li_67, li_68, li_75, li_77, li_80, li_82, li_90, li_95, li_100, li_128, li_130, li_132, li_136, li_140, li_148, li_156, li_200, li_255, li_256, li_400, li_700, li_2047, li_2048, li_2049, li_2050, li_2054, li_2056, li_4096, li_6000, li_163840, li_409600, li_819200, nI_add, pk_mul, pk_sub, nI_leI, nI_ltI, nI_eq, nI_clamp, vin_t, forall_eq, true_and, and_true, forall_const, implies_true]
    rw [show vp_nar .byte (nI 0) = sb_b 0 from rfl]
    refine hR (j - 1) _ _ (by omega) ⟨i + 1, ov g i [0], by omega, rfl, by (repeat' first | with_reducible exact MFr.refl | with_reducible assumption | with_reducible apply MFr.wI' | with_reducible apply MFr.wL' | with_reducible apply MFr.sI' | omega | trivial | exact ⟨by omega, by omega⟩ | exact rfl), PL_w h4, fun w z => ?_⟩
    by_cases e : w = i
    · subst e
      have := ov_in (f := g) (p := w) (i := 0) (l := [0]) (by simp)
      rw [Nat.add_zero] at this
      rw [this]; rfl
    · rw [ov_out (by simp; omega)]; exact h5 w (by omega)
end
