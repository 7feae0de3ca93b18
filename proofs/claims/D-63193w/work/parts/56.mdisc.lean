/-! the reference opens a session, and discovers -/
theorem nar_bool {a : Nat} (h : a ≤ 1) : vp_nar .boolean (nI a) = nI a := by
  rcases (show a = 0 ∨ a = 1 by omega) with e | e <;> rw [e] <;> rfl
section
variable {m : Nat} {σ σ' : Hp} {P : Nat → Nat → Prop} {Q : Nat → Prop}
theorem MFr.wI' {j i : Nat} {v : Int32} (f : MFr m σ σ' P Q) (h1 : 1 ≤ j) (h2 : j ≤ 28) (h : P j i) : MFr m σ (wI_ σ' (m + j) i v) P Q := f.trans (MFr.wI h1 h2 h)
theorem MFr.wL' {j i : Nat} {v : Int64} (f : MFr m σ σ' P Q) (h1 : 1 ≤ j) (h2 : j ≤ 28) (h : P j i) : MFr m σ (wL_ σ' (m + j) i v) P Q := f.trans (MFr.wL h1 h2 h)
theorem MFr.sI' {k : Nat} {v : Int32} (f : MFr m σ σ' P Q) (h : Q k) : MFr m σ (sI_ σ' 8 k m v) P Q := f.trans (MFr.sI h)
end
section
variable {σ : Hp} {m : Nat} {S : AS}
def PO : Nat → Nat → Prop := fun j _ => 24 ≤ j ∧ j ≤ 28
theorem m_open52 {n : Nat} (hw : MW σ m) {F : List FT} (hF : ∀ k, k < F.length → SFd σ m k (gF F k) ∧ fd_ (gF F k) ≤ 1) (hl : F.length ≤ 30) (h35 : fI_ σ 8 35 m = nI F.length) {x : Int32} {post : Int32 → Hp → Prop} (k : ∀ σ', MFr m σ σ' PO N0 → MO σ' m F → post x σ') : wX9_open_L52 post m x 0 σ := by
  unfold wX9_open_L52
  refine lpG2 (B := fun R x4 τ => wX9_open_B52 post R m x x4 τ) (fun j x4 τ => ∃ q, q + j = F.length ∧ x4 = nI q ∧ MFr m σ τ PO N0 ∧ ∀ i, i < q → OFd τ m i (gF F i)) F.length ⟨0, by omega, rfl, MFr.refl, fun i hi => absurd hi (by omega)⟩ ?_
  rintro j x4 τ R ⟨q, h1, rfl, h3, h4⟩ hR
  have e35 : fI_ τ 8 35 m = nI F.length := by rw [h3.f (fun z => z)]; exact h35
  have hw := h3.mw hw
  unfold wX9_open_B52
  simp (disch := omega) only [atg_sI, afI_sI, afL_sI, afR_sI, aln_sI, aaI_sI, aaL_sI, aaR_sI, anx_sI, abc_sI, abs_sI, alo_sI, atg_wI, afI_wI, afL_wI, afR_wI, aln_wI, aaI_wI, aaL_wI, aaR_wI, anx_wI, abc_wI, abs_wI, alo_wI, atg_wL, afI_wL, afL_wL, afR_wL, aln_wL, aaI_wL, aaL_wL, aaR_wL, anx_wL, abc_wL, abs_wL, alo_wL, u2_e, u2_r, u2_i, u3_e, u3_k, u3_c, u3_r, mw_tag hw, mw_lo hw, mw_loa hw, mf_3 hw, mt_3 hw, ml_3 hw, mf_4 hw, mt_4 hw, ml_4 hw, mf_5 hw, mt_5 hw, ml_5 hw, mf_9 hw, mt_9 hw, ml_9 hw, mf_11 hw, mt_11 hw, ml_11 hw, mf_12 hw, mt_12 hw, ml_12 hw, mf_13 hw, mt_13 hw, ml_13 hw, mf_14 hw, mt_14 hw, ml_14 hw, mf_15 hw, mt_15 hw, ml_15 hw, mf_16 hw, mt_16 hw, ml_16 hw, mf_17 hw, mt_17 hw, ml_17 hw, mf_18 hw, mt_18 hw, ml_18 hw, mf_19 hw, mt_19 hw, ml_19 hw, mf_21 hw, mt_21 hw, ml_21 hw, mf_24 hw, mt_24 hw, ml_24 hw, mf_25 hw, mt_25 hw, ml_25 hw, mf_26 hw, mt_26 hw, ml_26 hw, mf_29 hw, mt_29 hw, ml_29 hw, mf_30 hw, mt_30 hw, ml_30 hw, mf_31 hw, mt_31 hw, ml_31 hw, mf_32 hw, mt_32 hw, ml_32 hw, mf_33 hw, mt_33 hw, ml_33 hw, mf_34 hw, mt_34 hw, ml_34 hw, mf_36 hw, mt_36 hw, ml_36 hw, mf_37 hw, mt_37 hw, ml_37 hw, mf_38 hw, mt_38 hw, ml_38 hw, mf_39 hw, mt_39 hw, ml_39 hw, mf_40 hw, mt_40 hw, ml_40 hw, li_0, li_1, li_2, li_3, li_4, li_5, li_6, li_7, li_8, li_9, li_10, li_12, li_14, li_16, li_17, li_18, li_19, li_20, li_25, li_28, li_30, li_31, li_32, li_33, li_34, li_40, li_46, li_48, li_49, li_57, li_59, li_65, li_67, li_68, li_75, li_77, li_80, li_82, li_90, li_95, li_100, li_128, li_130, li_132, li_136, li_140, li_148, li_156, li_200, li_255, li_256, li_400, li_700, li_2047, li_2048, li_2049, li_2050, li_2054, li_2056, li_4096, li_6000, li_163840, li_409600, li_819200, nI_add, pk_mul, pk_sub, nI_leI, nI_ltI, nI_eq, nI_clamp, vin_t, forall_eq, true_and, and_true, forall_const, implies_true, e35]
  refine ⟨fun a => k τ h3 ⟨e35, fun i hi => h4 i (by omega)⟩, fun a => ?_⟩
  obtain ⟨⟨a1, a2, a3, a4, a5, a6⟩, ad⟩ := hF q (by omega)
  have hp : ∀ j i, j ≤ 23 → ¬ PO j i := fun j i hj z => by unfold PO at z; omega
  rw [h3.a (hp 18 q (by omega)), h3.a (hp 19 q (by omega)), h3.a (hp 20 q (by omega)), h3.a (hp 21 q (by omega)), h3.l (hp 22 q (by omega)), a1, a2, a3, a4, a5, nar_bool ad]
  refine hR (j - 1) _ _ (by omega) ⟨q + 1, by omega, rfl, by (repeat' first | with_reducible exact MFr.refl | with_reducible assumption | with_reducible apply MFr.wI' | with_reducible apply MFr.wL' | with_reducible apply MFr.sI' | omega | trivial | exact ⟨by omega, by omega⟩ | exact rfl), fun i hi => ?_⟩
  by_cases e : i = q
  · subst e
    unfold OFd
    simp (disch := omega) only [atg_sI, afI_sI, afL_sI, afR_sI, aln_sI, aaI_sI, aaL_sI, aaR_sI, anx_sI, abc_sI, abs_sI, alo_sI, atg_wI, afI_wI, afL_wI, afR_wI, aln_wI, aaI_wI, aaL_wI, aaR_wI, anx_wI, abc_wI, abs_wI, alo_wI, atg_wL, afI_wL, afL_wL, afR_wL, aln_wL, aaI_wL, aaL_wL, aaR_wL, anx_wL, abc_wL, abs_wL, alo_wL, u2_e, u2_r, u2_i, u3_e, u3_k, u3_c, u3_r]
    exact ⟨trivial, trivial, trivial, trivial, trivial⟩
  · obtain ⟨b1, b2, b3, b4, b5⟩ := h4 i (by omega)
    unfold OFd
    simp (disch := omega) only [atg_sI, afI_sI, afL_sI, afR_sI, aln_sI, aaI_sI, aaL_sI, aaR_sI, anx_sI, abc_sI, abs_sI, alo_sI, atg_wI, afI_wI, afL_wI, afR_wI, aln_wI, aaI_wI, aaL_wI, aaR_wI, anx_wI, abc_wI, abs_wI, alo_wI, atg_wL, afI_wL, afL_wL, afR_wL, aln_wL, aaI_wL, aaL_wL, aaR_wL, anx_wL, abc_wL, abs_wL, alo_wL, u2_e, u2_r, u2_i, u3_e, u3_k, u3_c, u3_r]
    exact ⟨b1, b2, b3, b4, b5⟩
theorem M_open (h : MI σ m S) {x : Int32} {post : Int32 → Hp → Prop} (k : ∀ σ', MI σ' m (opOpen S x).2 → MFr m σ σ' TP TQ → post (opOpen S x).1 σ') : wX9_open m x σ post := by
  obtain ⟨⟨sd, hM⟩, -⟩ := id h
  have hn := hM.2.1.2.1
  unfold wX9_open wX9_open_L46
  refine ⟨mw_tag hM.1, fun σ2 e2 => ?_⟩
  have f2 : MFr m σ σ2 PX QX := by rw [e2]; exact MFr.thr
  have h2 := h.fr f2
  unfold opOpen at k
  refine M_markAt h2 (fun i s hi hg hm hs => ⟨fun _ => ?_, fun z => absurd (nI_pos' (by omega)) z⟩) (fun hi => ⟨fun z => absurd z (by decide), fun _ => ?_⟩)
  · rw [hi] at k
    simp only [hg] at k
    obtain ⟨⟨sd2, hM2⟩, -⟩ := id h2
    simp only [li_2048, li_4, pk_mul, nI_add]
    have fin : ∀ (F : List FT) (τ : Hp) (r : Int32), MI τ m S → MFr m σ τ TP TQ → (∀ k, k < F.length → SFd τ m k (gF F k) ∧ fd_ (gF F k) ≤ 1) → F.length ≤ 30 → r = rdA (sRd S s) → F = okF (sRd S s) → tg_ τ m = 9 ∧ (∀ σ33, σ33 = sI_ τ 8 35 m (nI F.length) → wX9_open_L52 post m r 0 σ33) := by
      intro F τ r g1 g2 g3 g4 g5 g6
      obtain ⟨⟨sd3, hM3⟩, hP3, hT3, hO3⟩ := id g1
      refine ⟨mw_tag hM3.1, fun σ33 e33 => ?_⟩
      have f3 : MFr m τ σ33 (fun _ _ => False) (fun k => k = 35) := by rw [e33]; exact MFr.sI rfl
      refine m_open52 (n := sN S) (f3.mw hM3.1) (fun k hk => ⟨?_, (g3 k hk).2⟩) g4 (by rw [e33, afI_sI, u3_e]) (fun σ' f4 hO => ?_)
      · rw [e33]; exact (g3 k hk).1
      · rw [← g6] at k
        rw [g5]
        have f5 : MFr m τ σ' (fun j i => PO j i) (fun k => k = 35) := (f3.mono (fun _ _ z => z.elim) (fun _ z => z)).trans (f4.mono (fun _ _ z => z) (fun _ z => z.elim))
        exact k σ' ⟨⟨sd3, f5.med hM3 (by omega) (by omega) (fun i z => by unfold PO at z; omega) (fun i z => by unfold PO at z; omega)⟩, hP3.fr f5 (fun k hk z => by omega) (fun i z => by unfold PO at z; omega), hT3.fr f5 (by omega) (fun j i a b z => by unfold PO at z; omega), hO⟩ (g2.trans f5.tt)
    have hlt := hm.2.2.2.2.2.1
    refine m_lowAt hM2 (by omega) (by omega) (M_look h2 hs hm (fun F σ' a1 a2 a3 a4 a5 => ⟨fun _ => ?_, fun z => absurd (nI_pos' (by have := a5.1.2; omega)) z⟩) (fun w σ' a1 a2 a3 a4 => ⟨fun z => absurd (rdA_neg a4) (Int32.not_lt.mpr z), fun _ => ?_⟩))
    · exact fin F σ' _ a2 (f2.tt.trans a3.tt) (fun k hk => ⟨a4.2 k hk, (a5.2.1 k hk).1.1⟩) a5.1.2 (by rw [a1]; rfl) (by rw [a1]; rfl)
    · exact fin [] σ' _ a2 (f2.tt.trans a3.tt) (fun k hk => absurd hk (by simp)) (by simp) (by rw [a1]; rfl) (by rw [a1]; rfl)
  · rw [hi] at k
    exact k σ2 h2 f2.tt
def PT : Nat → Nat → Prop := fun j _ => 5 ≤ j ∧ j ≤ 12
theorem m_disc154 (hw : MW σ m) {n : Nat} {F : List FT} (hF : ∀ k, k < F.length → SFd σ m k (gF F k)) (hok : FOK n F) (h10 : fI_ σ 8 10 m = nI F.length) (h0 : aI_ σ (m + 5) 0 = 1) (h0k : MTk σ m (treeOf F) 0) {x : Int32} {post : Int32 → Hp → Prop} (k : ∀ σ', MFr m σ σ' PT N0 → MT σ' m (treeOf F) → post x σ') : wX9_discover_L154 post m x 1 σ := by
  have hl := hok.1
  unfold wX9_discover_L154
  refine lpG2 (B := fun R x3 τ => wX9_discover_B154 post R m x x3 τ) (fun j x3 τ => ∃ q, q + j = F.length ∧ 1 ≤ q ∧ x3 = nI q ∧ MFr m σ τ PT N0 ∧ ∀ i, i < q → aI_ τ (m + 5) i = 1 ∧ MTk τ m (treeOf F) i) (F.length - 1) ⟨1, by omega, by omega, rfl, MFr.refl, fun i hi => by rw [show i = 0 by omega]; exact ⟨h0, h0k⟩⟩ ?_
  rintro j x3 τ R ⟨q, h1, h2, rfl, h3, h4⟩ hR
  have e10 : fI_ τ 8 10 m = nI F.length := by rw [h3.f (fun z => z)]; exact h10
  have hw := h3.mw hw
  unfold wX9_discover_B154 wX9_discover_L229 wX9_discover_L249 wX9_discover_L281
  simp (disch := omega) only [atg_sI, afI_sI, afL_sI, afR_sI, aln_sI, aaI_sI, aaL_sI, aaR_sI, anx_sI, abc_sI, abs_sI, alo_sI, atg_wI, afI_wI, afL_wI, afR_wI, aln_wI, aaI_wI, aaL_wI, aaR_wI, anx_wI, abc_wI, abs_wI, alo_wI, atg_wL, afI_wL, afL_wL, afR_wL, aln_wL, aaI_wL, aaL_wL, aaR_wL, anx_wL, abc_wL, abs_wL, alo_wL, u2_e, u2_r, u2_i, u3_e, u3_k, u3_c, u3_r, mw_tag hw, mw_lo hw, mw_loa hw, mf_3 hw, mt_3 hw, ml_3 hw, mf_4 hw, mt_4 hw, ml_4 hw, mf_5 hw, mt_5 hw, ml_5 hw, mf_9 hw, mt_9 hw, ml_9 hw, mf_11 hw, mt_11 hw, ml_11 hw, mf_12 hw, mt_12 hw, ml_12 hw, mf_13 hw, mt_13 hw, ml_13 hw, mf_14 hw, mt_14 hw, ml_14 hw, mf_15 hw, mt_15 hw, ml_15 hw, mf_16 hw, mt_16 hw, ml_16 hw, mf_17 hw, mt_17 hw, ml_17 hw, mf_18 hw, mt_18 hw, ml_18 hw, mf_19 hw, mt_19 hw, ml_19 hw, mf_21 hw, mt_21 hw, ml_21 hw, mf_24 hw, mt_24 hw, ml_24 hw, mf_25 hw, mt_25 hw, ml_25 hw, mf_26 hw, mt_26 hw, ml_26 hw, mf_29 hw, mt_29 hw, ml_29 hw, mf_30 hw, mt_30 hw, ml_30 hw, mf_31 hw, mt_31 hw, ml_31 hw, mf_32 hw, mt_32 hw, ml_32 hw, mf_33 hw, mt_33 hw, ml_33 hw, mf_34 hw, mt_34 hw, ml_34 hw, mf_36 hw, mt_36 hw, ml_36 hw, mf_37 hw, mt_37 hw, ml_37 hw, mf_38 hw, mt_38 hw, ml_38 hw, mf_39 hw, mt_39 hw, ml_39 hw, mf_40 hw, mt_40 hw, ml_40 hw, li_0, li_1, li_2, li_3, li_4, li_5, li_6, li_7, li_8, li_9, li_10, li_12, li_14, li_16, li_17, li_18, li_19, li_20, li_25, li_28, li_30, li_31, li_32, li_33, li_34, li_40, li_46, li_48, li_49, li_57, li_59, li_65, li_67, li_68, li_75, li_77, li_80, li_82, li_90, li_95, li_100, li_128, li_130, li_132, li_136, li_140, li_148, li_156, li_200, li_255, li_256, li_400, li_700, li_2047, li_2048, li_2049, li_2050, li_2054, li_2056, li_4096, li_6000, li_163840, li_409600, li_819200, nI_add, pk_mul, pk_sub, nI_leI, nI_ltI, nI_eq, nI_clamp, vin_t, forall_eq, true_and, and_true, forall_const, implies_true, e10]
  refine ⟨fun a => k τ h3 ⟨e10, fun i hi => ?_, fun i hi _ => (h4 i (by have : i < F.length := hi; omega)).2⟩, fun a => ?_⟩
  · have hi' : i < F.length := hi
    rw [(h4 i (by omega)).1]
    show _ = b2 (decide (i < F.length))
    rw [decide_eq_true hi']; rfl
  obtain ⟨a1, a2, a3, a4, a5, a6⟩ := hF q (by omega)
  have ad := (hok.2.1 q (by omega)).1.1
  have hp : ∀ j i, 13 ≤ j → ¬ PT j i := fun j i hj z => by unfold PT at z; omega
  rw [h3.a (hp 18 q (by omega)), h3.a (hp 19 q (by omega)), h3.a (hp 20 q (by omega)), h3.a (hp 21 q (by omega)), h3.l (hp 22 q (by omega)), a1, a2, a3, a4, a5, nar_bool ad]
  have fr : ∀ v1 v2 v3 v4 v6 v7 v8 v5, MFr m τ (wI_ (wI_ (wI_ (wI_ (wL_ (wI_ (wI_ (wI_ τ (m + 5) q v1) (m + 6) q v2) (m + 7) q v3) (m + 8) q v4) (m + 9) q v5) (m + 10) q v6) (m + 11) q v7) (m + 12) q v8) PT N0 := by
    intro v1 v2 v3 v4 v6 v7 v8 v5
    (repeat' first | with_reducible exact MFr.refl | with_reducible assumption | with_reducible apply MFr.wI' | with_reducible apply MFr.wL' | with_reducible apply MFr.sI' | omega | trivial | exact ⟨by omega, by omega⟩ | exact rfl)
  have fin : ∀ v5 v6 v8, v5 = nI (tS (treeOf F) q) → v6 = nI (tE (treeOf F) q) → v8 = nI (tX (treeOf F) q) → R (nI (q + 1)) (wI_ (wI_ (wI_ (wI_ (wL_ (wI_ (wI_ (wI_ τ (m + 5) q (vp_nar .boolean (nI 1))) (m + 6) q (nI (fd_ (gF F q)))) (m + 7) q (nI (fa_ (gF F q)))) (m + 8) q (lN (wd (fn_ (gF F q))))) (m + 9) q v5) (m + 10) q v6) (m + 11) q (vp_nar .boolean (nI 1))) (m + 12) q v8) := by
    intro v5 v6 v8 e5 e6 e8
    refine hR (j - 1) _ _ (by omega) ⟨q + 1, by omega, by omega, rfl, h3.trans (fr _ _ _ _ _ _ _ _), fun i hi => ?_⟩
    by_cases e : i = q
    · subst e
      unfold MTk
      simp (disch := omega) only [atg_sI, afI_sI, afL_sI, afR_sI, aln_sI, aaI_sI, aaL_sI, aaR_sI, anx_sI, abc_sI, abs_sI, alo_sI, atg_wI, afI_wI, afL_wI, afR_wI, aln_wI, aaI_wI, aaL_wI, aaR_wI, anx_wI, abc_wI, abs_wI, alo_wI, atg_wL, afI_wL, afL_wL, afR_wL, aln_wL, aaI_wL, aaL_wL, aaR_wL, anx_wL, abc_wL, abs_wL, alo_wL, u2_e, u2_r, u2_i, u3_e, u3_k, u3_c, u3_r]
      refine ⟨rfl, rfl, rfl, rfl, e5, e6, fun z1 z2 => ?_, e8⟩
      have z1' : fd_ (gF F i) = 0 := z1
      show vp_nar .boolean (nI 1) = b2 (decide (fd_ (gF F i) ≠ 1))
      rw [decide_eq_true (by omega)]; rfl
    · obtain ⟨c0, c1, c2, c3, c4, c5, c6, c7⟩ := h4 i (by omega)
      unfold MTk
      simp (disch := omega) only [atg_sI, afI_sI, afL_sI, afR_sI, aln_sI, aaI_sI, aaL_sI, aaR_sI, anx_sI, abc_sI, abs_sI, alo_sI, atg_wI, afI_wI, afL_wI, afR_wI, aln_wI, aaI_wI, aaL_wI, aaR_wI, anx_wI, abc_wI, abs_wI, alo_wI, atg_wL, afI_wL, afL_wL, afR_wL, aln_wL, aaI_wL, aaL_wL, aaR_wL, anx_wL, abc_wL, abs_wL, alo_wL, u2_e, u2_r, u2_i, u3_e, u3_k, u3_c, u3_r]
      exact ⟨c0, c1, c2, c3, c4, c5, c6, c7⟩
  simp (disch := omega) only [nI_eq]
  refine ⟨fun z => ⟨fun z2 => ⟨fun z3 => fin _ _ _ ?_ ?_ ?_, fun z3 => absurd z z3⟩, fun z2 => absurd z z2⟩, fun z => ⟨fun z2 => absurd z2 z, fun z2 => ⟨fun z3 => absurd z3 z, fun z3 => fin _ _ _ ?_ ?_ ?_⟩⟩⟩
  · show _ = nI (if fd_ (gF F q) = 1 then 0 else fs_ (gF F q)); rw [if_neg (by omega)]
  · show _ = nI (if fd_ (gF F q) = 1 then 0 else 4294967295); rw [if_neg (by omega)]; decide
  · show _ = nI (if fd_ (gF F q) = 1 then 0 else fx_ (gF F q)); rw [if_neg (by omega)]
  · show _ = nI (if fd_ (gF F q) = 1 then 0 else fs_ (gF F q)); rw [if_pos (by omega)]
  · show _ = nI (if fd_ (gF F q) = 1 then 0 else 4294967295); rw [if_pos (by omega)]
  · show _ = nI (if fd_ (gF F q) = 1 then 0 else fx_ (gF F q)); rw [if_pos (by omega)]
def QT : Nat → Prop := fun k => k = 10
/-- the root alone -/
theorem m_rootAlone (hw : MW σ m) {post : Hp → Prop} (k : ∀ σ', MFr m σ σ' PT QT → fI_ σ' 8 10 m = nI 1 → aI_ σ' (m + 5) 0 = 1 → (∀ F, tD (treeOf F) 0 = 1 → tP (treeOf F) 0 = 4294967295 → tM (treeOf F) 0 = [] → MTk σ' m (treeOf F) 0) → post σ') : wX9_rootAlone m σ post := by
  unfold wX9_rootAlone
  simp (disch := omega) only [atg_sI, afI_sI, afL_sI, afR_sI, aln_sI, aaI_sI, aaL_sI, aaR_sI, anx_sI, abc_sI, abs_sI, alo_sI, atg_wI, afI_wI, afL_wI, afR_wI, aln_wI, aaI_wI, aaL_wI, aaR_wI, anx_wI, abc_wI, abs_wI, alo_wI, atg_wL, afI_wL, afL_wL, afR_wL, aln_wL, aaI_wL, aaL_wL, aaR_wL, anx_wL, abc_wL, abs_wL, alo_wL, u2_e, u2_r, u2_i, u3_e, u3_k, u3_c, u3_r, mw_tag hw, mw_lo hw, mw_loa hw, mf_3 hw, mt_3 hw, ml_3 hw, mf_4 hw, mt_4 hw, ml_4 hw, mf_5 hw, mt_5 hw, ml_5 hw, mf_9 hw, mt_9 hw, ml_9 hw, mf_11 hw, mt_11 hw, ml_11 hw, mf_12 hw, mt_12 hw, ml_12 hw, mf_13 hw, mt_13 hw, ml_13 hw, mf_14 hw, mt_14 hw, ml_14 hw, mf_15 hw, mt_15 hw, ml_15 hw, mf_16 hw, mt_16 hw, ml_16 hw, mf_17 hw, mt_17 hw, ml_17 hw, mf_18 hw, mt_18 hw, ml_18 hw, mf_19 hw, mt_19 hw, ml_19 hw, mf_21 hw, mt_21 hw, ml_21 hw, mf_24 hw, mt_24 hw, ml_24 hw, mf_25 hw, mt_25 hw, ml_25 hw, mf_26 hw, mt_26 hw, ml_26 hw, mf_29 hw, mt_29 hw, ml_29 hw, mf_30 hw, mt_30 hw, ml_30 hw, mf_31 hw, mt_31 hw, ml_31 hw, mf_32 hw, mt_32 hw, ml_32 hw, mf_33 hw, mt_33 hw, ml_33 hw, mf_34 hw, mt_34 hw, ml_34 hw, mf_36 hw, mt_36 hw, ml_36 hw, mf_37 hw, mt_37 hw, ml_37 hw, mf_38 hw, mt_38 hw, ml_38 hw, mf_39 hw, mt_39 hw, ml_39 hw, mf_40 hw, mt_40 hw, ml_40 hw, li_0, li_1, li_2, li_3, li_4, li_5, li_6, li_7, li_8, li_9, li_10, li_12, li_14, li_16, li_17, li_18, li_19, li_20, li_25, li_28, li_30, li_31, li_32, li_33, li_34, li_40, li_46, li_48, li_49, li_57, li_59, li_65, li_67, li_68, li_75, li_77, li_80, li_82, li_90, li_95, li_100, li_128, li_130, li_132, li_136, li_140, li_148, li_156, li_200, li_255, li_256, li_400, li_700, li_2047, li_2048, li_2049, li_2050, li_2054, li_2056, li_4096, li_6000, li_163840, li_409600, li_819200, nI_add, pk_mul, pk_sub, nI_leI, nI_ltI, nI_eq, nI_clamp, vin_t, forall_eq, true_and, and_true, forall_const, implies_true]
  refine k _ (by (repeat' first | with_reducible exact MFr.refl | with_reducible assumption | with_reducible apply MFr.wI' | with_reducible apply MFr.wL' | with_reducible apply MFr.sI' | omega | trivial | exact ⟨by omega, by omega⟩ | exact rfl)) ?_ ?_ ?_
  · simp (disch := omega) only [atg_sI, afI_sI, afL_sI, afR_sI, aln_sI, aaI_sI, aaL_sI, aaR_sI, anx_sI, abc_sI, abs_sI, alo_sI, atg_wI, afI_wI, afL_wI, afR_wI, aln_wI, aaI_wI, aaL_wI, aaR_wI, anx_wI, abc_wI, abs_wI, alo_wI, atg_wL, afI_wL, afL_wL, afR_wL, aln_wL, aaI_wL, aaL_wL, aaR_wL, anx_wL, abc_wL, abs_wL, alo_wL, u2_e, u2_r, u2_i, u3_e, u3_k, u3_c, u3_r]
  · simp (disch := omega) only [atg_sI, afI_sI, afL_sI, afR_sI, aln_sI, aaI_sI, aaL_sI, aaR_sI, anx_sI, abc_sI, abs_sI, alo_sI, atg_wI, afI_wI, afL_wI, afR_wI, aln_wI, aaI_wI, aaL_wI, aaR_wI, anx_wI, abc_wI, abs_wI, alo_wI, atg_wL, afI_wL, afL_wL, afR_wL, aln_wL, aaI_wL, aaL_wL, aaR_wL, anx_wL, abc_wL, abs_wL, alo_wL, u2_e, u2_r, u2_i, u3_e, u3_k, u3_c, u3_r]; rfl
  · intro F h1 h2 h3
    have e1 : tS (treeOf F) 0 = 0 := by show (if fd_ (gF F 0) = 1 then 0 else _) = 0; rw [if_pos (show fd_ (gF F 0) = 1 from h1)]
    have e2 : tE (treeOf F) 0 = 0 := by show (if fd_ (gF F 0) = 1 then 0 else _) = 0; rw [if_pos (show fd_ (gF F 0) = 1 from h1)]
    have e3 : tX (treeOf F) 0 = 0 := by show (if fd_ (gF F 0) = 1 then 0 else _) = 0; rw [if_pos (show fd_ (gF F 0) = 1 from h1)]
    unfold MTk
    rw [h1, h2, h3, e1, e2, e3]
    refine ⟨?_, ?_, ?_, ?_, ?_, fun z => absurd z (by decide), ?_⟩ <;> simp (disch := omega) only [atg_sI, afI_sI, afL_sI, afR_sI, aln_sI, aaI_sI, aaL_sI, aaR_sI, anx_sI, abc_sI, abs_sI, alo_sI, atg_wI, afI_wI, afL_wI, afR_wI, aln_wI, aaI_wI, aaL_wI, aaR_wI, anx_wI, abc_wI, abs_wI, alo_wI, atg_wL, afI_wL, afL_wL, afR_wL, aln_wL, aaI_wL, aaL_wL, aaR_wL, anx_wL, abc_wL, abs_wL, alo_wL, u2_e, u2_r, u2_i, u3_e, u3_k, u3_c, u3_r] <;> first | rfl | decide
end
