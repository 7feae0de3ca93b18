/-! the reference's tree: nodes are added, replaced, removed, renamed -/
section
variable {σ : Hp} {m : Nat} {S : AS}
def QTt : Nat → Prop := fun k => k = 10
/-- only the tree's arrays changed -/
theorem MI.tree {σ' : Hp} {t : TT} (h : MI σ m S) (f : MFr m σ σ' PT QTt) (hT : MT σ' m t) : MI σ' m (wT S t) := by
  obtain ⟨⟨sd, a⟩, b, c, d⟩ := h
  exact ⟨⟨sd, f.med a (by unfold QTt; omega) (by unfold QTt; omega) (fun i q => by unfold PT at q; omega) (fun i q => by unfold PT at q; omega)⟩, b.fr f (fun k hk q => by unfold QTt at q; omega) (fun i q => by unfold PT at q; omega), hT, d.fr f (by unfold QTt; omega) (fun j i h1 h2 q => by unfold PT at q; omega)⟩
theorem m_add65 (h : MI σ m S) (ok : AOK S) {a d dir size seed : Nat} (hd : d < tN (sT S)) (hdt : tT (sT S) d = true) (hdir : dir ≤ 1) {post : Int32 → Hp → Prop}
    (k5 : nmd (sT S) d (told a) 0 → post (-5) σ) (k3 : ¬ nmd (sT S) d (told a) 0 → (tL (sT S)).length = 30 → post (-3) σ) (k : ∀ σ', ¬ nmd (sT S) d (told a) 0 → (tL (sT S)).length ≠ 30 → MI σ' m (wT S (tAdd (sT S) d (told a) dir size seed)) → MFr m σ σ' TP TQ → post (nI (tN (sT S))) σ') : wX9_add_L65 post m (nI d) (nI dir) (nI size) (nI seed) (lN (wd (told a))) σ := by
  obtain ⟨⟨sd, hM⟩, hP, hT, hO⟩ := id h
  have hw := hM.1
  obtain ⟨okM, okT, -⟩ := ok
  have hN := okT.1.2.1
  have hL := okT.1.2.2
  unfold wX9_add_L65
  refine ⟨mw_tag hw, m_namedIn hw hT okT (by omega) (told_len a) (told_b a) (fun q hq hk => ⟨fun z => absurd z (nI_pos (by omega)), fun _ => k5 hq⟩) (fun hq => ⟨fun _ => m_alive hw hT okT ?_, fun z => absurd (by decide) z⟩)⟩
  simp (disch := omega) only [atg_sI, afI_sI, afL_sI, afR_sI, aln_sI, aaI_sI, aaL_sI, aaR_sI, anx_sI, abc_sI, abs_sI, alo_sI, atg_wI, afI_wI, afL_wI, afR_wI, aln_wI, aaI_wI, aaL_wI, aaR_wI, anx_wI, abc_wI, abs_wI, alo_wI, atg_wL, afI_wL, afL_wL, afR_wL, aln_wL, aaI_wL, aaL_wL, aaR_wL, anx_wL, abc_wL, abs_wL, alo_wL, u2_e, u2_r, u2_i, u3_e, u3_k, u3_c, u3_r, mw_tag hw, mw_lo hw, mw_loa hw, mf_3 hw, mt_3 hw, ml_3 hw, mf_4 hw, mt_4 hw, ml_4 hw, mf_5 hw, mt_5 hw, ml_5 hw, mf_9 hw, mt_9 hw, ml_9 hw, mf_11 hw, mt_11 hw, ml_11 hw, mf_12 hw, mt_12 hw, ml_12 hw, mf_13 hw, mt_13 hw, ml_13 hw, mf_14 hw, mt_14 hw, ml_14 hw, mf_15 hw, mt_15 hw, ml_15 hw, mf_16 hw, mt_16 hw, ml_16 hw, mf_17 hw, mt_17 hw, ml_17 hw, mf_18 hw, mt_18 hw, ml_18 hw, mf_19 hw, mt_19 hw, ml_19 hw, mf_21 hw, mt_21 hw, ml_21 hw, mf_24 hw, mt_24 hw, ml_24 hw, mf_25 hw, mt_25 hw, ml_25 hw, mf_26 hw, mt_26 hw, ml_26 hw, mf_29 hw, mt_29 hw, ml_29 hw, mf_30 hw, mt_30 hw, ml_30 hw, mf_31 hw, mt_31 hw, ml_31 hw, mf_32 hw, mt_32 hw, ml_32 hw, mf_33 hw, mt_33 hw, ml_33 hw, mf_34 hw, mt_34 hw, ml_34 hw, mf_36 hw, mt_36 hw, ml_36 hw, mf_37 hw, mt_37 hw, ml_37 hw, mf_38 hw, mt_38 hw, ml_38 hw, mf_39 hw, mt_39 hw, ml_39 hw, mf_40 hw, mt_40 hw, ml_40 hw, li_0, li_1, li_2, li_3, li_4, li_5, li_6, li_7, li_8, li_9, li_10, li_12, li_14, li_16, li_17, li_18, li_19, li_20, li_25, li_28, li_30, li_31, li_32, li_33, li_34, li_40, li_46, li_48, li_49, li_57, li_59, li_65, li_67, li_68, li_75, li_77, li_80, li_82, li_90, li_95, li_100, li_128, li_130, li_132, li_136, li_140, li_148, li_156, li_200, li_255, li_256, li_400, li_700, li_2047, li_2048, li_2049, li_2050, li_2054, li_2056, li_4096, li_6000, li_163840, li_409600, li_819200, nI_add, pk_mul, pk_sub, nI_leI, nI_ltI, nI_eq, nI_clamp, vin_t, forall_eq, true_and, and_true, forall_const, implies_true, hT.1, nar_bool hdir]
  refine ⟨fun z => k _ hq z (h.tree (by (repeat' first | with_reducible exact MFr.refl | with_reducible assumption | with_reducible apply MFr.wI' | with_reducible apply MFr.wL' | with_reducible apply MFr.sI' | omega | trivial | exact ⟨by omega, by omega⟩ | exact rfl)) ?_) (by (repeat' first | with_reducible exact MFr.refl | with_reducible assumption | with_reducible apply MFr.wI' | with_reducible apply MFr.wL' | with_reducible apply MFr.sI' | omega | trivial | exact ⟨by omega, by omega⟩ | exact rfl)), fun z => k3 hq z⟩
  refine ⟨?_, fun i hi => ?_, fun i hi ht => ?_⟩
  · simp (disch := omega) only [atg_sI, afI_sI, afL_sI, afR_sI, aln_sI, aaI_sI, aaL_sI, aaR_sI, anx_sI, abc_sI, abs_sI, alo_sI, atg_wI, afI_wI, afL_wI, afR_wI, aln_wI, aaI_wI, aaL_wI, aaR_wI, anx_wI, abc_wI, abs_wI, alo_wI, atg_wL, afI_wL, afL_wL, afR_wL, aln_wL, aaI_wL, aaL_wL, aaR_wL, anx_wL, abc_wL, abs_wL, alo_wL, u2_e, u2_r, u2_i, u3_e, u3_k, u3_c, u3_r]; rfl
  · have hi' : i < tN (sT S) + 1 := hi
    show _ = b2 (upA (tT (sT S)) (tN (sT S)) true i)
    by_cases e : i = tN (sT S)
    · subst e
      simp (disch := omega) only [atg_sI, afI_sI, afL_sI, afR_sI, aln_sI, aaI_sI, aaL_sI, aaR_sI, anx_sI, abc_sI, abs_sI, alo_sI, atg_wI, afI_wI, afL_wI, afR_wI, aln_wI, aaI_wI, aaL_wI, aaR_wI, anx_wI, abc_wI, abs_wI, alo_wI, atg_wL, afI_wL, afL_wL, afR_wL, aln_wL, aaI_wL, aaL_wL, aaR_wL, anx_wL, abc_wL, abs_wL, alo_wL, u2_e, u2_r, u2_i, u3_e, u3_k, u3_c, u3_r, upA_e]; rfl
    · rw [upA_n e]
      simp (disch := omega) only [atg_sI, afI_sI, afL_sI, afR_sI, aln_sI, aaI_sI, aaL_sI, aaR_sI, anx_sI, abc_sI, abs_sI, alo_sI, atg_wI, afI_wI, afL_wI, afR_wI, aln_wI, aaI_wI, aaL_wI, aaR_wI, anx_wI, abc_wI, abs_wI, alo_wI, atg_wL, afI_wL, afL_wL, afR_wL, aln_wL, aaI_wL, aaL_wL, aaR_wL, anx_wL, abc_wL, abs_wL, alo_wL, u2_e, u2_r, u2_i, u3_e, u3_k, u3_c, u3_r]
      exact hT.2.1 i (by omega)
  · have hi' : i < tN (sT S) + 1 := hi
    by_cases e : i = tN (sT S)
    · subst e
      unfold MTk tAdd tD tP tM tS tE tW tX
      simp (disch := omega) only [atg_sI, afI_sI, afL_sI, afR_sI, aln_sI, aaI_sI, aaL_sI, aaR_sI, anx_sI, abc_sI, abs_sI, alo_sI, atg_wI, afI_wI, afL_wI, afR_wI, aln_wI, aaI_wI, aaL_wI, aaR_wI, anx_wI, abc_wI, abs_wI, alo_wI, atg_wL, afI_wL, afL_wL, afR_wL, aln_wL, aaI_wL, aaL_wL, aaR_wL, anx_wL, abc_wL, abs_wL, alo_wL, u2_e, u2_r, u2_i, u3_e, u3_k, u3_c, u3_r, upA_e]
      exact ⟨trivial, trivial, trivial, trivial, trivial, fun _ _ => rfl, trivial⟩
    · have ht' : tT (sT S) i = true := by
        have : upA (tT (sT S)) (tN (sT S)) true i = true := ht
        rw [upA_n e] at this; exact this
      obtain ⟨c1, c2, c3, c4, c5, c6, c7⟩ := hT.2.2 i (by omega) ht'
      show _ = nI (upA (tD (sT S)) (tN (sT S)) dir i) ∧ _ = nI (upA (tP (sT S)) (tN (sT S)) d i) ∧ _ = lN (wd (upA (tM (sT S)) (tN (sT S)) (told a) i)) ∧ _ = nI (upA (tS (sT S)) (tN (sT S)) size i) ∧ _ = nI (upA (tE (sT S)) (tN (sT S)) seed i) ∧ (upA (tD (sT S)) (tN (sT S)) dir i = 0 → 0 < upA (tS (sT S)) (tN (sT S)) size i → _ = b2 (upA (tW (sT S)) (tN (sT S)) false i)) ∧ _ = nI (upA (tX (sT S)) (tN (sT S)) 0 i)
      simp only [upA_n e]
      simp (disch := omega) only [atg_sI, afI_sI, afL_sI, afR_sI, aln_sI, aaI_sI, aaL_sI, aaR_sI, anx_sI, abc_sI, abs_sI, alo_sI, atg_wI, afI_wI, afL_wI, afR_wI, aln_wI, aaI_wI, aaL_wI, aaR_wI, anx_wI, abc_wI, abs_wI, alo_wI, atg_wL, afI_wL, afL_wL, afR_wL, aln_wL, aaI_wL, aaL_wL, aaR_wL, anx_wL, abc_wL, abs_wL, alo_wL, u2_e, u2_r, u2_i, u3_e, u3_k, u3_c, u3_r]
      exact ⟨c1, c2, c3, c4, c5, c6, c7⟩
theorem M_add (h : MI σ m S) (ok : AOK S) {x : Int32} {a dir size seed : Nat} (ha : a < 2 ^ 64) (hdir : dir ≤ 1) {x5 x6 x7 : Int32} {right : Prop} (h7 : x7 = 0 ↔ ¬ right) (h5 : right → x5 = nI size ∧ x6 = nI seed) {post : Int32 → Hp → Prop}
    (k : ∀ σ', MI σ' m (opAdd S x a dir size seed right).2 → MFr m σ σ' TP TQ → post (opAdd S x a dir size seed right).1 σ') : wX9_add m x (lN a) (nI dir) x5 x6 x7 σ post := by
  obtain ⟨⟨sd, hM⟩, hP, hT, hO⟩ := id h
  have hw := hM.1
  obtain ⟨okM, okT, -⟩ := id ok
  have hN := okT.1.2.1
  unfold wX9_add
  refine ⟨mw_tag hw, ?_⟩
  rw [hP.2.1]
  unfold opAdd at k
  cases hl : sLo S with
  | true =>
    rw [hl] at k
    exact ⟨fun z => absurd z (by decide), fun _ => k σ h MFr.refl⟩
  | false =>
    rw [hl] at k
    refine ⟨fun _ => m_told ha ⟨fun z => ?_, fun z => m_isNode h ok (fun d hd hdt hx hn => ⟨fun y => absurd y (by decide), fun _ => ?_⟩) (fun hn => ⟨fun _ => ?_, fun y => absurd rfl y⟩)⟩, fun z => absurd rfl z⟩
    · have hr := h7.mp z
      cases hn : nodeOf (sT S) x with
      | none => rw [hn] at k; exact k σ h MFr.refl
      | some d =>
        rw [hn] at k
        simp only at k
        rw [if_neg (by decide), ic_t (Or.inl hr)] at k
        exact k σ h MFr.refl
    · have hr : right := Classical.byContradiction (fun q => z (h7.mpr q))
      obtain ⟨rfl, rfl⟩ := h5 hr
      rw [hn] at k
      simp only at k
      rw [if_neg (by decide)] at k
      subst hx
      obtain ⟨c1, -⟩ := hT.2.2 d hd hdt
      have hD := root_D okT hd hdt
      have hwd : wd (told a) < 2 ^ 64 := wd64 (told_len a) (fun c hc => (told_b a c hc).2)
      have h2 : (¬ right ∨ tD (sT S) d ≠ 1 ∨ told a = [] ∨ dir = 1 ∧ dep (sT S) d = 6) → post (-2) σ := by
        intro q
        rw [ic_t q] at k
        exact k σ h MFr.refl
      have go : ¬ (¬ right ∨ tD (sT S) d ≠ 1 ∨ told a = [] ∨ dir = 1 ∧ dep (sT S) d = 6) → wX9_add_L65 post m (nI d) (nI dir) (nI size) (nI seed) (lN (wd (told a))) σ := by
        intro q
        rw [ic_f q] at k
        refine m_add65 h ok hd hdt hdir (fun q1 => ?_) (fun q1 q2 => ?_) (fun σ' q1 q2 q3 q4 => ?_)
        · rw [ic_t q1] at k; exact k σ h MFr.refl
        · rw [ic_f q1, if_pos q2] at k; exact k σ h MFr.refl
        · rw [ic_f q1, if_neg q2] at k; exact k σ' q3 q4
      simp (disch := omega) only [atg_sI, afI_sI, afL_sI, afR_sI, aln_sI, aaI_sI, aaL_sI, aaR_sI, anx_sI, abc_sI, abs_sI, alo_sI, atg_wI, afI_wI, afL_wI, afR_wI, aln_wI, aaI_wI, aaL_wI, aaR_wI, anx_wI, abc_wI, abs_wI, alo_wI, atg_wL, afI_wL, afL_wL, afR_wL, aln_wL, aaI_wL, aaL_wL, aaR_wL, anx_wL, abc_wL, abs_wL, alo_wL, u2_e, u2_r, u2_i, u3_e, u3_k, u3_c, u3_r, mw_tag hw, mw_lo hw, mw_loa hw, mf_3 hw, mt_3 hw, ml_3 hw, mf_4 hw, mt_4 hw, ml_4 hw, mf_5 hw, mt_5 hw, ml_5 hw, mf_9 hw, mt_9 hw, ml_9 hw, mf_11 hw, mt_11 hw, ml_11 hw, mf_12 hw, mt_12 hw, ml_12 hw, mf_13 hw, mt_13 hw, ml_13 hw, mf_14 hw, mt_14 hw, ml_14 hw, mf_15 hw, mt_15 hw, ml_15 hw, mf_16 hw, mt_16 hw, ml_16 hw, mf_17 hw, mt_17 hw, ml_17 hw, mf_18 hw, mt_18 hw, ml_18 hw, mf_19 hw, mt_19 hw, ml_19 hw, mf_21 hw, mt_21 hw, ml_21 hw, mf_24 hw, mt_24 hw, ml_24 hw, mf_25 hw, mt_25 hw, ml_25 hw, mf_26 hw, mt_26 hw, ml_26 hw, mf_29 hw, mt_29 hw, ml_29 hw, mf_30 hw, mt_30 hw, ml_30 hw, mf_31 hw, mt_31 hw, ml_31 hw, mf_32 hw, mt_32 hw, ml_32 hw, mf_33 hw, mt_33 hw, ml_33 hw, mf_34 hw, mt_34 hw, ml_34 hw, mf_36 hw, mt_36 hw, ml_36 hw, mf_37 hw, mt_37 hw, ml_37 hw, mf_38 hw, mt_38 hw, ml_38 hw, mf_39 hw, mt_39 hw, ml_39 hw, mf_40 hw, mt_40 hw, ml_40 hw, li_0, li_1, li_2, li_3, li_4, li_5, li_6, li_7, li_8, li_9, li_10, li_12, li_14, li_16, li_17, li_18, li_19, li_20, li_25, li_28, li_30, li_31, li_32, li_33, li_34, li_40, li_46, li_48, li_49, li_57, li_59, li_65, li_67, li_68, li_75, li_77, li_80, li_82, li_90, li_95, li_100, li_128, li_130, li_132, li_136, li_140, li_148, li_156, li_200, li_255, li_256, li_400, li_700, li_2047, li_2048, li_2049, li_2050, li_2054, li_2056, li_4096, li_6000, li_163840, li_409600, li_819200, nI_add, pk_mul, pk_sub, nI_leI, nI_ltI, nI_eq, nI_clamp, vin_t, forall_eq, true_and, and_true, forall_const, implies_true, c1]
      refine ⟨fun e => h2 (Or.inr (Or.inl (by omega))), fun e => ?_⟩
      rw [show (lg_cmp (lN (wd (told a))) 0 = nI 0) ↔ wd (told a) = 0 from lgc0 hwd]
      refine ⟨fun e2 => h2 (Or.inr (Or.inr (Or.inl ?_))), fun e2 => ⟨fun e3 => go ?_, fun e3 => m_depthOf hw hT okT hd hdt ?_⟩⟩
      · rcases told_ok a with q | q
        · exact q
        · have := wd_ge (told a) (fun c hc => (told_b a c hc).1) (by intro y; rw [y] at q; exact absurd q.1 (by simp))
          have h3 : 0 < 256 ^ ((told a).length - 1) := Nat.pow_pos (by decide)
          omega
      · rintro (y | y | y | y)
        · exact y hr
        · omega
        · rw [y] at e2; exact e2 rfl
        · omega
      · have d6 := dep_6 okT hd hdt (by omega)
        simp (disch := omega) only [atg_sI, afI_sI, afL_sI, afR_sI, aln_sI, aaI_sI, aaL_sI, aaR_sI, anx_sI, abc_sI, abs_sI, alo_sI, atg_wI, afI_wI, afL_wI, afR_wI, aln_wI, aaI_wI, aaL_wI, aaR_wI, anx_wI, abc_wI, abs_wI, alo_wI, atg_wL, afI_wL, afL_wL, afR_wL, aln_wL, aaI_wL, aaL_wL, aaR_wL, anx_wL, abc_wL, abs_wL, alo_wL, u2_e, u2_r, u2_i, u3_e, u3_k, u3_c, u3_r, mw_tag hw, mw_lo hw, mw_loa hw, mf_3 hw, mt_3 hw, ml_3 hw, mf_4 hw, mt_4 hw, ml_4 hw, mf_5 hw, mt_5 hw, ml_5 hw, mf_9 hw, mt_9 hw, ml_9 hw, mf_11 hw, mt_11 hw, ml_11 hw, mf_12 hw, mt_12 hw, ml_12 hw, mf_13 hw, mt_13 hw, ml_13 hw, mf_14 hw, mt_14 hw, ml_14 hw, mf_15 hw, mt_15 hw, ml_15 hw, mf_16 hw, mt_16 hw, ml_16 hw, mf_17 hw, mt_17 hw, ml_17 hw, mf_18 hw, mt_18 hw, ml_18 hw, mf_19 hw, mt_19 hw, ml_19 hw, mf_21 hw, mt_21 hw, ml_21 hw, mf_24 hw, mt_24 hw, ml_24 hw, mf_25 hw, mt_25 hw, ml_25 hw, mf_26 hw, mt_26 hw, ml_26 hw, mf_29 hw, mt_29 hw, ml_29 hw, mf_30 hw, mt_30 hw, ml_30 hw, mf_31 hw, mt_31 hw, ml_31 hw, mf_32 hw, mt_32 hw, ml_32 hw, mf_33 hw, mt_33 hw, ml_33 hw, mf_34 hw, mt_34 hw, ml_34 hw, mf_36 hw, mt_36 hw, ml_36 hw, mf_37 hw, mt_37 hw, ml_37 hw, mf_38 hw, mt_38 hw, ml_38 hw, mf_39 hw, mt_39 hw, ml_39 hw, mf_40 hw, mt_40 hw, ml_40 hw, li_0, li_1, li_2, li_3, li_4, li_5, li_6, li_7, li_8, li_9, li_10, li_12, li_14, li_16, li_17, li_18, li_19, li_20, li_25, li_28, li_30, li_31, li_32, li_33, li_34, li_40, li_46, li_48, li_49, li_57, li_59, li_65, li_67, li_68, li_75, li_77, li_80, li_82, li_90, li_95, li_100, li_128, li_130, li_132, li_136, li_140, li_148, li_156, li_200, li_255, li_256, li_400, li_700, li_2047, li_2048, li_2049, li_2050, li_2054, li_2056, li_4096, li_6000, li_163840, li_409600, li_819200, nI_add, pk_mul, pk_sub, nI_leI, nI_ltI, nI_eq, nI_clamp, vin_t, forall_eq, true_and, and_true, forall_const, implies_true]
        refine ⟨fun e4 => go ?_, fun e4 => h2 (Or.inr (Or.inr (Or.inr ⟨by omega, by omega⟩)))⟩
        rintro (y | y | y | y)
        · exact y hr
        · omega
        · rw [y] at e2; exact e2 rfl
        · omega
    · rw [hn] at k
      exact k σ h MFr.refl
theorem M_directory (h : MI σ m S) (ok : AOK S) {x : Int32} {a : Nat} (ha : a < 2 ^ 64) {post : Int32 → Hp → Prop} (k : ∀ σ', MI σ' m (opDir S x a).2 → MFr m σ σ' TP TQ → post (opDir S x a).1 σ') : wX9_directory m x (lN a) σ post := by
  obtain ⟨⟨sd, hM⟩, -⟩ := id h
  unfold wX9_directory
  refine ⟨mw_tag hM.1, fun σ2 e2 => ?_⟩
  have f2 : MFr m σ σ2 PX QX := by rw [e2]; exact MFr.thr
  exact M_add (dir := 1) (size := 0) (seed := 0) (right := True) (h.fr f2) ok ha (by omega) ⟨fun z => absurd z (by decide), fun z => absurd trivial z⟩ (fun _ => ⟨rfl, rfl⟩) (fun σ' a1 a2 => k σ' a1 (f2.tt.trans a2))
theorem m_isContent {x y : Int32} {post : Int32 → Prop} (k1 : ∀ i j, cont x y = some (i, j) → x = nI i → y = nI j → i ≤ 6000 → j ≤ 255 → post 1) (k0 : cont x y = none → post 0) : wX9_isContent x y σ post := by
  unfold wX9_isContent
  unfold cont at k1 k0
  rw [show (6000 : Int32) = nI 6001 - 1 by decide, show (255 : Int32) = nI 256 - 1 by decide]
  refine m_in0 (by decide) (fun i hi hx e => ⟨fun z => absurd z (by decide), fun _ => ?_⟩) (fun e => ⟨fun _ => k0 (by rw [e]), fun z => absurd rfl z⟩)
  rw [e] at k1 k0
  refine m_in0 (by decide) (fun j hj hy e2 => ⟨fun z => absurd z (by decide), fun _ => k1 i j (by simp only [e2]) hx hy (by omega) (by omega)⟩) (fun e2 => ⟨fun _ => k0 (by simp only [e2]), fun z => absurd rfl z⟩)
theorem M_file (h : MI σ m S) (ok : AOK S) {x y z : Int32} {a : Nat} (ha : a < 2 ^ 64) {post : Int32 → Hp → Prop} (k : ∀ σ', MI σ' m (opFile S x a y z).2 → MFr m σ σ' TP TQ → post (opFile S x a y z).1 σ') : wX9_file m x (lN a) y z σ post := by
  obtain ⟨⟨sd, hM⟩, -⟩ := id h
  unfold wX9_file
  refine ⟨mw_tag hM.1, fun σ2 e2 => ?_⟩
  have f2 : MFr m σ σ2 PX QX := by rw [e2]; exact MFr.thr
  unfold opFile at k
  refine m_isContent (fun i j e ex ey _ _ => ?_) (fun e => ?_)
  · rw [e] at k
    exact M_add (dir := 0) (size := i) (seed := j) (right := True) (h.fr f2) ok ha (by omega) ⟨fun z => absurd z (by decide), fun z => absurd trivial z⟩ (fun _ => ⟨ex, ey⟩) (fun σ' a1 a2 => k σ' a1 (f2.tt.trans a2))
  · rw [e] at k
    exact M_add (dir := 0) (size := 0) (seed := 0) (right := False) (h.fr f2) ok ha (by omega) ⟨fun _ z => z, fun _ => rfl⟩ (fun z => z.elim) (fun σ' a1 a2 => k σ' a1 (f2.tt.trans a2))
theorem M_replace (h : MI σ m S) (ok : AOK S) {x y z : Int32} {post : Int32 → Hp → Prop} (k : ∀ σ', MI σ' m (opReplace S x y z).2 → MFr m σ σ' TP TQ → post (opReplace S x y z).1 σ') : wX9_replace m x y z σ post := by
  obtain ⟨⟨sd, hM⟩, -⟩ := id h
  unfold wX9_replace
  refine ⟨mw_tag hM.1, fun σ2 e2 => ?_⟩
  have f2 : MFr m σ σ2 PX QX := by rw [e2]; exact MFr.thr
  have h2 := h.fr f2
  obtain ⟨⟨sd2, hM2⟩, hP, hT, hO⟩ := id h2
  have hw := hM2.1
  obtain ⟨okM, okT, -⟩ := id ok
  have hN := okT.1.2.1
  have same := k σ2
  rw [hP.2.1]
  unfold opReplace at k same
  cases hl : sLo S with
  | true =>
    rw [hl] at same
    exact ⟨fun z => absurd z (by decide), fun _ => same h2 f2.tt⟩
  | false =>
    rw [hl] at k same
    refine ⟨fun _ => m_isNode h2 ok (fun d hd hdt hx hn => ⟨fun y => absurd y (by decide), fun _ => ?_⟩) (fun hn => ⟨fun _ => by rw [hn] at same; exact same h2 f2.tt, fun y => absurd rfl y⟩), fun z => absurd rfl z⟩
    rw [hn] at k same
    simp only at k same
    rw [if_neg (by decide)] at k same
    subst hx
    obtain ⟨c1, -⟩ := hT.2.2 d hd hdt
    have hD := root_D okT hd hdt
    simp (disch := omega) only [atg_sI, afI_sI, afL_sI, afR_sI, aln_sI, aaI_sI, aaL_sI, aaR_sI, anx_sI, abc_sI, abs_sI, alo_sI, atg_wI, afI_wI, afL_wI, afR_wI, aln_wI, aaI_wI, aaL_wI, aaR_wI, anx_wI, abc_wI, abs_wI, alo_wI, atg_wL, afI_wL, afL_wL, afR_wL, aln_wL, aaI_wL, aaL_wL, aaR_wL, anx_wL, abc_wL, abs_wL, alo_wL, u2_e, u2_r, u2_i, u3_e, u3_k, u3_c, u3_r, mw_tag hw, mw_lo hw, mw_loa hw, mf_3 hw, mt_3 hw, ml_3 hw, mf_4 hw, mt_4 hw, ml_4 hw, mf_5 hw, mt_5 hw, ml_5 hw, mf_9 hw, mt_9 hw, ml_9 hw, mf_11 hw, mt_11 hw, ml_11 hw, mf_12 hw, mt_12 hw, ml_12 hw, mf_13 hw, mt_13 hw, ml_13 hw, mf_14 hw, mt_14 hw, ml_14 hw, mf_15 hw, mt_15 hw, ml_15 hw, mf_16 hw, mt_16 hw, ml_16 hw, mf_17 hw, mt_17 hw, ml_17 hw, mf_18 hw, mt_18 hw, ml_18 hw, mf_19 hw, mt_19 hw, ml_19 hw, mf_21 hw, mt_21 hw, ml_21 hw, mf_24 hw, mt_24 hw, ml_24 hw, mf_25 hw, mt_25 hw, ml_25 hw, mf_26 hw, mt_26 hw, ml_26 hw, mf_29 hw, mt_29 hw, ml_29 hw, mf_30 hw, mt_30 hw, ml_30 hw, mf_31 hw, mt_31 hw, ml_31 hw, mf_32 hw, mt_32 hw, ml_32 hw, mf_33 hw, mt_33 hw, ml_33 hw, mf_34 hw, mt_34 hw, ml_34 hw, mf_36 hw, mt_36 hw, ml_36 hw, mf_37 hw, mt_37 hw, ml_37 hw, mf_38 hw, mt_38 hw, ml_38 hw, mf_39 hw, mt_39 hw, ml_39 hw, mf_40 hw, mt_40 hw, ml_40 hw, li_0, li_1, li_2, li_3, li_4, li_5, li_6, li_7, li_8, li_9, li_10, li_12, li_14, li_16, li_17, li_18, li_19, li_20, li_25, li_28, li_30, li_31, li_32, li_33, li_34, li_40, li_46, li_48, li_49, li_57, li_59, li_65, li_67, li_68, li_75, li_77, li_80, li_82, li_90, li_95, li_100, li_128, li_130, li_132, li_136, li_140, li_148, li_156, li_200, li_255, li_256, li_400, li_700, li_2047, li_2048, li_2049, li_2050, li_2054, li_2056, li_4096, li_6000, li_163840, li_409600, li_819200, nI_add, pk_mul, pk_sub, nI_leI, nI_ltI, nI_eq, nI_clamp, vin_t, forall_eq, true_and, and_true, forall_const, implies_true, c1]
    refine ⟨fun e => by rw [if_pos (by omega)] at same; exact same h2 f2.tt, fun e => ?_⟩
    rw [if_neg (by omega)] at k same
    refine m_isContent (fun i j ec ex ey hi hj => ⟨fun _ => ?_, fun y => absurd y (by decide)⟩) (fun ec => ⟨fun y => absurd rfl y, fun _ => by rw [ec] at same; exact same h2 f2.tt⟩)
    rw [ec] at k
    subst ex ey
    refine k _ (h2.tree (by (repeat' first | with_reducible exact MFr.refl | with_reducible assumption | with_reducible apply MFr.wI' | with_reducible apply MFr.wL' | with_reducible apply MFr.sI' | omega | trivial | exact ⟨by omega, by omega⟩ | exact rfl)) ?_) (f2.tt.trans (by (repeat' first | with_reducible exact MFr.refl | with_reducible assumption | with_reducible apply MFr.wI' | with_reducible apply MFr.wL' | with_reducible apply MFr.sI' | omega | trivial | exact ⟨by omega, by omega⟩ | exact rfl)))
    refine ⟨?_, fun i' hi' => ?_, fun i' hi' ht => ?_⟩
    · simp (disch := omega) only [atg_sI, afI_sI, afL_sI, afR_sI, aln_sI, aaI_sI, aaL_sI, aaR_sI, anx_sI, abc_sI, abs_sI, alo_sI, atg_wI, afI_wI, afL_wI, afR_wI, aln_wI, aaI_wI, aaL_wI, aaR_wI, anx_wI, abc_wI, abs_wI, alo_wI, atg_wL, afI_wL, afL_wL, afR_wL, aln_wL, aaI_wL, aaL_wL, aaR_wL, anx_wL, abc_wL, abs_wL, alo_wL, u2_e, u2_r, u2_i, u3_e, u3_k, u3_c, u3_r]; exact hT.1
    · simp (disch := omega) only [atg_sI, afI_sI, afL_sI, afR_sI, aln_sI, aaI_sI, aaL_sI, aaR_sI, anx_sI, abc_sI, abs_sI, alo_sI, atg_wI, afI_wI, afL_wI, afR_wI, aln_wI, aaI_wI, aaL_wI, aaR_wI, anx_wI, abc_wI, abs_wI, alo_wI, atg_wL, afI_wL, afL_wL, afR_wL, aln_wL, aaI_wL, aaL_wL, aaR_wL, anx_wL, abc_wL, abs_wL, alo_wL, u2_e, u2_r, u2_i, u3_e, u3_k, u3_c, u3_r]
      exact hT.2.1 i' hi'
    · obtain ⟨c1, c2, c3, c4, c5, c6, c7⟩ := hT.2.2 i' hi' ht
      show _ = nI (tD (sT S) i') ∧ _ = nI (tP (sT S) i') ∧ _ = lN (wd (tM (sT S) i')) ∧ _ = nI (upA (tS (sT S)) d i i') ∧ _ = nI (upA (tE (sT S)) d j i') ∧ (tD (sT S) i' = 0 → 0 < upA (tS (sT S)) d i i' → _ = b2 (upA (tW (sT S)) d false i')) ∧ _ = nI (upA (tX (sT S)) d 0 i')
      by_cases e' : i' = d
      · subst e'
        simp (disch := omega) only [atg_sI, afI_sI, afL_sI, afR_sI, aln_sI, aaI_sI, aaL_sI, aaR_sI, anx_sI, abc_sI, abs_sI, alo_sI, atg_wI, afI_wI, afL_wI, afR_wI, aln_wI, aaI_wI, aaL_wI, aaR_wI, anx_wI, abc_wI, abs_wI, alo_wI, atg_wL, afI_wL, afL_wL, afR_wL, aln_wL, aaI_wL, aaL_wL, aaR_wL, anx_wL, abc_wL, abs_wL, alo_wL, u2_e, u2_r, u2_i, u3_e, u3_k, u3_c, u3_r, upA_e]
        exact ⟨c1, c2, c3, trivial, trivial, fun _ _ => rfl, trivial⟩
      · simp only [upA_n e']
        simp (disch := omega) only [atg_sI, afI_sI, afL_sI, afR_sI, aln_sI, aaI_sI, aaL_sI, aaR_sI, anx_sI, abc_sI, abs_sI, alo_sI, atg_wI, afI_wI, afL_wI, afR_wI, aln_wI, aaI_wI, aaL_wI, aaR_wI, anx_wI, abc_wI, abs_wI, alo_wI, atg_wL, afI_wL, afL_wL, afR_wL, aln_wL, aaI_wL, aaL_wL, aaR_wL, anx_wL, abc_wL, abs_wL, alo_wL, u2_e, u2_r, u2_i, u3_e, u3_k, u3_c, u3_r]
        exact ⟨c1, c2, c3, c4, c5, c6, c7⟩
theorem M_remove (h : MI σ m S) (ok : AOK S) {x : Int32} {post : Int32 → Hp → Prop} (k : ∀ σ', MI σ' m (opRemove S x).2 → MFr m σ σ' TP TQ → post (opRemove S x).1 σ') : wX9_remove m x σ post := by
  obtain ⟨⟨sd, hM⟩, -⟩ := id h
  unfold wX9_remove
  refine ⟨mw_tag hM.1, fun σ2 e2 => ?_⟩
  have f2 : MFr m σ σ2 PX QX := by rw [e2]; exact MFr.thr
  have h2 := h.fr f2
  obtain ⟨⟨sd2, hM2⟩, hP, hT, hO⟩ := id h2
  have hw := hM2.1
  obtain ⟨okM, okT, -⟩ := id ok
  have hN := okT.1.2.1
  have h1' := okT.1.1
  have same := k σ2
  rw [hP.2.1]
  unfold opRemove at k same
  cases hl : sLo S with
  | true =>
    rw [hl] at same
    exact ⟨fun z => absurd z (by decide), fun _ => same h2 f2.tt⟩
  | false =>
    rw [hl] at k same
    refine ⟨fun _ => m_isNode h2 ok (fun d hd hdt hx hn => ⟨fun y => absurd y (by decide), fun _ => ?_⟩) (fun hn => ⟨fun _ => by rw [hn] at same; exact same h2 f2.tt, fun y => absurd rfl y⟩), fun z => absurd rfl z⟩
    rw [hn] at k same
    simp only at k same
    rw [if_neg (by decide)] at k same
    subst hx
    rw [li_0, nI_eq (by omega) (by omega)]
    refine ⟨fun e => ?_, fun e => by rw [ic_t (Or.inl e)] at same; exact same h2 f2.tt⟩
    unfold wX9_remove_L32
    refine lpG1 (B := fun R x => wX9_remove_B32 post R m (nI d) x σ2) (fun j x => ∃ q, q + j = tN (sT S) ∧ 1 ≤ q ∧ x = nI q ∧ ∀ k, 0 < k → k < q → tT (sT S) k = true → ¬ tP (sT S) k = d) (tN (sT S) - 1) ⟨1, by omega, by omega, rfl, fun k a b => by omega⟩ ?_
    rintro j x R ⟨q, g1, g2, rfl, g4⟩ hR
    unfold wX9_remove_B32 wX9_remove_L62
    have step : (tT (sT S) q = true → ¬ tP (sT S) q = d) → q < tN (sT S) → R (nI (q + 1)) := by
      intro z y
      refine hR (j - 1) _ (by omega) ⟨q + 1, by omega, by omega, rfl, fun k a b c => ?_⟩
      by_cases e : k = q
      · rw [e]; rw [e] at c; exact z c
      · exact g4 k a (by omega) c
    by_cases hq : q < tN (sT S)
    · have c0 := hT.2.1 q hq
      cases ht : tT (sT S) q with
      | false =>
        rw [ht] at c0
        have c0' : aI_ σ2 (m + 5) q = nI 0 := c0
        simp (disch := omega) only [atg_sI, afI_sI, afL_sI, afR_sI, aln_sI, aaI_sI, aaL_sI, aaR_sI, anx_sI, abc_sI, abs_sI, alo_sI, atg_wI, afI_wI, afL_wI, afR_wI, aln_wI, aaI_wI, aaL_wI, aaR_wI, anx_wI, abc_wI, abs_wI, alo_wI, atg_wL, afI_wL, afL_wL, afR_wL, aln_wL, aaI_wL, aaL_wL, aaR_wL, anx_wL, abc_wL, abs_wL, alo_wL, u2_e, u2_r, u2_i, u3_e, u3_k, u3_c, u3_r, mw_tag hw, mw_lo hw, mw_loa hw, mf_3 hw, mt_3 hw, ml_3 hw, mf_4 hw, mt_4 hw, ml_4 hw, mf_5 hw, mt_5 hw, ml_5 hw, mf_9 hw, mt_9 hw, ml_9 hw, mf_11 hw, mt_11 hw, ml_11 hw, mf_12 hw, mt_12 hw, ml_12 hw, mf_13 hw, mt_13 hw, ml_13 hw, mf_14 hw, mt_14 hw, ml_14 hw, mf_15 hw, mt_15 hw, ml_15 hw, mf_16 hw, mt_16 hw, ml_16 hw, mf_17 hw, mt_17 hw, ml_17 hw, mf_18 hw, mt_18 hw, ml_18 hw, mf_19 hw, mt_19 hw, ml_19 hw, mf_21 hw, mt_21 hw, ml_21 hw, mf_24 hw, mt_24 hw, ml_24 hw, mf_25 hw, mt_25 hw, ml_25 hw, mf_26 hw, mt_26 hw, ml_26 hw, mf_29 hw, mt_29 hw, ml_29 hw, mf_30 hw, mt_30 hw, ml_30 hw, mf_31 hw, mt_31 hw, ml_31 hw, mf_32 hw, mt_32 hw, ml_32 hw, mf_33 hw, mt_33 hw, ml_33 hw, mf_34 hw, mt_34 hw, ml_34 hw, mf_36 hw, mt_36 hw, ml_36 hw, mf_37 hw, mt_37 hw, ml_37 hw, mf_38 hw, mt_38 hw, ml_38 hw, mf_39 hw, mt_39 hw, ml_39 hw, mf_40 hw, mt_40 hw, ml_40 hw, li_0, li_1, li_2, li_3, li_4, li_5, li_6, li_7, li_8, li_9, li_10, li_12, li_14, li_16, li_17, li_18, li_19, li_20, li_25, li_28, li_30, li_31, li_32, li_33, li_34, li_40, li_46, li_48, li_49, li_57, li_59, li_65, li_67, li_68, li_75, li_77, li_80, li_82, li_90, li_95, li_100, li_128, li_130, li_132, li_136, li_140, li_148, li_156, li_200, li_255, li_256, li_400, li_700, li_2047, li_2048, li_2049, li_2050, li_2054, li_2056, li_4096, li_6000, li_163840, li_409600, li_819200, nI_add, pk_mul, pk_sub, nI_leI, nI_ltI, nI_eq, nI_clamp, vin_t, forall_eq, true_and, and_true, forall_const, implies_true, hT.1, c0']
        exact ⟨fun z => by omega, fun _ => ⟨step (fun z => by rw [ht] at z; cases z) hq, fun z => absurd trivial z⟩⟩
      | true =>
        rw [ht] at c0
        have c0' : aI_ σ2 (m + 5) q = nI 1 := c0
        obtain ⟨c1, c2, -⟩ := hT.2.2 q hq ht
        have hp := (dep_s okT (by omega) hq ht).1
        simp (disch := omega) only [atg_sI, afI_sI, afL_sI, afR_sI, aln_sI, aaI_sI, aaL_sI, aaR_sI, anx_sI, abc_sI, abs_sI, alo_sI, atg_wI, afI_wI, afL_wI, afR_wI, aln_wI, aaI_wI, aaL_wI, aaR_wI, anx_wI, abc_wI, abs_wI, alo_wI, atg_wL, afI_wL, afL_wL, afR_wL, aln_wL, aaI_wL, aaL_wL, aaR_wL, anx_wL, abc_wL, abs_wL, alo_wL, u2_e, u2_r, u2_i, u3_e, u3_k, u3_c, u3_r, mw_tag hw, mw_lo hw, mw_loa hw, mf_3 hw, mt_3 hw, ml_3 hw, mf_4 hw, mt_4 hw, ml_4 hw, mf_5 hw, mt_5 hw, ml_5 hw, mf_9 hw, mt_9 hw, ml_9 hw, mf_11 hw, mt_11 hw, ml_11 hw, mf_12 hw, mt_12 hw, ml_12 hw, mf_13 hw, mt_13 hw, ml_13 hw, mf_14 hw, mt_14 hw, ml_14 hw, mf_15 hw, mt_15 hw, ml_15 hw, mf_16 hw, mt_16 hw, ml_16 hw, mf_17 hw, mt_17 hw, ml_17 hw, mf_18 hw, mt_18 hw, ml_18 hw, mf_19 hw, mt_19 hw, ml_19 hw, mf_21 hw, mt_21 hw, ml_21 hw, mf_24 hw, mt_24 hw, ml_24 hw, mf_25 hw, mt_25 hw, ml_25 hw, mf_26 hw, mt_26 hw, ml_26 hw, mf_29 hw, mt_29 hw, ml_29 hw, mf_30 hw, mt_30 hw, ml_30 hw, mf_31 hw, mt_31 hw, ml_31 hw, mf_32 hw, mt_32 hw, ml_32 hw, mf_33 hw, mt_33 hw, ml_33 hw, mf_34 hw, mt_34 hw, ml_34 hw, mf_36 hw, mt_36 hw, ml_36 hw, mf_37 hw, mt_37 hw, ml_37 hw, mf_38 hw, mt_38 hw, ml_38 hw, mf_39 hw, mt_39 hw, ml_39 hw, mf_40 hw, mt_40 hw, ml_40 hw, li_0, li_1, li_2, li_3, li_4, li_5, li_6, li_7, li_8, li_9, li_10, li_12, li_14, li_16, li_17, li_18, li_19, li_20, li_25, li_28, li_30, li_31, li_32, li_33, li_34, li_40, li_46, li_48, li_49, li_57, li_59, li_65, li_67, li_68, li_75, li_77, li_80, li_82, li_90, li_95, li_100, li_128, li_130, li_132, li_136, li_140, li_148, li_156, li_200, li_255, li_256, li_400, li_700, li_2047, li_2048, li_2049, li_2050, li_2054, li_2056, li_4096, li_6000, li_163840, li_409600, li_819200, nI_add, pk_mul, pk_sub, nI_leI, nI_ltI, nI_eq, nI_clamp, vin_t, forall_eq, true_and, and_true, forall_const, implies_true, hT.1, c0', c2]
        refine ⟨fun z => by omega, fun _ => ⟨fun z => by omega, fun _ => ⟨fun z => step (fun _ => z) hq, fun z => ?_⟩⟩⟩
        rw [ic_t (Or.inr ⟨q, mem_tL.mpr ⟨hq, ht⟩, by omega, z⟩)] at same
        exact same h2 f2.tt
    · have hno : ¬ (d = 0 ∨ ∃ q ∈ tL (sT S), 0 < q ∧ tP (sT S) q = d) := by
        rintro (y | ⟨q', a, b, c⟩)
        · exact e y
        · obtain ⟨a1, a2⟩ := mem_tL.mp a
          exact g4 q' b (by omega) a2 c
      rw [ic_f hno] at k
      simp (disch := omega) only [atg_sI, afI_sI, afL_sI, afR_sI, aln_sI, aaI_sI, aaL_sI, aaR_sI, anx_sI, abc_sI, abs_sI, alo_sI, atg_wI, afI_wI, afL_wI, afR_wI, aln_wI, aaI_wI, aaL_wI, aaR_wI, anx_wI, abc_wI, abs_wI, alo_wI, atg_wL, afI_wL, afL_wL, afR_wL, aln_wL, aaI_wL, aaL_wL, aaR_wL, anx_wL, abc_wL, abs_wL, alo_wL, u2_e, u2_r, u2_i, u3_e, u3_k, u3_c, u3_r, mw_tag hw, mw_lo hw, mw_loa hw, mf_3 hw, mt_3 hw, ml_3 hw, mf_4 hw, mt_4 hw, ml_4 hw, mf_5 hw, mt_5 hw, ml_5 hw, mf_9 hw, mt_9 hw, ml_9 hw, mf_11 hw, mt_11 hw, ml_11 hw, mf_12 hw, mt_12 hw, ml_12 hw, mf_13 hw, mt_13 hw, ml_13 hw, mf_14 hw, mt_14 hw, ml_14 hw, mf_15 hw, mt_15 hw, ml_15 hw, mf_16 hw, mt_16 hw, ml_16 hw, mf_17 hw, mt_17 hw, ml_17 hw, mf_18 hw, mt_18 hw, ml_18 hw, mf_19 hw, mt_19 hw, ml_19 hw, mf_21 hw, mt_21 hw, ml_21 hw, mf_24 hw, mt_24 hw, ml_24 hw, mf_25 hw, mt_25 hw, ml_25 hw, mf_26 hw, mt_26 hw, ml_26 hw, mf_29 hw, mt_29 hw, ml_29 hw, mf_30 hw, mt_30 hw, ml_30 hw, mf_31 hw, mt_31 hw, ml_31 hw, mf_32 hw, mt_32 hw, ml_32 hw, mf_33 hw, mt_33 hw, ml_33 hw, mf_34 hw, mt_34 hw, ml_34 hw, mf_36 hw, mt_36 hw, ml_36 hw, mf_37 hw, mt_37 hw, ml_37 hw, mf_38 hw, mt_38 hw, ml_38 hw, mf_39 hw, mt_39 hw, ml_39 hw, mf_40 hw, mt_40 hw, ml_40 hw, li_0, li_1, li_2, li_3, li_4, li_5, li_6, li_7, li_8, li_9, li_10, li_12, li_14, li_16, li_17, li_18, li_19, li_20, li_25, li_28, li_30, li_31, li_32, li_33, li_34, li_40, li_46, li_48, li_49, li_57, li_59, li_65, li_67, li_68, li_75, li_77, li_80, li_82, li_90, li_95, li_100, li_128, li_130, li_132, li_136, li_140, li_148, li_156, li_200, li_255, li_256, li_400, li_700, li_2047, li_2048, li_2049, li_2050, li_2054, li_2056, li_4096, li_6000, li_163840, li_409600, li_819200, nI_add, pk_mul, pk_sub, nI_leI, nI_ltI, nI_eq, nI_clamp, vin_t, forall_eq, true_and, and_true, forall_const, implies_true, hT.1]
      refine ⟨fun _ => k _ (h2.tree (by (repeat' first | with_reducible exact MFr.refl | with_reducible assumption | with_reducible apply MFr.wI' | with_reducible apply MFr.wL' | with_reducible apply MFr.sI' | omega | trivial | exact ⟨by omega, by omega⟩ | exact rfl)) ?_) (f2.tt.trans (by (repeat' first | with_reducible exact MFr.refl | with_reducible assumption | with_reducible apply MFr.wI' | with_reducible apply MFr.wL' | with_reducible apply MFr.sI' | omega | trivial | exact ⟨by omega, by omega⟩ | exact rfl))), fun z => by omega⟩
      refine ⟨?_, fun i hi => ?_, fun i hi ht => ?_⟩
      · simp (disch := omega) only [atg_sI, afI_sI, afL_sI, afR_sI, aln_sI, aaI_sI, aaL_sI, aaR_sI, anx_sI, abc_sI, abs_sI, alo_sI, atg_wI, afI_wI, afL_wI, afR_wI, aln_wI, aaI_wI, aaL_wI, aaR_wI, anx_wI, abc_wI, abs_wI, alo_wI, atg_wL, afI_wL, afL_wL, afR_wL, aln_wL, aaI_wL, aaL_wL, aaR_wL, anx_wL, abc_wL, abs_wL, alo_wL, u2_e, u2_r, u2_i, u3_e, u3_k, u3_c, u3_r]; exact hT.1
      · show _ = b2 (upA (tT (sT S)) d false i)
        by_cases e' : i = d
        · subst e'
          simp (disch := omega) only [atg_sI, afI_sI, afL_sI, afR_sI, aln_sI, aaI_sI, aaL_sI, aaR_sI, anx_sI, abc_sI, abs_sI, alo_sI, atg_wI, afI_wI, afL_wI, afR_wI, aln_wI, aaI_wI, aaL_wI, aaR_wI, anx_wI, abc_wI, abs_wI, alo_wI, atg_wL, afI_wL, afL_wL, afR_wL, aln_wL, aaI_wL, aaL_wL, aaR_wL, anx_wL, abc_wL, abs_wL, alo_wL, u2_e, u2_r, u2_i, u3_e, u3_k, u3_c, u3_r, upA_e]; rfl
        · rw [upA_n e']
          simp (disch := omega) only [atg_sI, afI_sI, afL_sI, afR_sI, aln_sI, aaI_sI, aaL_sI, aaR_sI, anx_sI, abc_sI, abs_sI, alo_sI, atg_wI, afI_wI, afL_wI, afR_wI, aln_wI, aaI_wI, aaL_wI, aaR_wI, anx_wI, abc_wI, abs_wI, alo_wI, atg_wL, afI_wL, afL_wL, afR_wL, aln_wL, aaI_wL, aaL_wL, aaR_wL, anx_wL, abc_wL, abs_wL, alo_wL, u2_e, u2_r, u2_i, u3_e, u3_k, u3_c, u3_r]
          exact hT.2.1 i hi
      · have e' : i ≠ d := by
          intro y
          have : upA (tT (sT S)) d false i = true := ht
          rw [y, upA_e] at this; cases this
        have ht' : tT (sT S) i = true := by
          have : upA (tT (sT S)) d false i = true := ht
          rw [upA_n e'] at this; exact this
        obtain ⟨c1, c2, c3, c4, c5, c6, c7⟩ := hT.2.2 i hi ht'
        show _ = nI (tD (sT S) i) ∧ _ = nI (tP (sT S) i) ∧ _ = lN (wd (tM (sT S) i)) ∧ _ = nI (tS (sT S) i) ∧ _ = nI (tE (sT S) i) ∧ (tD (sT S) i = 0 → 0 < tS (sT S) i → _ = b2 (tW (sT S) i)) ∧ _ = nI (tX (sT S) i)
        simp (disch := omega) only [atg_sI, afI_sI, afL_sI, afR_sI, aln_sI, aaI_sI, aaL_sI, aaR_sI, anx_sI, abc_sI, abs_sI, alo_sI, atg_wI, afI_wI, afL_wI, afR_wI, aln_wI, aaI_wI, aaL_wI, aaR_wI, anx_wI, abc_wI, abs_wI, alo_wI, atg_wL, afI_wL, afL_wL, afR_wL, aln_wL, aaI_wL, aaL_wL, aaR_wL, anx_wL, abc_wL, abs_wL, alo_wL, u2_e, u2_r, u2_i, u3_e, u3_k, u3_c, u3_r]
        exact ⟨c1, c2, c3, c4, c5, c6, c7⟩
theorem m_ren152 (h : MI σ m S) (ok : AOK S) {k d : Nat} {l : List Nat} (hk : k < tN (sT S)) (hkt : tT (sT S) k = true) (hd : d < tN (sT S)) (hl : l.length ≤ 8) (hl2 : ∀ c ∈ l, 0 < c ∧ c < 256) {post : Int32 → Hp → Prop} (k5 : nmd (sT S) d l k → post (-5) σ) (k0 : ∀ σ', ¬ nmd (sT S) d l k → MI σ' m (wT S (tRen (sT S) k d l)) → MFr m σ σ' TP TQ → post 0 σ') : wX9_rename_L152 post m (nI k) (nI d) (lN (wd l)) 1 σ := by
  obtain ⟨⟨sd2, hM2⟩, hP, hT, hO⟩ := id h
  have hw := hM2.1
  obtain ⟨okM, okT, -⟩ := id ok
  have hN := okT.1.2.1
  have h1' := okT.1.1
  unfold wX9_rename_L152
  refine lpG1 (B := fun R x => wX9_rename_B152 post R m (nI k) (nI d) (lN (wd l)) x σ) (fun j x => ∃ q, q + j = tN (sT S) ∧ 1 ≤ q ∧ x = nI q ∧ ∀ i, 0 < i → i < q → tT (sT S) i = true → i ≠ k → ¬ (tP (sT S) i = d ∧ tM (sT S) i = l)) (tN (sT S) - 1) ⟨1, by omega, by omega, rfl, fun k a b => by omega⟩ ?_
  rintro j x R ⟨q, g1, g2, rfl, g4⟩ hR
  unfold wX9_rename_B152 wX9_rename_L204
  have step : (tT (sT S) q = true → q ≠ k → ¬ (tP (sT S) q = d ∧ tM (sT S) q = l)) → q < tN (sT S) → R (nI (q + 1)) := by
    intro z y
    refine hR (j - 1) _ (by omega) ⟨q + 1, by omega, by omega, rfl, fun k a b c => ?_⟩
    by_cases e : k = q
    · rw [e]; rw [e] at c; exact z c
    · exact g4 k a (by omega) c
  by_cases hq : q < tN (sT S)
  · have c0 := hT.2.1 q hq
    cases ht : tT (sT S) q with
    | false =>
      rw [ht] at c0
      have c0' : aI_ σ (m + 5) q = nI 0 := c0
      simp (disch := omega) only [atg_sI, afI_sI, afL_sI, afR_sI, aln_sI, aaI_sI, aaL_sI, aaR_sI, anx_sI, abc_sI, abs_sI, alo_sI, atg_wI, afI_wI, afL_wI, afR_wI, aln_wI, aaI_wI, aaL_wI, aaR_wI, anx_wI, abc_wI, abs_wI, alo_wI, atg_wL, afI_wL, afL_wL, afR_wL, aln_wL, aaI_wL, aaL_wL, aaR_wL, anx_wL, abc_wL, abs_wL, alo_wL, u2_e, u2_r, u2_i, u3_e, u3_k, u3_c, u3_r, mw_tag hw, mw_lo hw, mw_loa hw, mf_3 hw, mt_3 hw, ml_3 hw, mf_4 hw, mt_4 hw, ml_4 hw, mf_5 hw, mt_5 hw, ml_5 hw, mf_9 hw, mt_9 hw, ml_9 hw, mf_11 hw, mt_11 hw, ml_11 hw, mf_12 hw, mt_12 hw, ml_12 hw, mf_13 hw, mt_13 hw, ml_13 hw, mf_14 hw, mt_14 hw, ml_14 hw, mf_15 hw, mt_15 hw, ml_15 hw, mf_16 hw, mt_16 hw, ml_16 hw, mf_17 hw, mt_17 hw, ml_17 hw, mf_18 hw, mt_18 hw, ml_18 hw, mf_19 hw, mt_19 hw, ml_19 hw, mf_21 hw, mt_21 hw, ml_21 hw, mf_24 hw, mt_24 hw, ml_24 hw, mf_25 hw, mt_25 hw, ml_25 hw, mf_26 hw, mt_26 hw, ml_26 hw, mf_29 hw, mt_29 hw, ml_29 hw, mf_30 hw, mt_30 hw, ml_30 hw, mf_31 hw, mt_31 hw, ml_31 hw, mf_32 hw, mt_32 hw, ml_32 hw, mf_33 hw, mt_33 hw, ml_33 hw, mf_34 hw, mt_34 hw, ml_34 hw, mf_36 hw, mt_36 hw, ml_36 hw, mf_37 hw, mt_37 hw, ml_37 hw, mf_38 hw, mt_38 hw, ml_38 hw, mf_39 hw, mt_39 hw, ml_39 hw, mf_40 hw, mt_40 hw, ml_40 hw, li_0, li_1, li_2, li_3, li_4, li_5, li_6, li_7, li_8, li_9, li_10, li_12, li_14, li_16, li_17, li_18, li_19, li_20, li_25, li_28, li_30, li_31, li_32, li_33, li_34, li_40, li_46, li_48, li_49, li_57, li_59, li_65, li_67, li_68, li_75, li_77, li_80, li_82, li_90, li_95, li_100, li_128, li_130, li_132, li_136, li_140, li_148, li_156, li_200, li_255, li_256, li_400, li_700, li_2047, li_2048, li_2049, li_2050, li_2054, li_2056, li_4096, li_6000, li_163840, li_409600, li_819200, nI_add, pk_mul, pk_sub, nI_leI, nI_ltI, nI_eq, nI_clamp, vin_t, forall_eq, true_and, and_true, forall_const, implies_true, hT.1, c0']
      have st := step (fun z => by rw [ht] at z; cases z) hq
      exact ⟨fun z => by omega, fun _ => ⟨fun _ => st, fun _ => ⟨st, fun z => absurd trivial z⟩⟩⟩
    | true =>
      rw [ht] at c0
      have c0' : aI_ σ (m + 5) q = nI 1 := c0
      obtain ⟨c1, c2, c3, -⟩ := hT.2.2 q hq ht
      have hp := (dep_s okT (by omega) hq ht).1
      obtain ⟨n1, n2⟩ := nm_b okT hq ht
      simp (disch := omega) only [atg_sI, afI_sI, afL_sI, afR_sI, aln_sI, aaI_sI, aaL_sI, aaR_sI, anx_sI, abc_sI, abs_sI, alo_sI, atg_wI, afI_wI, afL_wI, afR_wI, aln_wI, aaI_wI, aaL_wI, aaR_wI, anx_wI, abc_wI, abs_wI, alo_wI, atg_wL, afI_wL, afL_wL, afR_wL, aln_wL, aaI_wL, aaL_wL, aaR_wL, anx_wL, abc_wL, abs_wL, alo_wL, u2_e, u2_r, u2_i, u3_e, u3_k, u3_c, u3_r, mw_tag hw, mw_lo hw, mw_loa hw, mf_3 hw, mt_3 hw, ml_3 hw, mf_4 hw, mt_4 hw, ml_4 hw, mf_5 hw, mt_5 hw, ml_5 hw, mf_9 hw, mt_9 hw, ml_9 hw, mf_11 hw, mt_11 hw, ml_11 hw, mf_12 hw, mt_12 hw, ml_12 hw, mf_13 hw, mt_13 hw, ml_13 hw, mf_14 hw, mt_14 hw, ml_14 hw, mf_15 hw, mt_15 hw, ml_15 hw, mf_16 hw, mt_16 hw, ml_16 hw, mf_17 hw, mt_17 hw, ml_17 hw, mf_18 hw, mt_18 hw, ml_18 hw, mf_19 hw, mt_19 hw, ml_19 hw, mf_21 hw, mt_21 hw, ml_21 hw, mf_24 hw, mt_24 hw, ml_24 hw, mf_25 hw, mt_25 hw, ml_25 hw, mf_26 hw, mt_26 hw, ml_26 hw, mf_29 hw, mt_29 hw, ml_29 hw, mf_30 hw, mt_30 hw, ml_30 hw, mf_31 hw, mt_31 hw, ml_31 hw, mf_32 hw, mt_32 hw, ml_32 hw, mf_33 hw, mt_33 hw, ml_33 hw, mf_34 hw, mt_34 hw, ml_34 hw, mf_36 hw, mt_36 hw, ml_36 hw, mf_37 hw, mt_37 hw, ml_37 hw, mf_38 hw, mt_38 hw, ml_38 hw, mf_39 hw, mt_39 hw, ml_39 hw, mf_40 hw, mt_40 hw, ml_40 hw, li_0, li_1, li_2, li_3, li_4, li_5, li_6, li_7, li_8, li_9, li_10, li_12, li_14, li_16, li_17, li_18, li_19, li_20, li_25, li_28, li_30, li_31, li_32, li_33, li_34, li_40, li_46, li_48, li_49, li_57, li_59, li_65, li_67, li_68, li_75, li_77, li_80, li_82, li_90, li_95, li_100, li_128, li_130, li_132, li_136, li_140, li_148, li_156, li_200, li_255, li_256, li_400, li_700, li_2047, li_2048, li_2049, li_2050, li_2054, li_2056, li_4096, li_6000, li_163840, li_409600, li_819200, nI_add, pk_mul, pk_sub, nI_leI, nI_ltI, nI_eq, nI_clamp, vin_t, forall_eq, true_and, and_true, forall_const, implies_true, hT.1, c0', c2, c3]
      refine ⟨fun z => by omega, fun _ => ⟨fun z => step (fun _ y => absurd z y) hq, fun zk => ⟨fun z => by omega, fun _ => ⟨fun z => step (fun _ _ y => z y.1) hq, fun z => ?_⟩⟩⟩⟩
      rw [lgcN (wd64 n1 (fun c hc => (n2 c hc).2)) (wd64 hl (fun c hc => (hl2 c hc).2))]
      refine ⟨fun y => step (fun _ _ x => y (by rw [x.2])) hq, fun y => k5 ⟨q, mem_tL.mpr ⟨hq, ht⟩, by omega, zk, z, wd_inj _ _ n2 hl2 y⟩⟩
  · simp (disch := omega) only [atg_sI, afI_sI, afL_sI, afR_sI, aln_sI, aaI_sI, aaL_sI, aaR_sI, anx_sI, abc_sI, abs_sI, alo_sI, atg_wI, afI_wI, afL_wI, afR_wI, aln_wI, aaI_wI, aaL_wI, aaR_wI, anx_wI, abc_wI, abs_wI, alo_wI, atg_wL, afI_wL, afL_wL, afR_wL, aln_wL, aaI_wL, aaL_wL, aaR_wL, anx_wL, abc_wL, abs_wL, alo_wL, u2_e, u2_r, u2_i, u3_e, u3_k, u3_c, u3_r, mw_tag hw, mw_lo hw, mw_loa hw, mf_3 hw, mt_3 hw, ml_3 hw, mf_4 hw, mt_4 hw, ml_4 hw, mf_5 hw, mt_5 hw, ml_5 hw, mf_9 hw, mt_9 hw, ml_9 hw, mf_11 hw, mt_11 hw, ml_11 hw, mf_12 hw, mt_12 hw, ml_12 hw, mf_13 hw, mt_13 hw, ml_13 hw, mf_14 hw, mt_14 hw, ml_14 hw, mf_15 hw, mt_15 hw, ml_15 hw, mf_16 hw, mt_16 hw, ml_16 hw, mf_17 hw, mt_17 hw, ml_17 hw, mf_18 hw, mt_18 hw, ml_18 hw, mf_19 hw, mt_19 hw, ml_19 hw, mf_21 hw, mt_21 hw, ml_21 hw, mf_24 hw, mt_24 hw, ml_24 hw, mf_25 hw, mt_25 hw, ml_25 hw, mf_26 hw, mt_26 hw, ml_26 hw, mf_29 hw, mt_29 hw, ml_29 hw, mf_30 hw, mt_30 hw, ml_30 hw, mf_31 hw, mt_31 hw, ml_31 hw, mf_32 hw, mt_32 hw, ml_32 hw, mf_33 hw, mt_33 hw, ml_33 hw, mf_34 hw, mt_34 hw, ml_34 hw, mf_36 hw, mt_36 hw, ml_36 hw, mf_37 hw, mt_37 hw, ml_37 hw, mf_38 hw, mt_38 hw, ml_38 hw, mf_39 hw, mt_39 hw, ml_39 hw, mf_40 hw, mt_40 hw, ml_40 hw, li_0, li_1, li_2, li_3, li_4, li_5, li_6, li_7, li_8, li_9, li_10, li_12, li_14, li_16, li_17, li_18, li_19, li_20, li_25, li_28, li_30, li_31, li_32, li_33, li_34, li_40, li_46, li_48, li_49, li_57, li_59, li_65, li_67, li_68, li_75, li_77, li_80, li_82, li_90, li_95, li_100, li_128, li_130, li_132, li_136, li_140, li_148, li_156, li_200, li_255, li_256, li_400, li_700, li_2047, li_2048, li_2049, li_2050, li_2054, li_2056, li_4096, li_6000, li_163840, li_409600, li_819200, nI_add, pk_mul, pk_sub, nI_leI, nI_ltI, nI_eq, nI_clamp, vin_t, forall_eq, true_and, and_true, forall_const, implies_true, hT.1]
    refine ⟨fun _ => k0 _ (fun ⟨i, a, b, c, d, e⟩ => ?_) (h.tree (by (repeat' first | with_reducible exact MFr.refl | with_reducible assumption | with_reducible apply MFr.wI' | with_reducible apply MFr.wL' | with_reducible apply MFr.sI' | omega | trivial | exact ⟨by omega, by omega⟩ | exact rfl)) ?_) (by (repeat' first | with_reducible exact MFr.refl | with_reducible assumption | with_reducible apply MFr.wI' | with_reducible apply MFr.wL' | with_reducible apply MFr.sI' | omega | trivial | exact ⟨by omega, by omega⟩ | exact rfl)), fun z => by omega⟩
    · obtain ⟨a1, a2⟩ := mem_tL.mp a
      exact g4 i b (by omega) a2 c ⟨d, e⟩
    refine ⟨?_, fun i hi => ?_, fun i hi ht => ?_⟩
    · simp (disch := omega) only [atg_sI, afI_sI, afL_sI, afR_sI, aln_sI, aaI_sI, aaL_sI, aaR_sI, anx_sI, abc_sI, abs_sI, alo_sI, atg_wI, afI_wI, afL_wI, afR_wI, aln_wI, aaI_wI, aaL_wI, aaR_wI, anx_wI, abc_wI, abs_wI, alo_wI, atg_wL, afI_wL, afL_wL, afR_wL, aln_wL, aaI_wL, aaL_wL, aaR_wL, anx_wL, abc_wL, abs_wL, alo_wL, u2_e, u2_r, u2_i, u3_e, u3_k, u3_c, u3_r]; exact hT.1
    · simp (disch := omega) only [atg_sI, afI_sI, afL_sI, afR_sI, aln_sI, aaI_sI, aaL_sI, aaR_sI, anx_sI, abc_sI, abs_sI, alo_sI, atg_wI, afI_wI, afL_wI, afR_wI, aln_wI, aaI_wI, aaL_wI, aaR_wI, anx_wI, abc_wI, abs_wI, alo_wI, atg_wL, afI_wL, afL_wL, afR_wL, aln_wL, aaI_wL, aaL_wL, aaR_wL, anx_wL, abc_wL, abs_wL, alo_wL, u2_e, u2_r, u2_i, u3_e, u3_k, u3_c, u3_r]
      exact hT.2.1 i hi
    · obtain ⟨c1, c2, c3, c4, c5, c6, c7⟩ := hT.2.2 i hi ht
      show _ = nI (tD (sT S) i) ∧ _ = nI (upA (tP (sT S)) k d i) ∧ _ = lN (wd (upA (tM (sT S)) k l i)) ∧ _ = nI (tS (sT S) i) ∧ _ = nI (tE (sT S) i) ∧ (tD (sT S) i = 0 → 0 < tS (sT S) i → _ = b2 (tW (sT S) i)) ∧ _ = nI (tX (sT S) i)
      by_cases e' : i = k
      · subst e'
        simp (disch := omega) only [atg_sI, afI_sI, afL_sI, afR_sI, aln_sI, aaI_sI, aaL_sI, aaR_sI, anx_sI, abc_sI, abs_sI, alo_sI, atg_wI, afI_wI, afL_wI, afR_wI, aln_wI, aaI_wI, aaL_wI, aaR_wI, anx_wI, abc_wI, abs_wI, alo_wI, atg_wL, afI_wL, afL_wL, afR_wL, aln_wL, aaI_wL, aaL_wL, aaR_wL, anx_wL, abc_wL, abs_wL, alo_wL, u2_e, u2_r, u2_i, u3_e, u3_k, u3_c, u3_r, upA_e]
        exact ⟨c1, trivial, trivial, c4, c5, c6, c7⟩
      · simp only [upA_n e']
        simp (disch := omega) only [atg_sI, afI_sI, afL_sI, afR_sI, aln_sI, aaI_sI, aaL_sI, aaR_sI, anx_sI, abc_sI, abs_sI, alo_sI, atg_wI, afI_wI, afL_wI, afR_wI, aln_wI, aaI_wI, aaL_wI, aaR_wI, anx_wI, abc_wI, abs_wI, alo_wI, atg_wL, afI_wL, afL_wL, afR_wL, aln_wL, aaI_wL, aaL_wL, aaR_wL, anx_wL, abc_wL, abs_wL, alo_wL, u2_e, u2_r, u2_i, u3_e, u3_k, u3_c, u3_r]
        exact ⟨c1, c2, c3, c4, c5, c6, c7⟩
theorem M_rename (h : MI σ m S) (ok : AOK S) {x y : Int32} {a : Nat} (ha : a < 2 ^ 64) {post : Int32 → Hp → Prop} (k : ∀ σ', MI σ' m (opRename S x y a).2 → MFr m σ σ' TP TQ → post (opRename S x y a).1 σ') : wX9_rename m x y (lN a) σ post := by
  obtain ⟨⟨sd, hM⟩, -⟩ := id h
  unfold wX9_rename
  refine ⟨mw_tag hM.1, fun σ2 e2 => ?_⟩
  have f2 : MFr m σ σ2 PX QX := by rw [e2]; exact MFr.thr
  have h2 := h.fr f2
  obtain ⟨⟨sd2, hM2⟩, hP, hT, hO⟩ := id h2
  have hw := hM2.1
  obtain ⟨okM, okT, -⟩ := id ok
  have hN := okT.1.2.1
  have h1' := okT.1.1
  have same := k σ2
  rw [hP.2.1]
  unfold opRename at k same
  cases hl : sLo S with
  | true =>
    rw [hl] at same
    exact ⟨fun z => absurd z (by decide), fun _ => same h2 f2.tt⟩
  | false =>
    rw [hl] at k same
    rw [if_neg (by decide)] at k same
    refine ⟨fun _ => m_told ha (m_isNode h2 ok (fun q hq hqt hx hn => ⟨fun y => absurd y (by decide), fun _ => ?_⟩) (fun hn => ⟨fun _ => by rw [hn] at same; exact same h2 f2.tt, fun y => absurd rfl y⟩)), fun z => absurd rfl z⟩
    rw [hn] at k same
    simp only at k same
    rw [hx, li_0, nI_eq (by omega) (by omega)]
    have sm : (∀ d, nodeOf (sT S) y = some d → (q = 0 ∨ tD (sT S) d ≠ 1 ∨ told a = [] ∨ lies (sT S) d q)) → post (-2) σ2 := by
      intro z
      cases hy : nodeOf (sT S) y with
      | none => rw [hy] at same; exact same h2 f2.tt
      | some d =>
        rw [hy] at same
        simp only at same
        rw [ic_t (z d hy)] at same
        exact same h2 f2.tt
    refine ⟨fun e => sm (fun _ _ => Or.inl e), fun e => m_isNode h2 ok (fun d hd hdt hx2 hn2 => ⟨fun y => absurd y (by decide), fun _ => ?_⟩) (fun hn2 => ⟨fun _ => sm (fun d' z => by rw [hn2] at z; cases z), fun y => absurd rfl y⟩)⟩
    have sm2 : (tD (sT S) d ≠ 1 ∨ told a = [] ∨ lies (sT S) d q) → post (-2) σ2 := fun z => sm (fun d' z' => by rw [hn2] at z'; cases z'; exact Or.inr z)
    rw [hn2] at k same
    simp only at k same
    subst hx hx2
    obtain ⟨c1, -⟩ := hT.2.2 d hd hdt
    have hD := root_D okT hd hdt
    have hwd : wd (told a) < 2 ^ 64 := wd64 (told_len a) (fun c hc => (told_b a c hc).2)
    simp (disch := omega) only [atg_sI, afI_sI, afL_sI, afR_sI, aln_sI, aaI_sI, aaL_sI, aaR_sI, anx_sI, abc_sI, abs_sI, alo_sI, atg_wI, afI_wI, afL_wI, afR_wI, aln_wI, aaI_wI, aaL_wI, aaR_wI, anx_wI, abc_wI, abs_wI, alo_wI, atg_wL, afI_wL, afL_wL, afR_wL, aln_wL, aaI_wL, aaL_wL, aaR_wL, anx_wL, abc_wL, abs_wL, alo_wL, u2_e, u2_r, u2_i, u3_e, u3_k, u3_c, u3_r, mw_tag hw, mw_lo hw, mw_loa hw, mf_3 hw, mt_3 hw, ml_3 hw, mf_4 hw, mt_4 hw, ml_4 hw, mf_5 hw, mt_5 hw, ml_5 hw, mf_9 hw, mt_9 hw, ml_9 hw, mf_11 hw, mt_11 hw, ml_11 hw, mf_12 hw, mt_12 hw, ml_12 hw, mf_13 hw, mt_13 hw, ml_13 hw, mf_14 hw, mt_14 hw, ml_14 hw, mf_15 hw, mt_15 hw, ml_15 hw, mf_16 hw, mt_16 hw, ml_16 hw, mf_17 hw, mt_17 hw, ml_17 hw, mf_18 hw, mt_18 hw, ml_18 hw, mf_19 hw, mt_19 hw, ml_19 hw, mf_21 hw, mt_21 hw, ml_21 hw, mf_24 hw, mt_24 hw, ml_24 hw, mf_25 hw, mt_25 hw, ml_25 hw, mf_26 hw, mt_26 hw, ml_26 hw, mf_29 hw, mt_29 hw, ml_29 hw, mf_30 hw, mt_30 hw, ml_30 hw, mf_31 hw, mt_31 hw, ml_31 hw, mf_32 hw, mt_32 hw, ml_32 hw, mf_33 hw, mt_33 hw, ml_33 hw, mf_34 hw, mt_34 hw, ml_34 hw, mf_36 hw, mt_36 hw, ml_36 hw, mf_37 hw, mt_37 hw, ml_37 hw, mf_38 hw, mt_38 hw, ml_38 hw, mf_39 hw, mt_39 hw, ml_39 hw, mf_40 hw, mt_40 hw, ml_40 hw, li_0, li_1, li_2, li_3, li_4, li_5, li_6, li_7, li_8, li_9, li_10, li_12, li_14, li_16, li_17, li_18, li_19, li_20, li_25, li_28, li_30, li_31, li_32, li_33, li_34, li_40, li_46, li_48, li_49, li_57, li_59, li_65, li_67, li_68, li_75, li_77, li_80, li_82, li_90, li_95, li_100, li_128, li_130, li_132, li_136, li_140, li_148, li_156, li_200, li_255, li_256, li_400, li_700, li_2047, li_2048, li_2049, li_2050, li_2054, li_2056, li_4096, li_6000, li_163840, li_409600, li_819200, nI_add, pk_mul, pk_sub, nI_leI, nI_ltI, nI_eq, nI_clamp, vin_t, forall_eq, true_and, and_true, forall_const, implies_true, c1]
    refine ⟨fun e3 => sm2 (Or.inl (by omega)), fun e3 => ?_⟩
    rw [show (lg_cmp (lN (wd (told a))) 0 = nI 0) ↔ wd (told a) = 0 from lgc0 hwd]
    refine ⟨fun e4 => sm2 (Or.inr (Or.inl ?_)), fun e4 => m_liesIn hw hT okT hd hdt (by omega) (fun e5 => ⟨fun z => absurd z (by decide), fun _ => sm2 (Or.inr (Or.inr e5))⟩) (fun e5 => ⟨fun _ => ?_, fun z => absurd rfl z⟩)⟩
    · rcases told_ok a with q | q
      · exact q
      · have := wd_ge (told a) (fun c hc => (told_b a c hc).1) (by intro y; rw [y] at q; exact absurd q.1 (by simp))
        have h3 : 0 < 256 ^ ((told a).length - 1) := Nat.pow_pos (by decide)
        omega
    have hno : ¬ (q = 0 ∨ tD (sT S) d ≠ 1 ∨ told a = [] ∨ lies (sT S) d q) := by
      rintro (z | z | z | z)
      · exact e z
      · omega
      · rw [z] at e4; exact e4 rfl
      · exact e5 z
    rw [ic_f hno] at k same
    have dd := dep_6 okT hd hdt (by omega)
    have dq := dep_7 okT hq hqt
    refine m_depthOf hw hT okT hd hdt (m_depthOf hw hT okT hq hqt ?_)
    obtain ⟨y51, hy51⟩ : ∃ y51, y51 = nI (dep (sT S) d) + nI 1 - nI (dep (sT S) q) := ⟨_, rfl⟩
    rw [← hy51]
    rw [nI_add] at hy51
    unfold wX9_rename_L87
    refine lpG1 (B := fun R x => wX9_rename_B87 post R m (nI q) (nI d) (lN (wd (told a))) y51 x σ2) (fun j x => ∃ i, i + j = tN (sT S) ∧ 1 ≤ i ∧ x = nI i ∧ ∀ k, 0 < k → k < i → tT (sT S) k = true → ¬ (tD (sT S) k = 1 ∧ lies (sT S) k q ∧ 6 + dep (sT S) q < dep (sT S) k + dep (sT S) d + 1)) (tN (sT S) - 1) ⟨1, by omega, by omega, rfl, fun k a b => by omega⟩ ?_
    rintro j x R ⟨i, g1, g2, rfl, g4⟩ hR
    unfold wX9_rename_B87 wX9_rename_L143
    have step : (tT (sT S) i = true → ¬ (tD (sT S) i = 1 ∧ lies (sT S) i q ∧ 6 + dep (sT S) q < dep (sT S) i + dep (sT S) d + 1)) → i < tN (sT S) → R (nI (i + 1)) := by
      intro z y
      refine hR (j - 1) _ (by omega) ⟨i + 1, by omega, by omega, rfl, fun k a b c => ?_⟩
      by_cases e : k = i
      · rw [e]; rw [e] at c; exact z c
      · exact g4 k a (by omega) c
    by_cases hi : i < tN (sT S)
    · have c0 := hT.2.1 i hi
      cases ht : tT (sT S) i with
      | false =>
        rw [ht] at c0
        have c0' : aI_ σ2 (m + 5) i = nI 0 := c0
        simp (disch := omega) only [atg_sI, afI_sI, afL_sI, afR_sI, aln_sI, aaI_sI, aaL_sI, aaR_sI, anx_sI, abc_sI, abs_sI, alo_sI, atg_wI, afI_wI, afL_wI, afR_wI, aln_wI, aaI_wI, aaL_wI, aaR_wI, anx_wI, abc_wI, abs_wI, alo_wI, atg_wL, afI_wL, afL_wL, afR_wL, aln_wL, aaI_wL, aaL_wL, aaR_wL, anx_wL, abc_wL, abs_wL, alo_wL, u2_e, u2_r, u2_i, u3_e, u3_k, u3_c, u3_r, mw_tag hw, mw_lo hw, mw_loa hw, mf_3 hw, mt_3 hw, ml_3 hw, mf_4 hw, mt_4 hw, ml_4 hw, mf_5 hw, mt_5 hw, ml_5 hw, mf_9 hw, mt_9 hw, ml_9 hw, mf_11 hw, mt_11 hw, ml_11 hw, mf_12 hw, mt_12 hw, ml_12 hw, mf_13 hw, mt_13 hw, ml_13 hw, mf_14 hw, mt_14 hw, ml_14 hw, mf_15 hw, mt_15 hw, ml_15 hw, mf_16 hw, mt_16 hw, ml_16 hw, mf_17 hw, mt_17 hw, ml_17 hw, mf_18 hw, mt_18 hw, ml_18 hw, mf_19 hw, mt_19 hw, ml_19 hw, mf_21 hw, mt_21 hw, ml_21 hw, mf_24 hw, mt_24 hw, ml_24 hw, mf_25 hw, mt_25 hw, ml_25 hw, mf_26 hw, mt_26 hw, ml_26 hw, mf_29 hw, mt_29 hw, ml_29 hw, mf_30 hw, mt_30 hw, ml_30 hw, mf_31 hw, mt_31 hw, ml_31 hw, mf_32 hw, mt_32 hw, ml_32 hw, mf_33 hw, mt_33 hw, ml_33 hw, mf_34 hw, mt_34 hw, ml_34 hw, mf_36 hw, mt_36 hw, ml_36 hw, mf_37 hw, mt_37 hw, ml_37 hw, mf_38 hw, mt_38 hw, ml_38 hw, mf_39 hw, mt_39 hw, ml_39 hw, mf_40 hw, mt_40 hw, ml_40 hw, li_0, li_1, li_2, li_3, li_4, li_5, li_6, li_7, li_8, li_9, li_10, li_12, li_14, li_16, li_17, li_18, li_19, li_20, li_25, li_28, li_30, li_31, li_32, li_33, li_34, li_40, li_46, li_48, li_49, li_57, li_59, li_65, li_67, li_68, li_75, li_77, li_80, li_82, li_90, li_95, li_100, li_128, li_130, li_132, li_136, li_140, li_148, li_156, li_200, li_255, li_256, li_400, li_700, li_2047, li_2048, li_2049, li_2050, li_2054, li_2056, li_4096, li_6000, li_163840, li_409600, li_819200, nI_add, pk_mul, pk_sub, nI_leI, nI_ltI, nI_eq, nI_clamp, vin_t, forall_eq, true_and, and_true, forall_const, implies_true, hT.1, c0']
        exact ⟨fun z => by omega, fun _ => ⟨step (fun z => by rw [ht] at z; cases z) hi, fun z => absurd trivial z⟩⟩
      | true =>
        rw [ht] at c0
        have c0' : aI_ σ2 (m + 5) i = nI 1 := c0
        obtain ⟨c1, -⟩ := hT.2.2 i hi ht
        have hD' := root_D okT hi ht
        simp (disch := omega) only [atg_sI, afI_sI, afL_sI, afR_sI, aln_sI, aaI_sI, aaL_sI, aaR_sI, anx_sI, abc_sI, abs_sI, alo_sI, atg_wI, afI_wI, afL_wI, afR_wI, aln_wI, aaI_wI, aaL_wI, aaR_wI, anx_wI, abc_wI, abs_wI, alo_wI, atg_wL, afI_wL, afL_wL, afR_wL, aln_wL, aaI_wL, aaL_wL, aaR_wL, anx_wL, abc_wL, abs_wL, alo_wL, u2_e, u2_r, u2_i, u3_e, u3_k, u3_c, u3_r, mw_tag hw, mw_lo hw, mw_loa hw, mf_3 hw, mt_3 hw, ml_3 hw, mf_4 hw, mt_4 hw, ml_4 hw, mf_5 hw, mt_5 hw, ml_5 hw, mf_9 hw, mt_9 hw, ml_9 hw, mf_11 hw, mt_11 hw, ml_11 hw, mf_12 hw, mt_12 hw, ml_12 hw, mf_13 hw, mt_13 hw, ml_13 hw, mf_14 hw, mt_14 hw, ml_14 hw, mf_15 hw, mt_15 hw, ml_15 hw, mf_16 hw, mt_16 hw, ml_16 hw, mf_17 hw, mt_17 hw, ml_17 hw, mf_18 hw, mt_18 hw, ml_18 hw, mf_19 hw, mt_19 hw, ml_19 hw, mf_21 hw, mt_21 hw, ml_21 hw, mf_24 hw, mt_24 hw, ml_24 hw, mf_25 hw, mt_25 hw, ml_25 hw, mf_26 hw, mt_26 hw, ml_26 hw, mf_29 hw, mt_29 hw, ml_29 hw, mf_30 hw, mt_30 hw, ml_30 hw, mf_31 hw, mt_31 hw, ml_31 hw, mf_32 hw, mt_32 hw, ml_32 hw, mf_33 hw, mt_33 hw, ml_33 hw, mf_34 hw, mt_34 hw, ml_34 hw, mf_36 hw, mt_36 hw, ml_36 hw, mf_37 hw, mt_37 hw, ml_37 hw, mf_38 hw, mt_38 hw, ml_38 hw, mf_39 hw, mt_39 hw, ml_39 hw, mf_40 hw, mt_40 hw, ml_40 hw, li_0, li_1, li_2, li_3, li_4, li_5, li_6, li_7, li_8, li_9, li_10, li_12, li_14, li_16, li_17, li_18, li_19, li_20, li_25, li_28, li_30, li_31, li_32, li_33, li_34, li_40, li_46, li_48, li_49, li_57, li_59, li_65, li_67, li_68, li_75, li_77, li_80, li_82, li_90, li_95, li_100, li_128, li_130, li_132, li_136, li_140, li_148, li_156, li_200, li_255, li_256, li_400, li_700, li_2047, li_2048, li_2049, li_2050, li_2054, li_2056, li_4096, li_6000, li_163840, li_409600, li_819200, nI_add, pk_mul, pk_sub, nI_leI, nI_ltI, nI_eq, nI_clamp, vin_t, forall_eq, true_and, and_true, forall_const, implies_true, hT.1, c0', c1]
        refine ⟨fun z => by omega, fun _ => ⟨fun z => by omega, fun _ => ⟨fun z => step (fun _ y => by omega) hi, fun z => ?_⟩⟩⟩
        refine m_liesIn hw hT okT hi ht (by omega) (fun e6 => ⟨fun z => absurd z (by decide), fun _ => m_depthOf hw hT okT hi ht ?_⟩) (fun e6 => ⟨fun _ => step (fun _ y => e6 y.2.1) hi, fun z => absurd rfl z⟩)
        have d7 := dep_7 okT hi ht
        have ey : (nI (dep (sT S) i) + y51).toInt = (dep (sT S) i : Int) + dep (sT S) d + 1 - dep (sT S) q := by
          rw [hy51]
          have : nI (dep (sT S) i) + (nI (dep (sT S) d + 1) - nI (dep (sT S) q)) = nI (dep (sT S) i + (dep (sT S) d + 1)) - nI (dep (sT S) q) := by
            rw [← nI_add (dep (sT S) i)]
            apply Int32.toBitVec_inj.mp
            rw [Int32.toBitVec_add, Int32.toBitVec_sub, Int32.toBitVec_sub, Int32.toBitVec_add, BitVec.sub_eq_add_neg, BitVec.sub_eq_add_neg, BitVec.add_assoc]
          rw [this, pk_sub_toInt (by omega) (by omega)]
          omega
        have ele : (nI (dep (sT S) i) + y51 ≤ nI 6) ↔ dep (sT S) i + dep (sT S) d + 1 ≤ 6 + dep (sT S) q := by
          rw [Int32.le_iff_toInt_le, ey, nI_toInt (by decide)]
          omega
        rw [ele]
        refine ⟨fun z2 => step (fun _ y => by omega) hi, fun z2 => ?_⟩
        rw [ic_t ⟨i, mem_tL.mpr ⟨hi, ht⟩, by omega, by omega, e6, by omega⟩] at same
        exact same h2 f2.tt
    · have hno2 : ¬ ∃ q' ∈ tL (sT S), 0 < q' ∧ tD (sT S) q' = 1 ∧ lies (sT S) q' q ∧ 6 + dep (sT S) q < dep (sT S) q' + dep (sT S) d + 1 := by
        rintro ⟨q', a, b, c⟩
        obtain ⟨a1, a2⟩ := mem_tL.mp a
        exact g4 q' b (by omega) a2 c
      rw [ic_f hno2] at k same
      simp (disch := omega) only [atg_sI, afI_sI, afL_sI, afR_sI, aln_sI, aaI_sI, aaL_sI, aaR_sI, anx_sI, abc_sI, abs_sI, alo_sI, atg_wI, afI_wI, afL_wI, afR_wI, aln_wI, aaI_wI, aaL_wI, aaR_wI, anx_wI, abc_wI, abs_wI, alo_wI, atg_wL, afI_wL, afL_wL, afR_wL, aln_wL, aaI_wL, aaL_wL, aaR_wL, anx_wL, abc_wL, abs_wL, alo_wL, u2_e, u2_r, u2_i, u3_e, u3_k, u3_c, u3_r, mw_tag hw, mw_lo hw, mw_loa hw, mf_3 hw, mt_3 hw, ml_3 hw, mf_4 hw, mt_4 hw, ml_4 hw, mf_5 hw, mt_5 hw, ml_5 hw, mf_9 hw, mt_9 hw, ml_9 hw, mf_11 hw, mt_11 hw, ml_11 hw, mf_12 hw, mt_12 hw, ml_12 hw, mf_13 hw, mt_13 hw, ml_13 hw, mf_14 hw, mt_14 hw, ml_14 hw, mf_15 hw, mt_15 hw, ml_15 hw, mf_16 hw, mt_16 hw, ml_16 hw, mf_17 hw, mt_17 hw, ml_17 hw, mf_18 hw, mt_18 hw, ml_18 hw, mf_19 hw, mt_19 hw, ml_19 hw, mf_21 hw, mt_21 hw, ml_21 hw, mf_24 hw, mt_24 hw, ml_24 hw, mf_25 hw, mt_25 hw, ml_25 hw, mf_26 hw, mt_26 hw, ml_26 hw, mf_29 hw, mt_29 hw, ml_29 hw, mf_30 hw, mt_30 hw, ml_30 hw, mf_31 hw, mt_31 hw, ml_31 hw, mf_32 hw, mt_32 hw, ml_32 hw, mf_33 hw, mt_33 hw, ml_33 hw, mf_34 hw, mt_34 hw, ml_34 hw, mf_36 hw, mt_36 hw, ml_36 hw, mf_37 hw, mt_37 hw, ml_37 hw, mf_38 hw, mt_38 hw, ml_38 hw, mf_39 hw, mt_39 hw, ml_39 hw, mf_40 hw, mt_40 hw, ml_40 hw, li_0, li_1, li_2, li_3, li_4, li_5, li_6, li_7, li_8, li_9, li_10, li_12, li_14, li_16, li_17, li_18, li_19, li_20, li_25, li_28, li_30, li_31, li_32, li_33, li_34, li_40, li_46, li_48, li_49, li_57, li_59, li_65, li_67, li_68, li_75, li_77, li_80, li_82, li_90, li_95, li_100, li_128, li_130, li_132, li_136, li_140, li_148, li_156, li_200, li_255, li_256, li_400, li_700, li_2047, li_2048, li_2049, li_2050, li_2054, li_2056, li_4096, li_6000, li_163840, li_409600, li_819200, nI_add, pk_mul, pk_sub, nI_leI, nI_ltI, nI_eq, nI_clamp, vin_t, forall_eq, true_and, and_true, forall_const, implies_true, hT.1]
      refine ⟨fun _ => m_ren152 h2 ok hq hqt hd (told_len a) (told_b a) (fun z => ?_) (fun σ' z1 z2 z3 => ?_), fun z => by omega⟩
      · rw [ic_t z] at same; exact same h2 f2.tt
      · rw [ic_f z1] at k; exact k σ' z2 (f2.tt.trans z3)
end
