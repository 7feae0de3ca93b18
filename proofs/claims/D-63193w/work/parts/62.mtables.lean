/-! the reference: the table of directories -/
theorem TBk_addL {n : Nat} {t : TT} (ok : TOK n t) {i : Nat} {tb : List Nat} (h : TBk t i tb) (hi : i < tb.length) : ∀ (L M : List Nat), TBk t (i + 1) (tb ++ M) → (M ++ L).Nodup → (∀ k ∈ L, k ∈ srt t (tb.getD i 0) ∧ tD t k = 1) → TBk t (i + 1) (tb ++ (M ++ L))
  | [], M, hM, _, _ => by rw [List.append_nil]; exact hM
  | k :: L, M, hM, hn, hL => by
    obtain ⟨h1, h2⟩ := hL k (List.mem_cons_self ..)
    obtain ⟨⟨a1, a2⟩, a3, a4⟩ := ((srt_ok ok _).2.1 k).mp h1
    have hkM : k ∉ M := by
      intro z
      rw [List.nodup_append] at hn
      exact hn.2.2 k z k (List.mem_cons_self ..) rfl
    have hk : k ∉ tb ++ M := by
      intro z
      rcases List.mem_append.mp z with q | q
      · exact TBk_new h hi a3 a4 q
      · exact hkM q
    have h3 := TBk_add ok hM (by simp; omega) a1 a2 a3 (by rw [gD_app hi]; exact a4) h2 hk
    rw [List.append_assoc] at h3
    have := TBk_addL ok h hi L (M ++ [k]) h3 (by rw [List.append_assoc]; exact hn) (fun x hx => hL x (List.mem_cons_of_mem _ hx))
    rw [List.append_assoc] at this
    exact this
theorem TBk_dirs {n : Nat} {t : TT} (ok : TOK n t) {i : Nat} {tb : List Nat} (h : TBk t i tb) (hi : i < tb.length) {L : List Nat} (hL : L.Sublist (srt t (tb.getD i 0))) (hd : ∀ k ∈ L, tD t k = 1) : TBk t (i + 1) (tb ++ L) := by
  have := TBk_addL ok h hi L [] (by rw [List.append_nil]; exact TBk_mono h (by omega)) (by simpa using (RL_ne (srt_ok ok _).1).sublist hL) (fun k hk => ⟨hL.subset hk, hd k hk⟩)
  simpa using this
theorem bfs_ok {n : Nat} {t : TT} (ok : TOK n t) : ∀ (j i : Nat) (tb : List Nat), TBk t i tb → i ≤ tb.length → 31 ≤ i + j → TBk t (bfs t j i tb).length (bfs t j i tb)
  | 0, i, tb, h, h1, h2 => by
    have := TBk_len ok h
    omega
  | j + 1, i, tb, h, h1, h2 => by
    unfold bfs
    split
    · rename_i hi
      have := TBk_dirs ok h hi (L := (srt t (tb.getD i 0)).filter (fun k => tD t k == 1)) (List.filter_sublist ..) (fun k hk => by have := (List.mem_filter.mp hk).2; simpa using this)
      exact bfs_ok ok j (i + 1) _ this (by simp; omega) (by omega)
    · exact TBk_mono h h1
theorem dirT_ok {n : Nat} {t : TT} (ok : TOK n t) : TBk t (dirT t).length (dirT t) := bfs_ok ok 31 0 [0] (TBk0 ok) (by simp) (by omega)
section
variable {σ : Hp} {m n : Nat} {t : TT}
/-- the table in the reference -/
def DTb (σ : Hp) (m : Nat) (tb : List Nat) : Prop := fI_ σ 8 22 m = nI tb.length ∧ ∀ i, i < tb.length → aI_ σ (m + 15) i = nI (tb.getD i 0)
def P15 : Nat → Nat → Prop := fun j _ => j = 15
def Q22 : Nat → Prop := fun k => k = 22
theorem MT0.f15 {σ' : Hp} (h : MT0 σ m t) (f : MFr m σ σ' P15 Q22) : MT0 σ' m t := h.fr f (by unfold Q22; omega) (fun j i a b q => by unfold P15 at q; omega)
theorem DTb_push {tb : List Nat} {k : Nat} (h : DTb σ m tb) (hl : tb.length < 30) : DTb (sI_ (wI_ σ (m + 15) tb.length (nI k)) 8 22 m (nI (tb.length + 1))) m (tb ++ [k]) := by
  refine ⟨by rw [afI_sI, u3_e]; simp, fun i hi => ?_⟩
  rw [aaI_sI, aaI_wI]
  by_cases e : i = tb.length
  · subst e
    rw [u2_e, List.getD_eq_getElem?_getD, List.getElem?_append_right (Nat.le_refl _)]
    simp
  · rw [u2_i e, gD_app (by simp at hi; omega)]
    exact h.2 i (by simp at hi; omega)
theorem flt_s {s : List Nat} {f : Nat → Bool} {c : Nat} (h : c < s.length) : (s.take (c + 1)).filter f = (s.take c).filter f ++ (if f s[c] then [s[c]] else []) := by
  rw [List.take_succ_eq_append_getElem h, List.filter_append]
  congr 1
  cases e : f s[c] <;> simp [e]
theorem m_tables34 (hw : MW σ m) (hT : MT0 σ m t) (ok : TOK n t) {i : Nat} {tb : List Nat} (hb : TBk t i tb) (hi : i < tb.length) (hD : DTb σ m tb) {post : Hp → Prop} {rc14 : Int32 → Hp → Prop}
    (k : ∀ σ', MFr m σ σ' P15 Q22 → DTb σ' m (tb ++ (srt t (tb.getD i 0)).filter (fun k => tD t k == 1)) → rc14 (nI (i + 1)) σ') : wX9_tables_L34 post rc14 m (nI i) (cdO (srt t (tb.getD i 0))[0]?) σ := by
  obtain ⟨d, hd⟩ : ∃ d, d = tb.getD i 0 := ⟨_, rfl⟩
  rw [← hd] at k ⊢
  have hN := ok.1.2.1
  have hdm : (d < tN t ∧ tT t d = true) ∧ tD t d = 1 := by rw [hd]; exact hb.2.2.2.1 _ (getD_mem hi)
  have hs29 := srt_len ok d
  have hL := TBk_len ok hb
  unfold wX9_tables_L34
  refine lpG2 (B := fun R x2 τ => wX9_tables_B34 post rc14 R m (nI i) x2 τ) (fun j x2 τ => ∃ c, c + j = (srt t d).length + 1 ∧ c ≤ (srt t d).length ∧ x2 = cdO (srt t d)[c]? ∧ MFr m σ τ P15 Q22 ∧ DTb τ m (tb ++ ((srt t d).take c).filter (fun k => tD t k == 1))) ((srt t d).length + 1) ⟨0, by omega, by omega, rfl, MFr.refl, by simpa using hD⟩ ?_
  rintro j x2 τ R ⟨c, h1, h2, rfl, h4, h5⟩ hR
  have hw' := h4.mw hw
  have hT' := hT.f15 h4
  unfold wX9_tables_B34
  by_cases hc : c < (srt t d).length
  · rw [List.getElem?_eq_getElem hc, show cdO (some (srt t d)[c]) = nI (srt t d)[c] from rfl]
    obtain ⟨x, hx⟩ : ∃ x, x = (srt t d)[c] := ⟨_, rfl⟩
    have hxm : x ∈ srt t d := by rw [hx]; exact List.getElem_mem hc
    obtain ⟨⟨a1, a2⟩, a3, a4⟩ := ((srt_ok ok d).2.1 x).mp hxm
    have hdx := root_D ok a1 a2
    have hbh : bhO (srt t d) (c + 1) = some x := by unfold bhO; rw [if_neg (by omega), Nat.add_sub_cancel, List.getElem?_eq_getElem hc, hx]
    rw [← hx]
    have hfl := flt_s (f := fun k => tD t k == 1) hc
    rw [← hx] at hfl
    -- the table with this one
    have hsub : (((srt t d).take (c + 1)).filter (fun k => tD t k == 1)).Sublist (srt t d) := (List.filter_sublist ..).trans (List.take_sublist ..)
    have hb' : TBk t (i + 1) (tb ++ ((srt t d).take (c + 1)).filter (fun k => tD t k == 1)) := TBk_dirs ok hb hi (by rw [← hd]; exact hsub) (fun k hk => by have := (List.mem_filter.mp hk).2; simpa using this)
    have hl' := TBk_len ok hb'
    have L70 : ∀ τ', MFr m σ τ' P15 Q22 → DTb τ' m (tb ++ ((srt t d).take (c + 1)).filter (fun k => tD t k == 1)) → wX9_tables_L70 post rc14 R m (nI i) (nI x) τ' := by
      intro τ' f hD'
      have hw := f.mw hw
      have hT2 := hT.f15 f
      have e1 : aI_ τ' (m + 15) i = nI d := by rw [hD'.2 i (by simp; omega), gD_app hi, hd]
      unfold wX9_tables_L70
      simp (disch := omega) only [atg_sI, afI_sI, afL_sI, afR_sI, aln_sI, aaI_sI, aaL_sI, aaR_sI, anx_sI, abc_sI, abs_sI, alo_sI, atg_wI, afI_wI, afL_wI, afR_wI, aln_wI, aaI_wI, aaL_wI, aaR_wI, anx_wI, abc_wI, abs_wI, alo_wI, atg_wL, afI_wL, afL_wL, afR_wL, aln_wL, aaI_wL, aaL_wL, aaR_wL, anx_wL, abc_wL, abs_wL, alo_wL, u2_e, u2_r, u2_i, u3_e, u3_k, u3_c, u3_r, mw_tag hw, mw_lo hw, mw_loa hw, mf_3 hw, mt_3 hw, ml_3 hw, mf_4 hw, mt_4 hw, ml_4 hw, mf_5 hw, mt_5 hw, ml_5 hw, mf_9 hw, mt_9 hw, ml_9 hw, mf_11 hw, mt_11 hw, ml_11 hw, mf_12 hw, mt_12 hw, ml_12 hw, mf_13 hw, mt_13 hw, ml_13 hw, mf_14 hw, mt_14 hw, ml_14 hw, mf_15 hw, mt_15 hw, ml_15 hw, mf_16 hw, mt_16 hw, ml_16 hw, mf_17 hw, mt_17 hw, ml_17 hw, mf_18 hw, mt_18 hw, ml_18 hw, mf_19 hw, mt_19 hw, ml_19 hw, mf_21 hw, mt_21 hw, ml_21 hw, mf_24 hw, mt_24 hw, ml_24 hw, mf_25 hw, mt_25 hw, ml_25 hw, mf_26 hw, mt_26 hw, ml_26 hw, mf_29 hw, mt_29 hw, ml_29 hw, mf_30 hw, mt_30 hw, ml_30 hw, mf_31 hw, mt_31 hw, ml_31 hw, mf_32 hw, mt_32 hw, ml_32 hw, mf_33 hw, mt_33 hw, ml_33 hw, mf_34 hw, mt_34 hw, ml_34 hw, mf_36 hw, mt_36 hw, ml_36 hw, mf_37 hw, mt_37 hw, ml_37 hw, mf_38 hw, mt_38 hw, ml_38 hw, mf_39 hw, mt_39 hw, ml_39 hw, mf_40 hw, mt_40 hw, ml_40 hw, li_0, li_1, li_2, li_3, li_4, li_5, li_6, li_7, li_8, li_9, li_10, li_12, li_14, li_16, li_17, li_18, li_19, li_20, li_25, li_28, li_30, li_31, li_32, li_33, li_34, li_40, li_46, li_48, li_49, li_57, li_59, li_65, li_67, li_68, li_75, li_77, li_80, li_82, li_90, li_95, li_100, li_128, li_130, li_132, li_136, li_140, li_148, li_156, li_200, li_255, li_256, li_400, li_700, li_2047, li_2048, li_2049, li_2050, li_2054, li_2056, li_4096, li_6000, li_163840, li_409600, li_819200, nI_add, pk_mul, pk_sub, nI_leI, nI_ltI, nI_eq, nI_clamp, vin_t, forall_eq, true_and, and_true, forall_const, implies_true, e1]
      have := m_nextI (post := fun r4 => R r4 τ') hw hT2 ok (d := d) (i := c + 1) hdm.1.1 (by omega) (hR (j - 1) _ _ (by omega) ⟨c + 1, by omega, by omega, rfl, f, hD'⟩)
      rw [hbh] at this
      exact this
    obtain ⟨c1, -⟩ := hT'.2.2 x a1 a2
    have hw := hw'
    rw [hfl] at hl' L70
    simp (disch := omega) only [atg_sI, afI_sI, afL_sI, afR_sI, aln_sI, aaI_sI, aaL_sI, aaR_sI, anx_sI, abc_sI, abs_sI, alo_sI, atg_wI, afI_wI, afL_wI, afR_wI, aln_wI, aaI_wI, aaL_wI, aaR_wI, anx_wI, abc_wI, abs_wI, alo_wI, atg_wL, afI_wL, afL_wL, afR_wL, aln_wL, aaI_wL, aaL_wL, aaR_wL, anx_wL, abc_wL, abs_wL, alo_wL, u2_e, u2_r, u2_i, u3_e, u3_k, u3_c, u3_r, mw_tag hw, mw_lo hw, mw_loa hw, mf_3 hw, mt_3 hw, ml_3 hw, mf_4 hw, mt_4 hw, ml_4 hw, mf_5 hw, mt_5 hw, ml_5 hw, mf_9 hw, mt_9 hw, ml_9 hw, mf_11 hw, mt_11 hw, ml_11 hw, mf_12 hw, mt_12 hw, ml_12 hw, mf_13 hw, mt_13 hw, ml_13 hw, mf_14 hw, mt_14 hw, ml_14 hw, mf_15 hw, mt_15 hw, ml_15 hw, mf_16 hw, mt_16 hw, ml_16 hw, mf_17 hw, mt_17 hw, ml_17 hw, mf_18 hw, mt_18 hw, ml_18 hw, mf_19 hw, mt_19 hw, ml_19 hw, mf_21 hw, mt_21 hw, ml_21 hw, mf_24 hw, mt_24 hw, ml_24 hw, mf_25 hw, mt_25 hw, ml_25 hw, mf_26 hw, mt_26 hw, ml_26 hw, mf_29 hw, mt_29 hw, ml_29 hw, mf_30 hw, mt_30 hw, ml_30 hw, mf_31 hw, mt_31 hw, ml_31 hw, mf_32 hw, mt_32 hw, ml_32 hw, mf_33 hw, mt_33 hw, ml_33 hw, mf_34 hw, mt_34 hw, ml_34 hw, mf_36 hw, mt_36 hw, ml_36 hw, mf_37 hw, mt_37 hw, ml_37 hw, mf_38 hw, mt_38 hw, ml_38 hw, mf_39 hw, mt_39 hw, ml_39 hw, mf_40 hw, mt_40 hw, ml_40 hw, li_0, li_1, li_2, li_3, li_4, li_5, li_6, li_7, li_8, li_9, li_10, li_12, li_14, li_16, li_17, li_18, li_19, li_20, li_25, li_28, li_30, li_31, li_32, li_33, li_34, li_40, li_46, li_48, li_49, li_57, li_59, li_65, li_67, li_68, li_75, li_77, li_80, li_82, li_90, li_95, li_100, li_128, li_130, li_132, li_136, li_140, li_148, li_156, li_200, li_255, li_256, li_400, li_700, li_2047, li_2048, li_2049, li_2050, li_2054, li_2056, li_4096, li_6000, li_163840, li_409600, li_819200, nI_add, pk_mul, pk_sub, nI_leI, nI_ltI, nI_eq, nI_clamp, vin_t, forall_eq, true_and, and_true, forall_const, implies_true, c1, h5.1]
    refine ⟨fun z => by omega, fun _ => ⟨fun z => ?_, fun z => ?_⟩⟩
    · have hdx1 : (tD t x == 1) = true := by simp; omega
      rw [hdx1] at hl' L70
      simp only [if_true] at hl' L70
      rw [← List.append_assoc] at hl' L70
      have hlt : (tb ++ ((srt t d).take c).filter (fun k => tD t k == 1)).length < 30 := by rw [List.length_append] at hl'; simp at hl' ⊢; omega
      simp (disch := omega) only [atg_sI, afI_sI, afL_sI, afR_sI, aln_sI, aaI_sI, aaL_sI, aaR_sI, anx_sI, abc_sI, abs_sI, alo_sI, atg_wI, afI_wI, afL_wI, afR_wI, aln_wI, aaI_wI, aaL_wI, aaR_wI, anx_wI, abc_wI, abs_wI, alo_wI, atg_wL, afI_wL, afL_wL, afR_wL, aln_wL, aaI_wL, aaL_wL, aaR_wL, anx_wL, abc_wL, abs_wL, alo_wL, u2_e, u2_r, u2_i, u3_e, u3_k, u3_c, u3_r, mw_tag hw, mw_lo hw, mw_loa hw, mf_3 hw, mt_3 hw, ml_3 hw, mf_4 hw, mt_4 hw, ml_4 hw, mf_5 hw, mt_5 hw, ml_5 hw, mf_9 hw, mt_9 hw, ml_9 hw, mf_11 hw, mt_11 hw, ml_11 hw, mf_12 hw, mt_12 hw, ml_12 hw, mf_13 hw, mt_13 hw, ml_13 hw, mf_14 hw, mt_14 hw, ml_14 hw, mf_15 hw, mt_15 hw, ml_15 hw, mf_16 hw, mt_16 hw, ml_16 hw, mf_17 hw, mt_17 hw, ml_17 hw, mf_18 hw, mt_18 hw, ml_18 hw, mf_19 hw, mt_19 hw, ml_19 hw, mf_21 hw, mt_21 hw, ml_21 hw, mf_24 hw, mt_24 hw, ml_24 hw, mf_25 hw, mt_25 hw, ml_25 hw, mf_26 hw, mt_26 hw, ml_26 hw, mf_29 hw, mt_29 hw, ml_29 hw, mf_30 hw, mt_30 hw, ml_30 hw, mf_31 hw, mt_31 hw, ml_31 hw, mf_32 hw, mt_32 hw, ml_32 hw, mf_33 hw, mt_33 hw, ml_33 hw, mf_34 hw, mt_34 hw, ml_34 hw, mf_36 hw, mt_36 hw, ml_36 hw, mf_37 hw, mt_37 hw, ml_37 hw, mf_38 hw, mt_38 hw, ml_38 hw, mf_39 hw, mt_39 hw, ml_39 hw, mf_40 hw, mt_40 hw, ml_40 hw, li_0, li_1, li_2, li_3, li_4, li_5, li_6, li_7, li_8, li_9, li_10, li_12, li_14, li_16, li_17, li_18, li_19, li_20, li_25, li_28, li_30, li_31, li_32, li_33, li_34, li_40, li_46, li_48, li_49, li_57, li_59, li_65, li_67, li_68, li_75, li_77, li_80, li_82, li_90, li_95, li_100, li_128, li_130, li_132, li_136, li_140, li_148, li_156, li_200, li_255, li_256, li_400, li_700, li_2047, li_2048, li_2049, li_2050, li_2054, li_2056, li_4096, li_6000, li_163840, li_409600, li_819200, nI_add, pk_mul, pk_sub, nI_leI, nI_ltI, nI_eq, nI_clamp, vin_t, forall_eq, true_and, and_true, forall_const, implies_true, h5.1]
      exact L70 _ (by (repeat' first | with_reducible exact MFr.refl | with_reducible assumption | with_reducible apply MFr.wI' | with_reducible apply MFr.wL' | with_reducible apply MFr.sI' | omega | trivial | exact ⟨by omega, by omega⟩ | exact rfl)) (DTb_push h5 hlt)
    · have hdx0 : (tD t x == 1) = false := by simp; omega
      rw [hdx0] at L70
      simp only [Bool.false_eq_true, if_false, List.append_nil] at L70
      exact L70 τ h4 h5
  · have hc' : c = (srt t d).length := by omega
    subst hc'
    rw [List.getElem?_eq_none (Nat.le_refl _)]
    rw [List.take_length] at h5
    refine ⟨fun _ y hy => ?_, fun z => absurd (by decide) z⟩
    rw [hy, li_1, nI_add]
    exact k τ h4 h5
theorem m_tables (hw : MW σ m) (hT : MT0 σ m t) (ok : TOK n t) {post : Hp → Prop} (k : ∀ σ', MFr m σ σ' P15 Q22 → DTb σ' m (dirT t) → post σ') : wX9_tables m σ post := by
  unfold wX9_tables
  simp (disch := omega) only [atg_sI, afI_sI, afL_sI, afR_sI, aln_sI, aaI_sI, aaL_sI, aaR_sI, anx_sI, abc_sI, abs_sI, alo_sI, atg_wI, afI_wI, afL_wI, afR_wI, aln_wI, aaI_wI, aaL_wI, aaR_wI, anx_wI, abc_wI, abs_wI, alo_wI, atg_wL, afI_wL, afL_wL, afR_wL, aln_wL, aaI_wL, aaL_wL, aaR_wL, anx_wL, abc_wL, abs_wL, alo_wL, u2_e, u2_r, u2_i, u3_e, u3_k, u3_c, u3_r, mw_tag hw, mw_lo hw, mw_loa hw, mf_3 hw, mt_3 hw, ml_3 hw, mf_4 hw, mt_4 hw, ml_4 hw, mf_5 hw, mt_5 hw, ml_5 hw, mf_9 hw, mt_9 hw, ml_9 hw, mf_11 hw, mt_11 hw, ml_11 hw, mf_12 hw, mt_12 hw, ml_12 hw, mf_13 hw, mt_13 hw, ml_13 hw, mf_14 hw, mt_14 hw, ml_14 hw, mf_15 hw, mt_15 hw, ml_15 hw, mf_16 hw, mt_16 hw, ml_16 hw, mf_17 hw, mt_17 hw, ml_17 hw, mf_18 hw, mt_18 hw, ml_18 hw, mf_19 hw, mt_19 hw, ml_19 hw, mf_21 hw, mt_21 hw, ml_21 hw, mf_24 hw, mt_24 hw, ml_24 hw, mf_25 hw, mt_25 hw, ml_25 hw, mf_26 hw, mt_26 hw, ml_26 hw, mf_29 hw, mt_29 hw, ml_29 hw, mf_30 hw, mt_30 hw, ml_30 hw, mf_31 hw, mt_31 hw, ml_31 hw, mf_32 hw, mt_32 hw, ml_32 hw, mf_33 hw, mt_33 hw, ml_33 hw, mf_34 hw, mt_34 hw, ml_34 hw, mf_36 hw, mt_36 hw, ml_36 hw, mf_37 hw, mt_37 hw, ml_37 hw, mf_38 hw, mt_38 hw, ml_38 hw, mf_39 hw, mt_39 hw, ml_39 hw, mf_40 hw, mt_40 hw, ml_40 hw, li_0, li_1, li_2, li_3, li_4, li_5, li_6, li_7, li_8, li_9, li_10, li_12, li_14, li_16, li_17, li_18, li_19, li_20, li_25, li_28, li_30, li_31, li_32, li_33, li_34, li_40, li_46, li_48, li_49, li_57, li_59, li_65, li_67, li_68, li_75, li_77, li_80, li_82, li_90, li_95, li_100, li_128, li_130, li_132, li_136, li_140, li_148, li_156, li_200, li_255, li_256, li_400, li_700, li_2047, li_2048, li_2049, li_2050, li_2054, li_2056, li_4096, li_6000, li_163840, li_409600, li_819200, nI_add, pk_mul, pk_sub, nI_leI, nI_ltI, nI_eq, nI_clamp, vin_t, forall_eq, true_and, and_true, forall_const, implies_true]
  unfold wX9_tables_L14
  have f0 : MFr m σ (wI_ (sI_ σ 8 22 m (nI 1)) (m + 15) 0 (nI 0)) P15 Q22 := by (repeat' first | with_reducible exact MFr.refl | with_reducible assumption | with_reducible apply MFr.wI' | with_reducible apply MFr.wL' | with_reducible apply MFr.sI' | omega | trivial | exact ⟨by omega, by omega⟩ | exact rfl)
  refine lpG2 (B := fun R x1 τ => wX9_tables_B14 post R m x1 τ) (fun j x1 τ => ∃ i tb, i + j = 31 ∧ i ≤ tb.length ∧ x1 = nI i ∧ bfs t j i tb = dirT t ∧ TBk t i tb ∧ MFr m σ τ P15 Q22 ∧ DTb τ m tb) 31 ⟨0, [0], by omega, by simp, rfl, rfl, TBk0 ok, f0, ?_, ?_⟩ ?_
  · simp (disch := omega) only [atg_sI, afI_sI, afL_sI, afR_sI, aln_sI, aaI_sI, aaL_sI, aaR_sI, anx_sI, abc_sI, abs_sI, alo_sI, atg_wI, afI_wI, afL_wI, afR_wI, aln_wI, aaI_wI, aaL_wI, aaR_wI, anx_wI, abc_wI, abs_wI, alo_wI, atg_wL, afI_wL, afL_wL, afR_wL, aln_wL, aaI_wL, aaL_wL, aaR_wL, anx_wL, abc_wL, abs_wL, alo_wL, u2_e, u2_r, u2_i, u3_e, u3_k, u3_c, u3_r]; rfl
  · intro i hi
    have : i = 0 := by simp at hi; omega
    subst this
    simp (disch := omega) only [atg_sI, afI_sI, afL_sI, afR_sI, aln_sI, aaI_sI, aaL_sI, aaR_sI, anx_sI, abc_sI, abs_sI, alo_sI, atg_wI, afI_wI, afL_wI, afR_wI, aln_wI, aaI_wI, aaL_wI, aaR_wI, anx_wI, abc_wI, abs_wI, alo_wI, atg_wL, afI_wL, afL_wL, afR_wL, aln_wL, aaI_wL, aaL_wL, aaR_wL, anx_wL, abc_wL, abs_wL, alo_wL, u2_e, u2_r, u2_i, u3_e, u3_k, u3_c, u3_r]; rfl
  rintro j x1 τ R ⟨i, tb, h1, h2, rfl, h4, h5, h6, h7⟩ hR
  have hL := TBk_len ok h5
  have hw := h6.mw hw
  unfold wX9_tables_B14
  obtain ⟨j, rfl⟩ : ∃ q, j = q + 1 := ⟨j - 1, by omega⟩
  obtain ⟨Z, hZ⟩ : ∃ Z, dirT t = Z := ⟨_, rfl⟩
  rw [hZ] at h4
  unfold bfs at h4
  by_cases hi : i < tb.length
  · rw [if_pos hi] at h4
    have hdm : (tb.getD i 0 < tN t ∧ tT t (tb.getD i 0) = true) ∧ tD t (tb.getD i 0) = 1 := h5.2.2.2.1 _ (getD_mem hi)
    simp (disch := omega) only [atg_sI, afI_sI, afL_sI, afR_sI, aln_sI, aaI_sI, aaL_sI, aaR_sI, anx_sI, abc_sI, abs_sI, alo_sI, atg_wI, afI_wI, afL_wI, afR_wI, aln_wI, aaI_wI, aaL_wI, aaR_wI, anx_wI, abc_wI, abs_wI, alo_wI, atg_wL, afI_wL, afL_wL, afR_wL, aln_wL, aaI_wL, aaL_wL, aaR_wL, anx_wL, abc_wL, abs_wL, alo_wL, u2_e, u2_r, u2_i, u3_e, u3_k, u3_c, u3_r, mw_tag hw, mw_lo hw, mw_loa hw, mf_3 hw, mt_3 hw, ml_3 hw, mf_4 hw, mt_4 hw, ml_4 hw, mf_5 hw, mt_5 hw, ml_5 hw, mf_9 hw, mt_9 hw, ml_9 hw, mf_11 hw, mt_11 hw, ml_11 hw, mf_12 hw, mt_12 hw, ml_12 hw, mf_13 hw, mt_13 hw, ml_13 hw, mf_14 hw, mt_14 hw, ml_14 hw, mf_15 hw, mt_15 hw, ml_15 hw, mf_16 hw, mt_16 hw, ml_16 hw, mf_17 hw, mt_17 hw, ml_17 hw, mf_18 hw, mt_18 hw, ml_18 hw, mf_19 hw, mt_19 hw, ml_19 hw, mf_21 hw, mt_21 hw, ml_21 hw, mf_24 hw, mt_24 hw, ml_24 hw, mf_25 hw, mt_25 hw, ml_25 hw, mf_26 hw, mt_26 hw, ml_26 hw, mf_29 hw, mt_29 hw, ml_29 hw, mf_30 hw, mt_30 hw, ml_30 hw, mf_31 hw, mt_31 hw, ml_31 hw, mf_32 hw, mt_32 hw, ml_32 hw, mf_33 hw, mt_33 hw, ml_33 hw, mf_34 hw, mt_34 hw, ml_34 hw, mf_36 hw, mt_36 hw, ml_36 hw, mf_37 hw, mt_37 hw, ml_37 hw, mf_38 hw, mt_38 hw, ml_38 hw, mf_39 hw, mt_39 hw, ml_39 hw, mf_40 hw, mt_40 hw, ml_40 hw, li_0, li_1, li_2, li_3, li_4, li_5, li_6, li_7, li_8, li_9, li_10, li_12, li_14, li_16, li_17, li_18, li_19, li_20, li_25, li_28, li_30, li_31, li_32, li_33, li_34, li_40, li_46, li_48, li_49, li_57, li_59, li_65, li_67, li_68, li_75, li_77, li_80, li_82, li_90, li_95, li_100, li_128, li_130, li_132, li_136, li_140, li_148, li_156, li_200, li_255, li_256, li_400, li_700, li_2047, li_2048, li_2049, li_2050, li_2054, li_2056, li_4096, li_6000, li_163840, li_409600, li_819200, nI_add, pk_mul, pk_sub, nI_leI, nI_ltI, nI_eq, nI_clamp, vin_t, forall_eq, true_and, and_true, forall_const, implies_true, h7.1, h7.2 i hi]
    refine ⟨fun z => by omega, fun _ => ?_⟩
    have hb0 : bhO (srt t (tb.getD i 0)) 0 = none := by unfold bhO; rw [if_pos rfl]
    have := m_nextI (post := fun r20 => wX9_tables_L34 post R m (nI i) r20 τ) hw (hT.f15 h6) ok (d := tb.getD i 0) (i := 0) hdm.1.1 (by omega) (m_tables34 hw (hT.f15 h6) ok h5 hi h7 (fun σ' a b => hR j _ _ (by omega) ⟨i + 1, _, by omega, by simp; omega, rfl, by rw [hZ]; exact h4, TBk_dirs ok h5 hi (List.filter_sublist ..) (fun k hk => by have := (List.mem_filter.mp hk).2; simpa using this), h6.trans a, b⟩))
    rw [hb0] at this
    exact this
  · rw [if_neg hi] at h4
    simp (disch := omega) only [atg_sI, afI_sI, afL_sI, afR_sI, aln_sI, aaI_sI, aaL_sI, aaR_sI, anx_sI, abc_sI, abs_sI, alo_sI, atg_wI, afI_wI, afL_wI, afR_wI, aln_wI, aaI_wI, aaL_wI, aaR_wI, anx_wI, abc_wI, abs_wI, alo_wI, atg_wL, afI_wL, afL_wL, afR_wL, aln_wL, aaI_wL, aaL_wL, aaR_wL, anx_wL, abc_wL, abs_wL, alo_wL, u2_e, u2_r, u2_i, u3_e, u3_k, u3_c, u3_r, mw_tag hw, mw_lo hw, mw_loa hw, mf_3 hw, mt_3 hw, ml_3 hw, mf_4 hw, mt_4 hw, ml_4 hw, mf_5 hw, mt_5 hw, ml_5 hw, mf_9 hw, mt_9 hw, ml_9 hw, mf_11 hw, mt_11 hw, ml_11 hw, mf_12 hw, mt_12 hw, ml_12 hw, mf_13 hw, mt_13 hw, ml_13 hw, mf_14 hw, mt_14 hw, ml_14 hw, mf_15 hw, mt_15 hw, ml_15 hw, mf_16 hw, mt_16 hw, ml_16 hw, mf_17 hw, mt_17 hw, ml_17 hw, mf_18 hw, mt_18 hw, ml_18 hw, mf_19 hw, mt_19 hw, ml_19 hw, mf_21 hw, mt_21 hw, ml_21 hw, mf_24 hw, mt_24 hw, ml_24 hw, mf_25 hw, mt_25 hw, ml_25 hw, mf_26 hw, mt_26 hw, ml_26 hw, mf_29 hw, mt_29 hw, ml_29 hw, mf_30 hw, mt_30 hw, ml_30 hw, mf_31 hw, mt_31 hw, ml_31 hw, mf_32 hw, mt_32 hw, ml_32 hw, mf_33 hw, mt_33 hw, ml_33 hw, mf_34 hw, mt_34 hw, ml_34 hw, mf_36 hw, mt_36 hw, ml_36 hw, mf_37 hw, mt_37 hw, ml_37 hw, mf_38 hw, mt_38 hw, ml_38 hw, mf_39 hw, mt_39 hw, ml_39 hw, mf_40 hw, mt_40 hw, ml_40 hw, li_0, li_1, li_2, li_3, li_4, li_5, li_6, li_7, li_8, li_9, li_10, li_12, li_14, li_16, li_17, li_18, li_19, li_20, li_25, li_28, li_30, li_31, li_32, li_33, li_34, li_40, li_46, li_48, li_49, li_57, li_59, li_65, li_67, li_68, li_75, li_77, li_80, li_82, li_90, li_95, li_100, li_128, li_130, li_132, li_136, li_140, li_148, li_156, li_200, li_255, li_256, li_400, li_700, li_2047, li_2048, li_2049, li_2050, li_2054, li_2056, li_4096, li_6000, li_163840, li_409600, li_819200, nI_add, pk_mul, pk_sub, nI_leI, nI_ltI, nI_eq, nI_clamp, vin_t, forall_eq, true_and, and_true, forall_const, implies_true, h7.1]
    refine ⟨fun _ => k τ h6 (by rw [hZ, ← h4]; exact h7), fun z => by omega⟩
theorem m_numberOf (hw : MW σ m) {tb : List Nat} (hl : tb.length ≤ 30) (hD : DTb σ m tb) {d : Nat} (hd : d ∈ tb) (hb : ∀ x ∈ tb, x < 1000) {post : Int32 → Prop} (k : post (nI (plc tb d + 1))) : wX9_numberOf m (nI d) σ post := by
  have hp : tb.idxOf d < tb.length := List.idxOf_lt_length_of_mem hd
  have hpe : tb.getD (tb.idxOf d) 0 = d := by rw [List.getD_eq_getElem?_getD, List.getElem?_eq_getElem hp]; simp
  unfold wX9_numberOf wX9_numberOf_L2
  refine lpG1 (B := fun R x => wX9_numberOf_B2 post R m (nI d) x σ) (fun j x => ∃ i, i + j = plc tb d ∧ x = nI i ∧ ∀ i', i' < i → tb.getD i' 0 ≠ d) (plc tb d) ⟨0, by omega, rfl, fun i' h => absurd h (by omega)⟩ ?_
  rintro j x R ⟨i, h1, rfl, h3⟩ hR
  unfold plc at h1
  have hx : tb.getD i 0 < 1000 := hb _ (getD_mem (by omega))
  have hd1 : d < 1000 := hb d hd
  unfold wX9_numberOf_B2
  simp (disch := omega) only [atg_sI, afI_sI, afL_sI, afR_sI, aln_sI, aaI_sI, aaL_sI, aaR_sI, anx_sI, abc_sI, abs_sI, alo_sI, atg_wI, afI_wI, afL_wI, afR_wI, aln_wI, aaI_wI, aaL_wI, aaR_wI, anx_wI, abc_wI, abs_wI, alo_wI, atg_wL, afI_wL, afL_wL, afR_wL, aln_wL, aaI_wL, aaL_wL, aaR_wL, anx_wL, abc_wL, abs_wL, alo_wL, u2_e, u2_r, u2_i, u3_e, u3_k, u3_c, u3_r, mw_tag hw, mw_lo hw, mw_loa hw, mf_3 hw, mt_3 hw, ml_3 hw, mf_4 hw, mt_4 hw, ml_4 hw, mf_5 hw, mt_5 hw, ml_5 hw, mf_9 hw, mt_9 hw, ml_9 hw, mf_11 hw, mt_11 hw, ml_11 hw, mf_12 hw, mt_12 hw, ml_12 hw, mf_13 hw, mt_13 hw, ml_13 hw, mf_14 hw, mt_14 hw, ml_14 hw, mf_15 hw, mt_15 hw, ml_15 hw, mf_16 hw, mt_16 hw, ml_16 hw, mf_17 hw, mt_17 hw, ml_17 hw, mf_18 hw, mt_18 hw, ml_18 hw, mf_19 hw, mt_19 hw, ml_19 hw, mf_21 hw, mt_21 hw, ml_21 hw, mf_24 hw, mt_24 hw, ml_24 hw, mf_25 hw, mt_25 hw, ml_25 hw, mf_26 hw, mt_26 hw, ml_26 hw, mf_29 hw, mt_29 hw, ml_29 hw, mf_30 hw, mt_30 hw, ml_30 hw, mf_31 hw, mt_31 hw, ml_31 hw, mf_32 hw, mt_32 hw, ml_32 hw, mf_33 hw, mt_33 hw, ml_33 hw, mf_34 hw, mt_34 hw, ml_34 hw, mf_36 hw, mt_36 hw, ml_36 hw, mf_37 hw, mt_37 hw, ml_37 hw, mf_38 hw, mt_38 hw, ml_38 hw, mf_39 hw, mt_39 hw, ml_39 hw, mf_40 hw, mt_40 hw, ml_40 hw, li_0, li_1, li_2, li_3, li_4, li_5, li_6, li_7, li_8, li_9, li_10, li_12, li_14, li_16, li_17, li_18, li_19, li_20, li_25, li_28, li_30, li_31, li_32, li_33, li_34, li_40, li_46, li_48, li_49, li_57, li_59, li_65, li_67, li_68, li_75, li_77, li_80, li_82, li_90, li_95, li_100, li_128, li_130, li_132, li_136, li_140, li_148, li_156, li_200, li_255, li_256, li_400, li_700, li_2047, li_2048, li_2049, li_2050, li_2054, li_2056, li_4096, li_6000, li_163840, li_409600, li_819200, nI_add, pk_mul, pk_sub, nI_leI, nI_ltI, nI_eq, nI_clamp, vin_t, forall_eq, true_and, and_true, forall_const, implies_true, hD.2 i (by omega)]
  have hj : ¬ tb.getD i 0 = d → j ≠ 0 := fun e z => e (by rw [show i = tb.idxOf d by omega]; exact hpe)
  refine ⟨fun e => ?_, fun e => hR (j - 1) _ (by have := hj e; omega) ⟨i + 1, by have := hj e; unfold plc; omega, rfl, fun i' h => ?_⟩⟩
  · have hii : plc tb d = i := by
      unfold plc
      have hlt := List.idxOf_le_length (a := d) (l := tb)
      rcases Nat.lt_trichotomy (tb.idxOf d) i with q | q | q
      · omega
      · exact q
      · exfalso
        have h4 : ¬ (tb[i] == d) = true := by
          have := List.not_of_lt_findIdx (p := fun x => x == d) (xs := tb) (i := i) (by simpa [List.idxOf] using q)
          simpa using this
        rw [List.getD_eq_getElem?_getD, List.getElem?_eq_getElem (by omega)] at e
        exact h4 (by simpa using e)
    rw [hii] at k
    exact k
  · by_cases z : i' = i
    · rw [z]; exact e
    · exact h3 i' (by omega)
end
