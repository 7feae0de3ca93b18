/-! the reference: what is open, what is marked -/
/-- an answer that may be a throw -/
def ans {α : Type} (σ' : Hp) (m : Nat) (o : Option α) (r : α) : Prop := match o with
  | some v => fI_ σ' 8 0 m = 0 ∧ r = v
  | none => fI_ σ' 8 0 m = 1
section
variable {σ : Hp} {m : Nat} {S : AS}
theorem MI.thr (h : MI σ m S) {v : Int32} : MI (sI_ σ 8 0 m v) m S := h.fr MFr.thr
theorem M_node (h : MI σ m S) (ok : AOK S) {x w : Int32} {post : Int32 → Hp → Prop} (k : ∀ r σ', MI σ' m S → MFr m σ σ' TP TQ → ans σ' m (opNode S x w) r → post r σ') : wX9_node m x w σ post := by
  obtain ⟨⟨sd, hM⟩, hP, hT, hO⟩ := id h
  have hw := hM.1
  have hl := ok.2.2.2.1
  have no : opNode S x w = none → wX9_node_L28 post m x w m σ := by
    intro e
    unfold wX9_node_L28 wX9_node_L29
    simp (disch := omega) only [atg_sI, afI_sI, afL_sI, afR_sI, aln_sI, aaI_sI, aaL_sI, aaR_sI, anx_sI, abc_sI, abs_sI, alo_sI, atg_wI, afI_wI, afL_wI, afR_wI, aln_wI, aaI_wI, aaL_wI, aaR_wI, anx_wI, abc_wI, abs_wI, alo_wI, atg_wL, afI_wL, afL_wL, afR_wL, aln_wL, aaI_wL, aaL_wL, aaR_wL, anx_wL, abc_wL, abs_wL, alo_wL, u2_e, u2_r, u2_i, u3_e, u3_k, u3_c, u3_r, mw_tag hw, mw_lo hw, mw_loa hw, mf_3 hw, mt_3 hw, ml_3 hw, mf_4 hw, mt_4 hw, ml_4 hw, mf_5 hw, mt_5 hw, ml_5 hw, mf_9 hw, mt_9 hw, ml_9 hw, mf_11 hw, mt_11 hw, ml_11 hw, mf_12 hw, mt_12 hw, ml_12 hw, mf_13 hw, mt_13 hw, ml_13 hw, mf_14 hw, mt_14 hw, ml_14 hw, mf_15 hw, mt_15 hw, ml_15 hw, mf_16 hw, mt_16 hw, ml_16 hw, mf_17 hw, mt_17 hw, ml_17 hw, mf_18 hw, mt_18 hw, ml_18 hw, mf_19 hw, mt_19 hw, ml_19 hw, mf_21 hw, mt_21 hw, ml_21 hw, mf_24 hw, mt_24 hw, ml_24 hw, mf_25 hw, mt_25 hw, ml_25 hw, mf_26 hw, mt_26 hw, ml_26 hw, mf_29 hw, mt_29 hw, ml_29 hw, mf_30 hw, mt_30 hw, ml_30 hw, mf_31 hw, mt_31 hw, ml_31 hw, mf_32 hw, mt_32 hw, ml_32 hw, mf_33 hw, mt_33 hw, ml_33 hw, mf_34 hw, mt_34 hw, ml_34 hw, mf_36 hw, mt_36 hw, ml_36 hw, mf_37 hw, mt_37 hw, ml_37 hw, mf_38 hw, mt_38 hw, ml_38 hw, mf_39 hw, mt_39 hw, ml_39 hw, mf_40 hw, mt_40 hw, ml_40 hw, li_0, li_1, li_2, li_3, li_4, li_5, li_6, li_7, li_8, li_9, li_10, li_12, li_14, li_16, li_17, li_18, li_19, li_20, li_25, li_28, li_30, li_31, li_32, li_33, li_34, li_40, li_46, li_48, li_49, li_57, li_59, li_65, li_67, li_68, li_75, li_77, li_80, li_82, li_90, li_95, li_100, li_128, li_130, li_132, li_136, li_140, li_148, li_156, li_200, li_255, li_256, li_400, li_700, li_2047, li_2048, li_2049, li_2050, li_2054, li_2056, li_4096, li_6000, li_163840, li_409600, li_819200, nI_add, pk_mul, pk_sub, nI_leI, nI_ltI, nI_eq, nI_clamp, vin_t, forall_eq, true_and, and_true, forall_const, implies_true]
    refine ⟨fun z => absurd trivial z, k _ _ h.thr MFr.thr.tt ?_⟩
    unfold ans; rw [e]
    show fI_ _ 8 0 m = _
    rw [afI_sI, u3_e]; rfl
  unfold wX9_node
  refine ⟨mw_tag hw, ?_⟩
  rw [hO.1]
  unfold opNode at k no
  refine m_in0 (by omega) (fun j hj hx hi => ⟨fun z => absurd z (by decide), fun _ => ?_⟩) (fun hi => ⟨fun _ => no (by rw [hi]), fun z => absurd rfl z⟩)
  rw [hi] at k no
  have e4 : (3 : Int32) = nI 4 - 1 := by decide
  rw [e4]
  refine m_in0 (by omega) (fun i hi' hx' hi2 => ⟨fun z => absurd z (by decide), fun _ => ?_⟩) (fun hi2 => ⟨fun _ => no (by simp only [hi2]), fun z => absurd rfl z⟩)
  simp only [hi2] at k
  subst hx hx'
  obtain ⟨o1, o2, o3, o4, o5⟩ := hO.2 j hj
  have od := (ok.2.2.2.2 j hj).1
  have fin : ∀ r : Int32, r = (if i = 0 then nI (fa_ (gF (sO S) j)) else if i = 1 then (if fd_ (gF (sO S) j) = 1 then 0 else 1) else if i = 2 then nI (fs_ (gF (sO S) j)) else nI (fx_ (gF (sO S) j))) → post r (sI_ σ 8 0 m (nI 0)) := by
    intro r hr
    refine k r _ h.thr MFr.thr.tt ⟨?_, hr⟩
    rw [afI_sI, u3_e]; rfl
  unfold wX9_node_L29
  simp (disch := omega) only [atg_sI, afI_sI, afL_sI, afR_sI, aln_sI, aaI_sI, aaL_sI, aaR_sI, anx_sI, abc_sI, abs_sI, alo_sI, atg_wI, afI_wI, afL_wI, afR_wI, aln_wI, aaI_wI, aaL_wI, aaR_wI, anx_wI, abc_wI, abs_wI, alo_wI, atg_wL, afI_wL, afL_wL, afR_wL, aln_wL, aaI_wL, aaL_wL, aaR_wL, anx_wL, abc_wL, abs_wL, alo_wL, u2_e, u2_r, u2_i, u3_e, u3_k, u3_c, u3_r, mw_tag hw, mw_lo hw, mw_loa hw, mf_3 hw, mt_3 hw, ml_3 hw, mf_4 hw, mt_4 hw, ml_4 hw, mf_5 hw, mt_5 hw, ml_5 hw, mf_9 hw, mt_9 hw, ml_9 hw, mf_11 hw, mt_11 hw, ml_11 hw, mf_12 hw, mt_12 hw, ml_12 hw, mf_13 hw, mt_13 hw, ml_13 hw, mf_14 hw, mt_14 hw, ml_14 hw, mf_15 hw, mt_15 hw, ml_15 hw, mf_16 hw, mt_16 hw, ml_16 hw, mf_17 hw, mt_17 hw, ml_17 hw, mf_18 hw, mt_18 hw, ml_18 hw, mf_19 hw, mt_19 hw, ml_19 hw, mf_21 hw, mt_21 hw, ml_21 hw, mf_24 hw, mt_24 hw, ml_24 hw, mf_25 hw, mt_25 hw, ml_25 hw, mf_26 hw, mt_26 hw, ml_26 hw, mf_29 hw, mt_29 hw, ml_29 hw, mf_30 hw, mt_30 hw, ml_30 hw, mf_31 hw, mt_31 hw, ml_31 hw, mf_32 hw, mt_32 hw, ml_32 hw, mf_33 hw, mt_33 hw, ml_33 hw, mf_34 hw, mt_34 hw, ml_34 hw, mf_36 hw, mt_36 hw, ml_36 hw, mf_37 hw, mt_37 hw, ml_37 hw, mf_38 hw, mt_38 hw, ml_38 hw, mf_39 hw, mt_39 hw, ml_39 hw, mf_40 hw, mt_40 hw, ml_40 hw, li_0, li_1, li_2, li_3, li_4, li_5, li_6, li_7, li_8, li_9, li_10, li_12, li_14, li_16, li_17, li_18, li_19, li_20, li_25, li_28, li_30, li_31, li_32, li_33, li_34, li_40, li_46, li_48, li_49, li_57, li_59, li_65, li_67, li_68, li_75, li_77, li_80, li_82, li_90, li_95, li_100, li_128, li_130, li_132, li_136, li_140, li_148, li_156, li_200, li_255, li_256, li_400, li_700, li_2047, li_2048, li_2049, li_2050, li_2054, li_2056, li_4096, li_6000, li_163840, li_409600, li_819200, nI_add, pk_mul, pk_sub, nI_leI, nI_ltI, nI_eq, nI_clamp, vin_t, forall_eq, true_and, and_true, forall_const, implies_true, o1, o2, o3, o4]
  refine ⟨fun _ => ⟨fun a => ⟨fun b => ⟨fun c => fin _ ?_, fun c => fin _ ?_⟩, fun b => ⟨fun c => fin _ ?_, fun c => fin _ ?_⟩⟩, fun a => fin _ ?_⟩, fun z => absurd z (by decide)⟩
  · rw [if_neg a, if_neg b, if_neg c]
  · rw [if_neg a, if_neg b, if_pos c]
  · rw [if_neg a, if_pos b, if_neg (by omega)]; rfl
  · rw [if_neg a, if_pos b, if_pos (by omega)]; rfl
  · rw [if_pos a]
theorem M_name (h : MI σ m S) (ok : AOK S) {x : Int32} {post : Int64 → Hp → Prop} (k : ∀ r σ', MI σ' m S → MFr m σ σ' TP TQ → ans σ' m (opName S x) r → post r σ') : wX9_name m x σ post := by
  obtain ⟨⟨sd, hM⟩, hP, hT, hO⟩ := id h
  have hw := hM.1
  have hl := ok.2.2.2.1
  unfold wX9_name wX9_name_L20
  refine ⟨mw_tag hw, ?_⟩
  rw [hO.1]
  unfold opName at k
  refine m_in0 (by omega) (fun j hj hx hi => ⟨fun z => absurd z (by decide), fun _ => ?_⟩) (fun hi => ⟨fun _ => ?_, fun z => absurd rfl z⟩)
  · rw [hi] at k
    subst hx
    obtain ⟨o1, o2, o3, o4, o5⟩ := hO.2 j hj
    simp (disch := omega) only [atg_sI, afI_sI, afL_sI, afR_sI, aln_sI, aaI_sI, aaL_sI, aaR_sI, anx_sI, abc_sI, abs_sI, alo_sI, atg_wI, afI_wI, afL_wI, afR_wI, aln_wI, aaI_wI, aaL_wI, aaR_wI, anx_wI, abc_wI, abs_wI, alo_wI, atg_wL, afI_wL, afL_wL, afR_wL, aln_wL, aaI_wL, aaL_wL, aaR_wL, anx_wL, abc_wL, abs_wL, alo_wL, u2_e, u2_r, u2_i, u3_e, u3_k, u3_c, u3_r, mw_tag hw, mw_lo hw, mw_loa hw, mf_3 hw, mt_3 hw, ml_3 hw, mf_4 hw, mt_4 hw, ml_4 hw, mf_5 hw, mt_5 hw, ml_5 hw, mf_9 hw, mt_9 hw, ml_9 hw, mf_11 hw, mt_11 hw, ml_11 hw, mf_12 hw, mt_12 hw, ml_12 hw, mf_13 hw, mt_13 hw, ml_13 hw, mf_14 hw, mt_14 hw, ml_14 hw, mf_15 hw, mt_15 hw, ml_15 hw, mf_16 hw, mt_16 hw, ml_16 hw, mf_17 hw, mt_17 hw, ml_17 hw, mf_18 hw, mt_18 hw, ml_18 hw, mf_19 hw, mt_19 hw, ml_19 hw, mf_21 hw, mt_21 hw, ml_21 hw, mf_24 hw, mt_24 hw, ml_24 hw, mf_25 hw, mt_25 hw, ml_25 hw, mf_26 hw, mt_26 hw, ml_26 hw, mf_29 hw, mt_29 hw, ml_29 hw, mf_30 hw, mt_30 hw, ml_30 hw, mf_31 hw, mt_31 hw, ml_31 hw, mf_32 hw, mt_32 hw, ml_32 hw, mf_33 hw, mt_33 hw, ml_33 hw, mf_34 hw, mt_34 hw, ml_34 hw, mf_36 hw, mt_36 hw, ml_36 hw, mf_37 hw, mt_37 hw, ml_37 hw, mf_38 hw, mt_38 hw, ml_38 hw, mf_39 hw, mt_39 hw, ml_39 hw, mf_40 hw, mt_40 hw, ml_40 hw, li_0, li_1, li_2, li_3, li_4, li_5, li_6, li_7, li_8, li_9, li_10, li_12, li_14, li_16, li_17, li_18, li_19, li_20, li_25, li_28, li_30, li_31, li_32, li_33, li_34, li_40, li_46, li_48, li_49, li_57, li_59, li_65, li_67, li_68, li_75, li_77, li_80, li_82, li_90, li_95, li_100, li_128, li_130, li_132, li_136, li_140, li_148, li_156, li_200, li_255, li_256, li_400, li_700, li_2047, li_2048, li_2049, li_2050, li_2054, li_2056, li_4096, li_6000, li_163840, li_409600, li_819200, nI_add, pk_mul, pk_sub, nI_leI, nI_ltI, nI_eq, nI_clamp, vin_t, forall_eq, true_and, and_true, forall_const, implies_true, o5]
    exact ⟨fun _ => k _ _ h.thr MFr.thr.tt ⟨by rw [afI_sI, u3_e]; rfl, rfl⟩, fun z => absurd z (by decide)⟩
  · rw [hi] at k
    simp (disch := omega) only [atg_sI, afI_sI, afL_sI, afR_sI, aln_sI, aaI_sI, aaL_sI, aaR_sI, anx_sI, abc_sI, abs_sI, alo_sI, atg_wI, afI_wI, afL_wI, afR_wI, aln_wI, aaI_wI, aaL_wI, aaR_wI, anx_wI, abc_wI, abs_wI, alo_wI, atg_wL, afI_wL, afL_wL, afR_wL, aln_wL, aaI_wL, aaL_wL, aaR_wL, anx_wL, abc_wL, abs_wL, alo_wL, u2_e, u2_r, u2_i, u3_e, u3_k, u3_c, u3_r, mw_tag hw, mw_lo hw, mw_loa hw, mf_3 hw, mt_3 hw, ml_3 hw, mf_4 hw, mt_4 hw, ml_4 hw, mf_5 hw, mt_5 hw, ml_5 hw, mf_9 hw, mt_9 hw, ml_9 hw, mf_11 hw, mt_11 hw, ml_11 hw, mf_12 hw, mt_12 hw, ml_12 hw, mf_13 hw, mt_13 hw, ml_13 hw, mf_14 hw, mt_14 hw, ml_14 hw, mf_15 hw, mt_15 hw, ml_15 hw, mf_16 hw, mt_16 hw, ml_16 hw, mf_17 hw, mt_17 hw, ml_17 hw, mf_18 hw, mt_18 hw, ml_18 hw, mf_19 hw, mt_19 hw, ml_19 hw, mf_21 hw, mt_21 hw, ml_21 hw, mf_24 hw, mt_24 hw, ml_24 hw, mf_25 hw, mt_25 hw, ml_25 hw, mf_26 hw, mt_26 hw, ml_26 hw, mf_29 hw, mt_29 hw, ml_29 hw, mf_30 hw, mt_30 hw, ml_30 hw, mf_31 hw, mt_31 hw, ml_31 hw, mf_32 hw, mt_32 hw, ml_32 hw, mf_33 hw, mt_33 hw, ml_33 hw, mf_34 hw, mt_34 hw, ml_34 hw, mf_36 hw, mt_36 hw, ml_36 hw, mf_37 hw, mt_37 hw, ml_37 hw, mf_38 hw, mt_38 hw, ml_38 hw, mf_39 hw, mt_39 hw, ml_39 hw, mf_40 hw, mt_40 hw, ml_40 hw, li_0, li_1, li_2, li_3, li_4, li_5, li_6, li_7, li_8, li_9, li_10, li_12, li_14, li_16, li_17, li_18, li_19, li_20, li_25, li_28, li_30, li_31, li_32, li_33, li_34, li_40, li_46, li_48, li_49, li_57, li_59, li_65, li_67, li_68, li_75, li_77, li_80, li_82, li_90, li_95, li_100, li_128, li_130, li_132, li_136, li_140, li_148, li_156, li_200, li_255, li_256, li_400, li_700, li_2047, li_2048, li_2049, li_2050, li_2054, li_2056, li_4096, li_6000, li_163840, li_409600, li_819200, nI_add, pk_mul, pk_sub, nI_leI, nI_ltI, nI_eq, nI_clamp, vin_t, forall_eq, true_and, and_true, forall_const, implies_true]
    refine ⟨fun z => absurd trivial z, k _ _ h.thr MFr.thr.tt ?_⟩
    show fI_ _ 8 0 m = _
    rw [afI_sI, u3_e]; rfl
theorem M_read (h : MI σ m S) (ok : AOK S) {x y : Int32} {post : Int32 → Hp → Prop} (k : ∀ r σ', MI σ' m S → MFr m σ σ' TP TQ → ans σ' m (opRead S x y) r → post r σ') : wX9_read m x y σ post := by
  obtain ⟨⟨sd, hM⟩, hP, hT, hO⟩ := id h
  have hw := hM.1
  have hn := hM.2.1.2.1
  have hl := ok.2.2.2.1
  have no : opRead S x y = none → wX9_read_L44 post m x y m σ := by
    intro e
    unfold wX9_read_L44 wX9_read_L45
    simp (disch := omega) only [atg_sI, afI_sI, afL_sI, afR_sI, aln_sI, aaI_sI, aaL_sI, aaR_sI, anx_sI, abc_sI, abs_sI, alo_sI, atg_wI, afI_wI, afL_wI, afR_wI, aln_wI, aaI_wI, aaL_wI, aaR_wI, anx_wI, abc_wI, abs_wI, alo_wI, atg_wL, afI_wL, afL_wL, afR_wL, aln_wL, aaI_wL, aaL_wL, aaR_wL, anx_wL, abc_wL, abs_wL, alo_wL, u2_e, u2_r, u2_i, u3_e, u3_k, u3_c, u3_r, mw_tag hw, mw_lo hw, mw_loa hw, mf_3 hw, mt_3 hw, ml_3 hw, mf_4 hw, mt_4 hw, ml_4 hw, mf_5 hw, mt_5 hw, ml_5 hw, mf_9 hw, mt_9 hw, ml_9 hw, mf_11 hw, mt_11 hw, ml_11 hw, mf_12 hw, mt_12 hw, ml_12 hw, mf_13 hw, mt_13 hw, ml_13 hw, mf_14 hw, mt_14 hw, ml_14 hw, mf_15 hw, mt_15 hw, ml_15 hw, mf_16 hw, mt_16 hw, ml_16 hw, mf_17 hw, mt_17 hw, ml_17 hw, mf_18 hw, mt_18 hw, ml_18 hw, mf_19 hw, mt_19 hw, ml_19 hw, mf_21 hw, mt_21 hw, ml_21 hw, mf_24 hw, mt_24 hw, ml_24 hw, mf_25 hw, mt_25 hw, ml_25 hw, mf_26 hw, mt_26 hw, ml_26 hw, mf_29 hw, mt_29 hw, ml_29 hw, mf_30 hw, mt_30 hw, ml_30 hw, mf_31 hw, mt_31 hw, ml_31 hw, mf_32 hw, mt_32 hw, ml_32 hw, mf_33 hw, mt_33 hw, ml_33 hw, mf_34 hw, mt_34 hw, ml_34 hw, mf_36 hw, mt_36 hw, ml_36 hw, mf_37 hw, mt_37 hw, ml_37 hw, mf_38 hw, mt_38 hw, ml_38 hw, mf_39 hw, mt_39 hw, ml_39 hw, mf_40 hw, mt_40 hw, ml_40 hw, li_0, li_1, li_2, li_3, li_4, li_5, li_6, li_7, li_8, li_9, li_10, li_12, li_14, li_16, li_17, li_18, li_19, li_20, li_25, li_28, li_30, li_31, li_32, li_33, li_34, li_40, li_46, li_48, li_49, li_57, li_59, li_65, li_67, li_68, li_75, li_77, li_80, li_82, li_90, li_95, li_100, li_128, li_130, li_132, li_136, li_140, li_148, li_156, li_200, li_255, li_256, li_400, li_700, li_2047, li_2048, li_2049, li_2050, li_2054, li_2056, li_4096, li_6000, li_163840, li_409600, li_819200, nI_add, pk_mul, pk_sub, nI_leI, nI_ltI, nI_eq, nI_clamp, vin_t, forall_eq, true_and, and_true, forall_const, implies_true]
    refine ⟨fun z => absurd trivial z, k _ _ h.thr MFr.thr.tt ?_⟩
    unfold ans; rw [e]
    show fI_ _ 8 0 m = _
    rw [afI_sI, u3_e]; rfl
  unfold wX9_read
  refine ⟨mw_tag hw, ?_⟩
  rw [hO.1]
  unfold opRead at k no
  refine m_in0 (by omega) (fun j hj hx hi => ⟨fun z => absurd z (by decide), fun _ => ?_⟩) (fun hi => ⟨fun _ => no (by rw [hi]), fun z => absurd rfl z⟩)
  rw [hi] at k no
  subst hx
  obtain ⟨o1, o2, o3, o4, o5⟩ := hO.2 j hj
  have oo := ok.2.2.2.2 j hj
  obtain ⟨z1, z2, z3⟩ := FO_sz oo hn
  have od := oo.1
  simp (disch := omega) only [atg_sI, afI_sI, afL_sI, afR_sI, aln_sI, aaI_sI, aaL_sI, aaR_sI, anx_sI, abc_sI, abs_sI, alo_sI, atg_wI, afI_wI, afL_wI, afR_wI, aln_wI, aaI_wI, aaL_wI, aaR_wI, anx_wI, abc_wI, abs_wI, alo_wI, atg_wL, afI_wL, afL_wL, afR_wL, aln_wL, aaI_wL, aaL_wL, aaR_wL, anx_wL, abc_wL, abs_wL, alo_wL, u2_e, u2_r, u2_i, u3_e, u3_k, u3_c, u3_r, mw_tag hw, mw_lo hw, mw_loa hw, mf_3 hw, mt_3 hw, ml_3 hw, mf_4 hw, mt_4 hw, ml_4 hw, mf_5 hw, mt_5 hw, ml_5 hw, mf_9 hw, mt_9 hw, ml_9 hw, mf_11 hw, mt_11 hw, ml_11 hw, mf_12 hw, mt_12 hw, ml_12 hw, mf_13 hw, mt_13 hw, ml_13 hw, mf_14 hw, mt_14 hw, ml_14 hw, mf_15 hw, mt_15 hw, ml_15 hw, mf_16 hw, mt_16 hw, ml_16 hw, mf_17 hw, mt_17 hw, ml_17 hw, mf_18 hw, mt_18 hw, ml_18 hw, mf_19 hw, mt_19 hw, ml_19 hw, mf_21 hw, mt_21 hw, ml_21 hw, mf_24 hw, mt_24 hw, ml_24 hw, mf_25 hw, mt_25 hw, ml_25 hw, mf_26 hw, mt_26 hw, ml_26 hw, mf_29 hw, mt_29 hw, ml_29 hw, mf_30 hw, mt_30 hw, ml_30 hw, mf_31 hw, mt_31 hw, ml_31 hw, mf_32 hw, mt_32 hw, ml_32 hw, mf_33 hw, mt_33 hw, ml_33 hw, mf_34 hw, mt_34 hw, ml_34 hw, mf_36 hw, mt_36 hw, ml_36 hw, mf_37 hw, mt_37 hw, ml_37 hw, mf_38 hw, mt_38 hw, ml_38 hw, mf_39 hw, mt_39 hw, ml_39 hw, mf_40 hw, mt_40 hw, ml_40 hw, li_0, li_1, li_2, li_3, li_4, li_5, li_6, li_7, li_8, li_9, li_10, li_12, li_14, li_16, li_17, li_18, li_19, li_20, li_25, li_28, li_30, li_31, li_32, li_33, li_34, li_40, li_46, li_48, li_49, li_57, li_59, li_65, li_67, li_68, li_75, li_77, li_80, li_82, li_90, li_95, li_100, li_128, li_130, li_132, li_136, li_140, li_148, li_156, li_200, li_255, li_256, li_400, li_700, li_2047, li_2048, li_2049, li_2050, li_2054, li_2056, li_4096, li_6000, li_163840, li_409600, li_819200, nI_add, pk_mul, pk_sub, nI_leI, nI_ltI, nI_eq, nI_clamp, vin_t, forall_eq, true_and, and_true, forall_const, implies_true, o2, o3]
  refine ⟨fun a => no (by simp only; rw [if_pos (by omega)]), fun a => ?_⟩
  rw [show nI (fs_ (gF (sO S) j)) - nI 1 = nI (fs_ (gF (sO S) j)) - 1 from rfl]
  refine m_in0 (by omega) (fun i hi' hx' hi2 => ⟨fun z => absurd z (by decide), fun _ => ?_⟩) (fun hi2 => ⟨fun _ => no (by simp only; rw [if_neg (by omega), hi2]), fun z => absurd rfl z⟩)
  simp only at k
  rw [if_neg (by omega), hi2] at k
  subst hx'
  unfold wX9_read_L45
  simp (disch := omega) only [atg_sI, afI_sI, afL_sI, afR_sI, aln_sI, aaI_sI, aaL_sI, aaR_sI, anx_sI, abc_sI, abs_sI, alo_sI, atg_wI, afI_wI, afL_wI, afR_wI, aln_wI, aaI_wI, aaL_wI, aaR_wI, anx_wI, abc_wI, abs_wI, alo_wI, atg_wL, afI_wL, afL_wL, afR_wL, aln_wL, aaI_wL, aaL_wL, aaR_wL, anx_wL, abc_wL, abs_wL, alo_wL, u2_e, u2_r, u2_i, u3_e, u3_k, u3_c, u3_r, mw_tag hw, mw_lo hw, mw_loa hw, mf_3 hw, mt_3 hw, ml_3 hw, mf_4 hw, mt_4 hw, ml_4 hw, mf_5 hw, mt_5 hw, ml_5 hw, mf_9 hw, mt_9 hw, ml_9 hw, mf_11 hw, mt_11 hw, ml_11 hw, mf_12 hw, mt_12 hw, ml_12 hw, mf_13 hw, mt_13 hw, ml_13 hw, mf_14 hw, mt_14 hw, ml_14 hw, mf_15 hw, mt_15 hw, ml_15 hw, mf_16 hw, mt_16 hw, ml_16 hw, mf_17 hw, mt_17 hw, ml_17 hw, mf_18 hw, mt_18 hw, ml_18 hw, mf_19 hw, mt_19 hw, ml_19 hw, mf_21 hw, mt_21 hw, ml_21 hw, mf_24 hw, mt_24 hw, ml_24 hw, mf_25 hw, mt_25 hw, ml_25 hw, mf_26 hw, mt_26 hw, ml_26 hw, mf_29 hw, mt_29 hw, ml_29 hw, mf_30 hw, mt_30 hw, ml_30 hw, mf_31 hw, mt_31 hw, ml_31 hw, mf_32 hw, mt_32 hw, ml_32 hw, mf_33 hw, mt_33 hw, ml_33 hw, mf_34 hw, mt_34 hw, ml_34 hw, mf_36 hw, mt_36 hw, ml_36 hw, mf_37 hw, mt_37 hw, ml_37 hw, mf_38 hw, mt_38 hw, ml_38 hw, mf_39 hw, mt_39 hw, ml_39 hw, mf_40 hw, mt_40 hw, ml_40 hw, li_0, li_1, li_2, li_3, li_4, li_5, li_6, li_7, li_8, li_9, li_10, li_12, li_14, li_16, li_17, li_18, li_19, li_20, li_25, li_28, li_30, li_31, li_32, li_33, li_34, li_40, li_46, li_48, li_49, li_57, li_59, li_65, li_67, li_68, li_75, li_77, li_80, li_82, li_90, li_95, li_100, li_128, li_130, li_132, li_136, li_140, li_148, li_156, li_200, li_255, li_256, li_400, li_700, li_2047, li_2048, li_2049, li_2050, li_2054, li_2056, li_4096, li_6000, li_163840, li_409600, li_819200, nI_add, pk_mul, pk_sub, nI_leI, nI_ltI, nI_eq, nI_clamp, vin_t, forall_eq, true_and, and_true, forall_const, implies_true, o4]
  obtain ⟨⟨sd', hM'⟩, -⟩ := id (h.thr (v := nI 0))
  refine ⟨fun _ => m_get hM' (by omega) (k _ _ h.thr MFr.thr.tt ⟨by rw [afI_sI, u3_e]; rfl, rfl⟩), fun z => absurd z (by decide)⟩
theorem m_isNode (h : MI σ m S) (ok : AOK S) {x : Int32} {post : Int32 → Prop} (k1 : ∀ j, j < tN (sT S) → tT (sT S) j = true → x = nI j → nodeOf (sT S) x = some j → post 1) (k0 : nodeOf (sT S) x = none → post 0) : wX9_isNode m x σ post := by
  obtain ⟨⟨sd, hM⟩, hP, hT, hO⟩ := id h
  have hw := hM.1
  have hN := ok.2.1.1.2.1
  unfold wX9_isNode
  unfold nodeOf at k1 k0
  rcases ix_cases x (n := tN (sT S)) (by omega) with ⟨j, h1, rfl, h3⟩ | ⟨h1, h2⟩
  · rw [h3] at k1 k0
    simp (disch := omega) only [atg_sI, afI_sI, afL_sI, afR_sI, aln_sI, aaI_sI, aaL_sI, aaR_sI, anx_sI, abc_sI, abs_sI, alo_sI, atg_wI, afI_wI, afL_wI, afR_wI, aln_wI, aaI_wI, aaL_wI, aaR_wI, anx_wI, abc_wI, abs_wI, alo_wI, atg_wL, afI_wL, afL_wL, afR_wL, aln_wL, aaI_wL, aaL_wL, aaR_wL, anx_wL, abc_wL, abs_wL, alo_wL, u2_e, u2_r, u2_i, u3_e, u3_k, u3_c, u3_r, mw_tag hw, mw_lo hw, mw_loa hw, mf_3 hw, mt_3 hw, ml_3 hw, mf_4 hw, mt_4 hw, ml_4 hw, mf_5 hw, mt_5 hw, ml_5 hw, mf_9 hw, mt_9 hw, ml_9 hw, mf_11 hw, mt_11 hw, ml_11 hw, mf_12 hw, mt_12 hw, ml_12 hw, mf_13 hw, mt_13 hw, ml_13 hw, mf_14 hw, mt_14 hw, ml_14 hw, mf_15 hw, mt_15 hw, ml_15 hw, mf_16 hw, mt_16 hw, ml_16 hw, mf_17 hw, mt_17 hw, ml_17 hw, mf_18 hw, mt_18 hw, ml_18 hw, mf_19 hw, mt_19 hw, ml_19 hw, mf_21 hw, mt_21 hw, ml_21 hw, mf_24 hw, mt_24 hw, ml_24 hw, mf_25 hw, mt_25 hw, ml_25 hw, mf_26 hw, mt_26 hw, ml_26 hw, mf_29 hw, mt_29 hw, ml_29 hw, mf_30 hw, mt_30 hw, ml_30 hw, mf_31 hw, mt_31 hw, ml_31 hw, mf_32 hw, mt_32 hw, ml_32 hw, mf_33 hw, mt_33 hw, ml_33 hw, mf_34 hw, mt_34 hw, ml_34 hw, mf_36 hw, mt_36 hw, ml_36 hw, mf_37 hw, mt_37 hw, ml_37 hw, mf_38 hw, mt_38 hw, ml_38 hw, mf_39 hw, mt_39 hw, ml_39 hw, mf_40 hw, mt_40 hw, ml_40 hw, li_0, li_1, li_2, li_3, li_4, li_5, li_6, li_7, li_8, li_9, li_10, li_12, li_14, li_16, li_17, li_18, li_19, li_20, li_25, li_28, li_30, li_31, li_32, li_33, li_34, li_40, li_46, li_48, li_49, li_57, li_59, li_65, li_67, li_68, li_75, li_77, li_80, li_82, li_90, li_95, li_100, li_128, li_130, li_132, li_136, li_140, li_148, li_156, li_200, li_255, li_256, li_400, li_700, li_2047, li_2048, li_2049, li_2050, li_2054, li_2056, li_4096, li_6000, li_163840, li_409600, li_819200, nI_add, pk_mul, pk_sub, nI_leI, nI_ltI, nI_eq, nI_clamp, vin_t, forall_eq, true_and, and_true, forall_const, implies_true, hT.1, hT.2.1 j h1]
    refine ⟨fun z => by omega, fun _ => ⟨fun z => by omega, fun _ => ?_⟩⟩
    cases e : tT (sT S) j with
    | true => exact ⟨fun z => absurd z (by decide), fun _ => k1 j h1 e rfl (by simp [e])⟩
    | false => exact ⟨fun _ => k0 (by simp [e]), fun z => absurd rfl z⟩
  · rw [h2] at k0
    have kk := k0 rfl
    refine ⟨fun _ => kk, fun z => ⟨mw_tag hw, ?_⟩⟩
    rw [hT.1]
    refine ⟨fun _ => kk, fun z2 => ?_⟩
    exfalso
    rcases h1 with h1 | h1
    · exact z h1
    · exact z2 h1
theorem M_tree (h : MI σ m S) (ok : AOK S) {x w : Int32} {post : Int32 → Hp → Prop} (k : ∀ r σ', MI σ' m S → MFr m σ σ' TP TQ → ans σ' m (opTree S x w) r → post r σ') : wX9_tree m x w σ post := by
  obtain ⟨⟨sd, hM⟩, hP, hT, hO⟩ := id h
  have hw := hM.1
  have hN := ok.2.1.1.2.1
  have no : opTree S x w = none → wX9_tree_L22 post m x w m σ := by
    intro e
    unfold wX9_tree_L22 wX9_tree_L23
    simp (disch := omega) only [atg_sI, afI_sI, afL_sI, afR_sI, aln_sI, aaI_sI, aaL_sI, aaR_sI, anx_sI, abc_sI, abs_sI, alo_sI, atg_wI, afI_wI, afL_wI, afR_wI, aln_wI, aaI_wI, aaL_wI, aaR_wI, anx_wI, abc_wI, abs_wI, alo_wI, atg_wL, afI_wL, afL_wL, afR_wL, aln_wL, aaI_wL, aaL_wL, aaR_wL, anx_wL, abc_wL, abs_wL, alo_wL, u2_e, u2_r, u2_i, u3_e, u3_k, u3_c, u3_r, mw_tag hw, mw_lo hw, mw_loa hw, mf_3 hw, mt_3 hw, ml_3 hw, mf_4 hw, mt_4 hw, ml_4 hw, mf_5 hw, mt_5 hw, ml_5 hw, mf_9 hw, mt_9 hw, ml_9 hw, mf_11 hw, mt_11 hw, ml_11 hw, mf_12 hw, mt_12 hw, ml_12 hw, mf_13 hw, mt_13 hw, ml_13 hw, mf_14 hw, mt_14 hw, ml_14 hw, mf_15 hw, mt_15 hw, ml_15 hw, mf_16 hw, mt_16 hw, ml_16 hw, mf_17 hw, mt_17 hw, ml_17 hw, mf_18 hw, mt_18 hw, ml_18 hw, mf_19 hw, mt_19 hw, ml_19 hw, mf_21 hw, mt_21 hw, ml_21 hw, mf_24 hw, mt_24 hw, ml_24 hw, mf_25 hw, mt_25 hw, ml_25 hw, mf_26 hw, mt_26 hw, ml_26 hw, mf_29 hw, mt_29 hw, ml_29 hw, mf_30 hw, mt_30 hw, ml_30 hw, mf_31 hw, mt_31 hw, ml_31 hw, mf_32 hw, mt_32 hw, ml_32 hw, mf_33 hw, mt_33 hw, ml_33 hw, mf_34 hw, mt_34 hw, ml_34 hw, mf_36 hw, mt_36 hw, ml_36 hw, mf_37 hw, mt_37 hw, ml_37 hw, mf_38 hw, mt_38 hw, ml_38 hw, mf_39 hw, mt_39 hw, ml_39 hw, mf_40 hw, mt_40 hw, ml_40 hw, li_0, li_1, li_2, li_3, li_4, li_5, li_6, li_7, li_8, li_9, li_10, li_12, li_14, li_16, li_17, li_18, li_19, li_20, li_25, li_28, li_30, li_31, li_32, li_33, li_34, li_40, li_46, li_48, li_49, li_57, li_59, li_65, li_67, li_68, li_75, li_77, li_80, li_82, li_90, li_95, li_100, li_128, li_130, li_132, li_136, li_140, li_148, li_156, li_200, li_255, li_256, li_400, li_700, li_2047, li_2048, li_2049, li_2050, li_2054, li_2056, li_4096, li_6000, li_163840, li_409600, li_819200, nI_add, pk_mul, pk_sub, nI_leI, nI_ltI, nI_eq, nI_clamp, vin_t, forall_eq, true_and, and_true, forall_const, implies_true]
    refine ⟨fun z => absurd trivial z, k _ _ h.thr MFr.thr.tt ?_⟩
    unfold ans; rw [e]
    show fI_ _ 8 0 m = _
    rw [afI_sI, u3_e]; rfl
  unfold wX9_tree
  refine ⟨mw_tag hw, ?_⟩
  unfold opTree at k no
  refine m_isNode h ok (fun j hj ht hx hi => ⟨fun z => absurd z (by decide), fun _ => ?_⟩) (fun hi => ⟨fun _ => no (by rw [hi]), fun z => absurd rfl z⟩)
  rw [hi] at k no
  have e5 : (4 : Int32) = nI 5 - 1 := by decide
  rw [e5]
  refine m_in0 (by omega) (fun i hi' hx' hi2 => ⟨fun z => absurd z (by decide), fun _ => ?_⟩) (fun hi2 => ⟨fun _ => no (by simp only [hi2]), fun z => absurd rfl z⟩)
  simp only [hi2] at k
  subst hx hx'
  obtain ⟨o1, o2, o3, o4, o5, o6, o7⟩ := hT.2.2 j hj ht
  have od : tD (sT S) j ≤ 1 := by
    rcases Nat.eq_zero_or_pos j with e | e
    · rw [e, ok.2.1.2.1.2.1]; omega
    · exact (ok.2.1.2.2.2.1 j e hj ht).1
  have fin : ∀ r : Int32, r = (if i = 0 then nI (tP (sT S) j) else if i = 1 then (if tD (sT S) j = 1 then 0 else 1) else if i = 2 then nI (tS (sT S) j) else if i = 3 then nI (tE (sT S) j) else nI (tX (sT S) j)) → post r (sI_ σ 8 0 m (nI 0)) := by
    intro r hr
    refine k r _ h.thr MFr.thr.tt ⟨?_, hr⟩
    rw [afI_sI, u3_e]; rfl
  unfold wX9_tree_L23
  simp (disch := omega) only [atg_sI, afI_sI, afL_sI, afR_sI, aln_sI, aaI_sI, aaL_sI, aaR_sI, anx_sI, abc_sI, abs_sI, alo_sI, atg_wI, afI_wI, afL_wI, afR_wI, aln_wI, aaI_wI, aaL_wI, aaR_wI, anx_wI, abc_wI, abs_wI, alo_wI, atg_wL, afI_wL, afL_wL, afR_wL, aln_wL, aaI_wL, aaL_wL, aaR_wL, anx_wL, abc_wL, abs_wL, alo_wL, u2_e, u2_r, u2_i, u3_e, u3_k, u3_c, u3_r, mw_tag hw, mw_lo hw, mw_loa hw, mf_3 hw, mt_3 hw, ml_3 hw, mf_4 hw, mt_4 hw, ml_4 hw, mf_5 hw, mt_5 hw, ml_5 hw, mf_9 hw, mt_9 hw, ml_9 hw, mf_11 hw, mt_11 hw, ml_11 hw, mf_12 hw, mt_12 hw, ml_12 hw, mf_13 hw, mt_13 hw, ml_13 hw, mf_14 hw, mt_14 hw, ml_14 hw, mf_15 hw, mt_15 hw, ml_15 hw, mf_16 hw, mt_16 hw, ml_16 hw, mf_17 hw, mt_17 hw, ml_17 hw, mf_18 hw, mt_18 hw, ml_18 hw, mf_19 hw, mt_19 hw, ml_19 hw, mf_21 hw, mt_21 hw, ml_21 hw, mf_24 hw, mt_24 hw, ml_24 hw, mf_25 hw, mt_25 hw, ml_25 hw, mf_26 hw, mt_26 hw, ml_26 hw, mf_29 hw, mt_29 hw, ml_29 hw, mf_30 hw, mt_30 hw, ml_30 hw, mf_31 hw, mt_31 hw, ml_31 hw, mf_32 hw, mt_32 hw, ml_32 hw, mf_33 hw, mt_33 hw, ml_33 hw, mf_34 hw, mt_34 hw, ml_34 hw, mf_36 hw, mt_36 hw, ml_36 hw, mf_37 hw, mt_37 hw, ml_37 hw, mf_38 hw, mt_38 hw, ml_38 hw, mf_39 hw, mt_39 hw, ml_39 hw, mf_40 hw, mt_40 hw, ml_40 hw, li_0, li_1, li_2, li_3, li_4, li_5, li_6, li_7, li_8, li_9, li_10, li_12, li_14, li_16, li_17, li_18, li_19, li_20, li_25, li_28, li_30, li_31, li_32, li_33, li_34, li_40, li_46, li_48, li_49, li_57, li_59, li_65, li_67, li_68, li_75, li_77, li_80, li_82, li_90, li_95, li_100, li_128, li_130, li_132, li_136, li_140, li_148, li_156, li_200, li_255, li_256, li_400, li_700, li_2047, li_2048, li_2049, li_2050, li_2054, li_2056, li_4096, li_6000, li_163840, li_409600, li_819200, nI_add, pk_mul, pk_sub, nI_leI, nI_ltI, nI_eq, nI_clamp, vin_t, forall_eq, true_and, and_true, forall_const, implies_true, o1, o2, o4, o5, o7]
  refine ⟨fun _ => ⟨fun a => ⟨fun b => ⟨fun c => ⟨fun d => fin _ ?_, fun d => fin _ ?_⟩, fun c => fin _ ?_⟩, fun b => ⟨fun c => fin _ ?_, fun c => fin _ ?_⟩⟩, fun a => fin _ ?_⟩, fun z => absurd z (by decide)⟩
  · rw [if_neg a, if_neg b, if_neg c, if_neg d]
  · rw [if_neg a, if_neg b, if_neg c, if_pos d]
  · rw [if_neg a, if_neg b, if_pos c]
  · rw [if_neg a, if_pos b, if_neg (by omega)]; rfl
  · rw [if_neg a, if_pos b, if_pos (by omega)]; rfl
  · rw [if_pos a]
theorem mks_lt {s i : Nat} {n : Nat} {B St : Nat → Nat} (h : (mks n B St)[i]? = some s) : isMk n B St s ∧ s < n ∧ i < (mks n B St).length ∧ (mks n B St).getD i 0 = s := by
  have h1 := List.mem_of_getElem? h
  have h2 := mkR_mem h1
  obtain ⟨h3, h4⟩ := List.getElem?_eq_some_iff.mp h
  exact ⟨h2.1, by omega, h3, by rw [List.getD_eq_getElem?_getD, h]; rfl⟩
theorem mkR_len {n : Nat} {B St : Nat → Nat} : ∀ (j s : Nat), (mkR n B St j s).length ≤ j
  | 0, s => by simp [mkR]
  | j + 1, s => by
    unfold mkR
    have := mkR_len (n := n) (B := B) (St := St) j (s + 1)
    by_cases e : isMk n B St s
    · rw [ic_t e]; simp; omega
    · rw [ic_f e]; omega
theorem ix_some {j n : Nat} (h : j < n) (hn : n < 2 ^ 31) : ixN (nI j) n = some j := by
  unfold ixN
  rw [nI_toInt (by omega), if_pos (by omega), nI_clamp (by omega)]
/-- the mark's sector that was asked for -/
theorem M_markAt (h : MI σ m S) {x : Int32} {post : Int32 → Prop} (k1 : ∀ i s, ixN x (sM S).length = some i → (sM S).getD i 0 = s → isMk (sN S) (sB S) (sSt S) s → s < sN S → post (nI s)) (k0 : ixN x (sM S).length = none → post (-1)) : wX9_markAt m x σ post := by
  obtain ⟨⟨sd, hM⟩, -⟩ := id h
  have hn := hM.2.1.2.1
  have hl : (sM S).length ≤ sN S := mkR_len _ _
  refine m_markAt hM (fun i s e hi hs => ?_) (fun e => k0 ?_)
  · obtain ⟨a, b, c, d⟩ := mks_lt hs
    exact k1 i s (by rw [e]; exact ix_some c (by omega)) d a b
  · rcases ix_cases x (n := (sM S).length) (by omega) with ⟨j, h1, h2, h3⟩ | ⟨h1, h2⟩
    · have := e j (by omega) h2
      rw [List.getElem?_eq_none_iff] at this
      exact absurd h1 (Nat.not_lt.mpr this)
    · exact h2
theorem rdA_neg {w : Nat} (h : w < 2 ^ 30) : (-1 - nI w : Int32) < 0 := by
  rw [Int32.lt_iff_toInt_lt]
  have h1 : (-1 - nI w : Int32) = -nI (w + 1) := by
    rw [← nI_add]
    apply Int32.toBitVec_inj.mp
    show (BitVec.ofNat 32 w |> fun z => (-1#32) - z) = -(BitVec.ofNat 32 w + 1#32)
    simp only
    rw [BitVec.neg_add]
    rw [BitVec.sub_eq_add_neg, BitVec.add_comm, BitVec.sub_eq_add_neg]
  rw [h1, sb_negT (by omega)]
  have : (0 : Int32).toInt = 0 := by decide
  omega
/-- looking at a mark's session -/
theorem M_look (h : MI σ m S) {s : Nat} (hs : s < sN S) (hm : isMk (sN S) (sB S) (sSt S) s) {post : Int32 → Hp → Prop}
    (k1 : ∀ F σ', sRd S s = .inr F → MI σ' m S → MFr m σ σ' PX QX → SF σ' m F → FOK (sN S) F → post (nI F.length) σ') (k0 : ∀ w σ', sRd S s = .inl w → MI σ' m S → MFr m σ σ' PX QX → w < 2 ^ 30 → post (-1 - nI w) σ') : wX9_look m (nI (lowN (sB S) (2048 * s + 4) 4)) σ post := by
  obtain ⟨⟨sd, hM⟩, -⟩ := id h
  have hn := hM.2.1.2.1
  have := hm.2.2.2.2.2.1
  exact m_look hM (by omega) (fun F σ' a b c d => k1 F σ' a (h.fr b.sx) b.sx c d) (fun w σ' a b c => k0 w σ' a (h.fr b.sx) b.sx c)
theorem M_mark (h : MI σ m S) {x w : Int32} {post : Int32 → Hp → Prop} (k : ∀ r σ', MI σ' m S → MFr m σ σ' TP TQ → ans σ' m (opMark S x w) r → post r σ') : wX9_mark m x w σ post := by
  obtain ⟨⟨sd, hM⟩, hP, hT, hO⟩ := id h
  have hw := hM.1
  have hn := hM.2.1.2.1
  have no : ∀ y, opMark S x w = none → wX9_mark_L24 post m w y m σ := by
    intro y e
    unfold wX9_mark_L24 wX9_mark_L25
    simp (disch := omega) only [atg_sI, afI_sI, afL_sI, afR_sI, aln_sI, aaI_sI, aaL_sI, aaR_sI, anx_sI, abc_sI, abs_sI, alo_sI, atg_wI, afI_wI, afL_wI, afR_wI, aln_wI, aaI_wI, aaL_wI, aaR_wI, anx_wI, abc_wI, abs_wI, alo_wI, atg_wL, afI_wL, afL_wL, afR_wL, aln_wL, aaI_wL, aaL_wL, aaR_wL, anx_wL, abc_wL, abs_wL, alo_wL, u2_e, u2_r, u2_i, u3_e, u3_k, u3_c, u3_r, mw_tag hw, mw_lo hw, mw_loa hw, mf_3 hw, mt_3 hw, ml_3 hw, mf_4 hw, mt_4 hw, ml_4 hw, mf_5 hw, mt_5 hw, ml_5 hw, mf_9 hw, mt_9 hw, ml_9 hw, mf_11 hw, mt_11 hw, ml_11 hw, mf_12 hw, mt_12 hw, ml_12 hw, mf_13 hw, mt_13 hw, ml_13 hw, mf_14 hw, mt_14 hw, ml_14 hw, mf_15 hw, mt_15 hw, ml_15 hw, mf_16 hw, mt_16 hw, ml_16 hw, mf_17 hw, mt_17 hw, ml_17 hw, mf_18 hw, mt_18 hw, ml_18 hw, mf_19 hw, mt_19 hw, ml_19 hw, mf_21 hw, mt_21 hw, ml_21 hw, mf_24 hw, mt_24 hw, ml_24 hw, mf_25 hw, mt_25 hw, ml_25 hw, mf_26 hw, mt_26 hw, ml_26 hw, mf_29 hw, mt_29 hw, ml_29 hw, mf_30 hw, mt_30 hw, ml_30 hw, mf_31 hw, mt_31 hw, ml_31 hw, mf_32 hw, mt_32 hw, ml_32 hw, mf_33 hw, mt_33 hw, ml_33 hw, mf_34 hw, mt_34 hw, ml_34 hw, mf_36 hw, mt_36 hw, ml_36 hw, mf_37 hw, mt_37 hw, ml_37 hw, mf_38 hw, mt_38 hw, ml_38 hw, mf_39 hw, mt_39 hw, ml_39 hw, mf_40 hw, mt_40 hw, ml_40 hw, li_0, li_1, li_2, li_3, li_4, li_5, li_6, li_7, li_8, li_9, li_10, li_12, li_14, li_16, li_17, li_18, li_19, li_20, li_25, li_28, li_30, li_31, li_32, li_33, li_34, li_40, li_46, li_48, li_49, li_57, li_59, li_65, li_67, li_68, li_75, li_77, li_80, li_82, li_90, li_95, li_100, li_128, li_130, li_132, li_136, li_140, li_148, li_156, li_200, li_255, li_256, li_400, li_700, li_2047, li_2048, li_2049, li_2050, li_2054, li_2056, li_4096, li_6000, li_163840, li_409600, li_819200, nI_add, pk_mul, pk_sub, nI_leI, nI_ltI, nI_eq, nI_clamp, vin_t, forall_eq, true_and, and_true, forall_const, implies_true]
    refine ⟨fun z => absurd trivial z, k _ _ h.thr MFr.thr.tt ?_⟩
    unfold ans; rw [e]
    show fI_ _ 8 0 m = _
    rw [afI_sI, u3_e]; rfl
  unfold wX9_mark
  refine ⟨mw_tag hw, ?_⟩
  unfold opMark at k no
  refine M_markAt h (fun i s hi hg hm hs => ⟨fun z => absurd z (nI_pos (by omega)), fun _ => ?_⟩) (fun hi => ⟨fun _ => no _ (by rw [hi]), fun z => absurd (by decide) z⟩)
  rw [hi] at k no
  have e4 : (3 : Int32) = nI 4 - 1 := by decide
  rw [e4]
  refine m_in0 (by omega) (fun j hj hx' hi2 => ⟨fun z => absurd z (by decide), fun _ => ?_⟩) (fun hi2 => ⟨fun _ => no _ (by simp only [hi2]), fun z => absurd rfl z⟩)
  simp only [hi2, hg] at k
  subst hx'
  have fin : ∀ (r : Int32) (τ : Hp), MFr m (sI_ σ 8 0 m (nI 0)) τ PS QS → r = (if j = 0 then nI s else if j = 1 then nI (lowN (sB S) (2048 * s + 4) 4) else if j = 2 then nI (lowN (sB S) (2048 * s + 8) 4) else rdA (sRd S s)) → post r τ := by
    intro r τ f hr
    refine k r _ ((h.thr).fr f.sx) (MFr.thr.tt.trans f.tt) ⟨?_, hr⟩
    rw [f.f (by unfold QS; omega), afI_sI, u3_e]; rfl
  obtain ⟨⟨sd', hM'⟩, -⟩ := id (h.thr (v := nI 0))
  unfold wX9_mark_L25
  simp (disch := omega) only [atg_sI, afI_sI, afL_sI, afR_sI, aln_sI, aaI_sI, aaL_sI, aaR_sI, anx_sI, abc_sI, abs_sI, alo_sI, atg_wI, afI_wI, afL_wI, afR_wI, aln_wI, aaI_wI, aaL_wI, aaR_wI, anx_wI, abc_wI, abs_wI, alo_wI, atg_wL, afI_wL, afL_wL, afR_wL, aln_wL, aaI_wL, aaL_wL, aaR_wL, anx_wL, abc_wL, abs_wL, alo_wL, u2_e, u2_r, u2_i, u3_e, u3_k, u3_c, u3_r, mw_tag hw, mw_lo hw, mw_loa hw, mf_3 hw, mt_3 hw, ml_3 hw, mf_4 hw, mt_4 hw, ml_4 hw, mf_5 hw, mt_5 hw, ml_5 hw, mf_9 hw, mt_9 hw, ml_9 hw, mf_11 hw, mt_11 hw, ml_11 hw, mf_12 hw, mt_12 hw, ml_12 hw, mf_13 hw, mt_13 hw, ml_13 hw, mf_14 hw, mt_14 hw, ml_14 hw, mf_15 hw, mt_15 hw, ml_15 hw, mf_16 hw, mt_16 hw, ml_16 hw, mf_17 hw, mt_17 hw, ml_17 hw, mf_18 hw, mt_18 hw, ml_18 hw, mf_19 hw, mt_19 hw, ml_19 hw, mf_21 hw, mt_21 hw, ml_21 hw, mf_24 hw, mt_24 hw, ml_24 hw, mf_25 hw, mt_25 hw, ml_25 hw, mf_26 hw, mt_26 hw, ml_26 hw, mf_29 hw, mt_29 hw, ml_29 hw, mf_30 hw, mt_30 hw, ml_30 hw, mf_31 hw, mt_31 hw, ml_31 hw, mf_32 hw, mt_32 hw, ml_32 hw, mf_33 hw, mt_33 hw, ml_33 hw, mf_34 hw, mt_34 hw, ml_34 hw, mf_36 hw, mt_36 hw, ml_36 hw, mf_37 hw, mt_37 hw, ml_37 hw, mf_38 hw, mt_38 hw, ml_38 hw, mf_39 hw, mt_39 hw, ml_39 hw, mf_40 hw, mt_40 hw, ml_40 hw, li_0, li_1, li_2, li_3, li_4, li_5, li_6, li_7, li_8, li_9, li_10, li_12, li_14, li_16, li_17, li_18, li_19, li_20, li_25, li_28, li_30, li_31, li_32, li_33, li_34, li_40, li_46, li_48, li_49, li_57, li_59, li_65, li_67, li_68, li_75, li_77, li_80, li_82, li_90, li_95, li_100, li_128, li_130, li_132, li_136, li_140, li_148, li_156, li_200, li_255, li_256, li_400, li_700, li_2047, li_2048, li_2049, li_2050, li_2054, li_2056, li_4096, li_6000, li_163840, li_409600, li_819200, nI_add, pk_mul, pk_sub, nI_leI, nI_ltI, nI_eq, nI_clamp, vin_t, forall_eq, true_and, and_true, forall_const, implies_true]
  have hlt := hm.2.2.2.2.2.1
  refine ⟨fun _ => ⟨fun a => ⟨fun b => ⟨fun c => m_lowAt hM' (by omega) (by omega) ?_, fun c => m_lowAt hM' (by omega) (by omega) (fin _ _ MFr.refl ?_)⟩, fun b => m_lowAt hM' (by omega) (by omega) (fin _ _ MFr.refl ?_)⟩, fun a => fin _ _ MFr.refl ?_⟩, fun z => absurd z (by decide)⟩
  · refine m_look hM' (by omega) (fun F σ' a1 a2 a3 a4 => fin _ _ a2 ?_) (fun w σ' a1 a2 a3 => fin _ _ a2 ?_)
    · rw [if_neg a, if_neg b, if_neg c]; unfold sRd; rw [a1]; rfl
    · rw [if_neg a, if_neg b, if_neg c]; unfold sRd; rw [a1]; rfl
  · rw [if_neg a, if_neg b, if_pos c]
  · rw [if_neg a, if_pos b]
  · rw [if_pos a]
end
