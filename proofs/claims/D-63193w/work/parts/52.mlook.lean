/-! the reference reads a session: its answer is rd's -/
theorem ic_or {α : Type} {c : Prop} {a b x : α} (h : ic c a b = x) : (c ∧ a = x) ∨ (¬ c ∧ b = x) := by
  by_cases e : c
  · rw [ic_t e] at h; exact Or.inl ⟨e, h⟩
  · rw [ic_f e] at h; exact Or.inr ⟨e, h⟩
theorem scan_len {n : Nat} {B St : Nat → Nat} {d : Nat} {D : FT} : ∀ (j : Nat) (F : List FT) (p rc : Nat) (F' : List FT), scan n B St d D j F p rc = .inr F' → F.length ≤ F'.length
  | 0, F, p, rc, F', h => by unfold scan at h; cases h
  | j + 1, F, p, rc, F', h => by
    unfold scan at h
    rcases ic_or h with ⟨-, h⟩ | ⟨-, h⟩
    · rcases ic_or h with ⟨-, h⟩ | ⟨-, h⟩
      · exact scan_len j _ _ _ _ h
      · rcases ic_or h with ⟨-, h⟩ | ⟨-, h⟩
        · rcases ic_or h with ⟨-, h⟩ | ⟨-, h⟩
          · rcases ic_or h with ⟨-, h⟩ | ⟨-, h⟩
            · exact scan_len j _ _ _ _ h
            · cases h
          · rcases ic_or h with ⟨-, h⟩ | ⟨-, h⟩
            · have := scan_len j _ _ _ _ h
              simp at this; omega
            · cases h
        · cases h
    · rcases ic_or h with ⟨-, h⟩ | ⟨-, h⟩
      · cases h; exact Nat.le_refl _
      · cases h
section
variable {σ : Hp} {m n sd : Nat} {B St : Nat → Nat}
theorem m_tableIs (h : MedM σ m n sd B St) {F : List FT} (hF : SF σ m F) (hok : FOK n F) {b : Nat} (hb : b + 19 < n) {post : Int32 → Hp → Prop}
    (k1 : ∀ σ', mism B (2048 * (b + 18)) (ptab F true 0 F.length) = none → mism B (2048 * (b + 19)) (ptab F false 0 F.length) = none → MFr m σ σ' P0 Q28 → post (nI (ptab F false 0 F.length).length) σ')
    (k0 : ∀ w σ', (match mism B (2048 * (b + 18)) (ptab F true 0 F.length) with | some w => some w | none => mism B (2048 * (b + 19)) (ptab F false 0 F.length)) = some w → MFr m σ σ' P0 Q28 → fI_ σ' 8 28 m = nI w → w < 2 ^ 30 → post (-1) σ') : wX9_tableIs m (nI (b + 18)) σ post := by
  have hn := h.2.1.2.1
  have hw := h.1
  unfold wX9_tableIs
  refine ⟨mw_tag hw, fun σ1 e1 => ?_⟩
  have f1 : MFr m σ σ1 P0 Q28 := by rw [e1]; exact MFr.sI rfl
  have w1 : WR σ1 m none := by rw [e1]; show fI_ _ 8 28 m = -1; rw [afI_sI, u3_e]
  unfold wX9_tableIs_L9
  refine lpG3 (B := fun R x2 x3 τ => wX9_tableIs_B9 post R m (nI (b + 18)) x2 x3 τ) (fun j x2 x3 τ => ∃ mm o, mm + j = 2 ∧ x3 = nI mm ∧ MFr m σ τ P0 Q28 ∧ WR τ m o ∧ (mm = 0 → o = none) ∧ (mm = 1 → o = mism B (2048 * (b + 18)) (ptab F true 0 F.length)) ∧ (mm = 2 → x2 = nI (ptab F false 0 F.length).length ∧ o = mism B (2048 * (b + 19)) (ptab F false 0 F.length) ∧ mism B (2048 * (b + 18)) (ptab F true 0 F.length) = none)) 2 ⟨0, none, rfl, rfl, f1, w1, fun _ => rfl, fun q => absurd q (by decide), fun q => absurd q (by decide)⟩ ?_
  rintro j x2 x3 τ R ⟨mm, o, h1, rfl, h3, h4, h5, h6, h7⟩ hR
  have hm := h3.p0 h
  have hw := hm.1
  unfold wX9_tableIs_B9 wX9_tableIs_L322
  simp (disch := omega) only [atg_sI, afI_sI, afL_sI, afR_sI, aln_sI, aaI_sI, aaL_sI, aaR_sI, anx_sI, abc_sI, abs_sI, alo_sI, atg_wI, afI_wI, afL_wI, afR_wI, aln_wI, aaI_wI, aaL_wI, aaR_wI, anx_wI, abc_wI, abs_wI, alo_wI, atg_wL, afI_wL, afL_wL, afR_wL, aln_wL, aaI_wL, aaL_wL, aaR_wL, anx_wL, abc_wL, abs_wL, alo_wL, u2_e, u2_r, u2_i, u3_e, u3_k, u3_c, u3_r, mw_tag hw, mw_lo hw, mw_loa hw, mf_3 hw, mt_3 hw, ml_3 hw, mf_4 hw, mt_4 hw, ml_4 hw, mf_5 hw, mt_5 hw, ml_5 hw, mf_9 hw, mt_9 hw, ml_9 hw, mf_11 hw, mt_11 hw, ml_11 hw, mf_12 hw, mt_12 hw, ml_12 hw, mf_13 hw, mt_13 hw, ml_13 hw, mf_14 hw, mt_14 hw, ml_14 hw, mf_15 hw, mt_15 hw, ml_15 hw, mf_16 hw, mt_16 hw, ml_16 hw, mf_17 hw, mt_17 hw, ml_17 hw, mf_18 hw, mt_18 hw, ml_18 hw, mf_19 hw, mt_19 hw, ml_19 hw, mf_21 hw, mt_21 hw, ml_21 hw, mf_24 hw, mt_24 hw, ml_24 hw, mf_25 hw, mt_25 hw, ml_25 hw, mf_26 hw, mt_26 hw, ml_26 hw, mf_29 hw, mt_29 hw, ml_29 hw, mf_30 hw, mt_30 hw, ml_30 hw, mf_31 hw, mt_31 hw, ml_31 hw, mf_32 hw, mt_32 hw, ml_32 hw, mf_33 hw, mt_33 hw, ml_33 hw, mf_34 hw, mt_34 hw, ml_34 hw, mf_36 hw, mt_36 hw, ml_36 hw, mf_37 hw, mt_37 hw, ml_37 hw, mf_38 hw, mt_38 hw, ml_38 hw, mf_39 hw, mt_39 hw, ml_39 hw, mf_40 hw, mt_40 hw, ml_40 hw, li_0, li_1, li_2, li_3, li_4, li_5, li_6, li_7, li_8, li_9, li_10, li_12, li_14, li_16, li_17, li_18, li_19, li_20, li_25, li_28, li_30, li_31, li_32, li_33, li_34, li_40, li_46, li_48, li_49, li_57, li_59, li_65, li_67, li_68, li_75, li_77, li_80, li_82, li_90, li_95, li_100, li_128, li_130, li_132, li_136, li_140, li_148, li_156, li_200, li_255, li_256, li_400, li_700, li_2047, li_2048, li_2049, li_2050, li_2054, li_2056, li_4096, li_6000, li_163840, li_409600, li_819200, nI_add, pk_mul, pk_sub, nI_leI, nI_ltI, nI_eq, nI_clamp, vin_t, forall_eq, true_and, and_true, forall_const, implies_true]
  refine ⟨fun q => ?_, fun q => ?_⟩
  · have e : mm = 2 := by omega
    obtain ⟨a, b', c⟩ := h7 e
    cases o with
    | none =>
      have h4' : fI_ τ 8 28 m = -1 := h4
      rw [h4']
      exact ⟨fun z => absurd z (by decide), fun _ => by rw [a]; exact k1 τ c b'.symm h3⟩
    | some w =>
      obtain ⟨h4a, h4b⟩ := h4
      rw [h4a]
      exact ⟨fun _ => k0 w τ (by rw [c]; exact b'.symm) h3 h4a h4b, fun z => absurd (nI_pos' (by omega)) z⟩
  · cases o with
    | some w =>
      obtain ⟨h4a, h4b⟩ := h4
      rw [h4a]
      refine ⟨fun _ => ⟨fun _ => ?_, fun z => absurd (nI_pos' (by omega)) z⟩, fun z => absurd (nI_pos' (by omega)) z⟩
      have e : mm = 1 := by
        rcases (show mm = 0 ∨ mm = 1 by omega) with e | e
        · exact absurd (h5 e) (by simp)
        · exact e
      exact k0 w τ (by rw [← h6 e]) h3 h4a h4b
    | none =>
      have h4' : fI_ τ 8 28 m = -1 := h4
      rw [h4']
      refine ⟨fun z => absurd z (by decide), fun _ => ?_⟩
      refine m_tab37 hm (hF.p0 h3) hok (by omega) h4 (by omega) (fun σ' a c => ?_)
      refine hR (j - 1) _ _ _ (by omega) ⟨mm + 1, _, by omega, rfl, h3.trans a, c, fun z => by omega, fun z => ?_, fun z => ?_⟩
      · have e : mm = 0 := by omega
        subst e
        rfl
      · have e : mm = 1 := by omega
        subst e
        exact ⟨rfl, rfl, (h6 rfl).symm⟩
theorem m_gc (h : MedM σ m n sd B St) {p c : Nat} (hp : p < 2048 * n) (hc : c < 256) {A C : Prop} (k1 : B p = c → A) (k0 : ¬ B p = c → C) : wX9_get m (nI p) σ (fun r => (¬ r = nI c → C) ∧ (r = nI c → A)) := by
  have hn := h.2.1.2.1
  have hb := h.2.1.2.2.1 p
  refine m_get h hp ?_
  rw [nI_eq (by omega) (by omega)]
  exact ⟨k0, k1⟩
theorem m_begins (h : MedM σ m n sd B St) {s v : Nat} (hs : s < n) (hv : v < 256) {post : Int32 → Prop} (k1 : hdOK B (2048 * s) v → post 1) (k0 : ¬ hdOK B (2048 * s) v → post 0) : wX9_begins m (nI s) (nI v) σ post := by
  have hn := h.2.1.2.1
  have hw := h.1
  unfold wX9_begins
  simp (disch := omega) only [atg_sI, afI_sI, afL_sI, afR_sI, aln_sI, aaI_sI, aaL_sI, aaR_sI, anx_sI, abc_sI, abs_sI, alo_sI, atg_wI, afI_wI, afL_wI, afR_wI, aln_wI, aaI_wI, aaL_wI, aaR_wI, anx_wI, abc_wI, abs_wI, alo_wI, atg_wL, afI_wL, afL_wL, afR_wL, aln_wL, aaI_wL, aaL_wL, aaR_wL, anx_wL, abc_wL, abs_wL, alo_wL, u2_e, u2_r, u2_i, u3_e, u3_k, u3_c, u3_r, mw_tag hw, mw_lo hw, mw_loa hw, mf_3 hw, mt_3 hw, ml_3 hw, mf_4 hw, mt_4 hw, ml_4 hw, mf_5 hw, mt_5 hw, ml_5 hw, mf_9 hw, mt_9 hw, ml_9 hw, mf_11 hw, mt_11 hw, ml_11 hw, mf_12 hw, mt_12 hw, ml_12 hw, mf_13 hw, mt_13 hw, ml_13 hw, mf_14 hw, mt_14 hw, ml_14 hw, mf_15 hw, mt_15 hw, ml_15 hw, mf_16 hw, mt_16 hw, ml_16 hw, mf_17 hw, mt_17 hw, ml_17 hw, mf_18 hw, mt_18 hw, ml_18 hw, mf_19 hw, mt_19 hw, ml_19 hw, mf_21 hw, mt_21 hw, ml_21 hw, mf_24 hw, mt_24 hw, ml_24 hw, mf_25 hw, mt_25 hw, ml_25 hw, mf_26 hw, mt_26 hw, ml_26 hw, mf_29 hw, mt_29 hw, ml_29 hw, mf_30 hw, mt_30 hw, ml_30 hw, mf_31 hw, mt_31 hw, ml_31 hw, mf_32 hw, mt_32 hw, ml_32 hw, mf_33 hw, mt_33 hw, ml_33 hw, mf_34 hw, mt_34 hw, ml_34 hw, mf_36 hw, mt_36 hw, ml_36 hw, mf_37 hw, mt_37 hw, ml_37 hw, mf_38 hw, mt_38 hw, ml_38 hw, mf_39 hw, mt_39 hw, ml_39 hw, mf_40 hw, mt_40 hw, ml_40 hw, li_0, li_1, li_2, li_3, li_4, li_5, li_6, li_7, li_8, li_9, li_10, li_12, li_14, li_16, li_17, li_18, li_19, li_20, li_25, li_28, li_30, li_31, li_32, li_33, li_34, li_40, li_46, li_48, li_49, li_57, li_59, li_65, li_67, li_68, li_75, li_77, li_80, li_82, li_90, li_95, li_100, li_128, li_130, li_132, li_136, li_140, li_148, li_156, li_200, li_255, li_256, li_400, li_700, li_2047, li_2048, li_2049, li_2050, li_2054, li_2056, li_4096, li_6000, li_163840, li_409600, li_819200, nI_add, pk_mul, pk_sub, nI_leI, nI_ltI, nI_eq, nI_clamp, vin_t, forall_eq, true_and, and_true, forall_const, implies_true]
  exact m_gc h (by omega) hv (fun a => m_gc h (by omega) (by decide) (fun b => m_gc h (by omega) (by decide) (fun c => m_gc h (by omega) (by decide) (fun d => m_gc h (by omega) (by decide) (fun e => m_gc h (by omega) (by decide) (fun f => m_gc h (by omega) (by decide) (fun g => k1 ⟨a, b, c, d, e, f, g⟩)
    (fun g => k0 (fun z => g z.2.2.2.2.2.2))) (fun f => k0 (fun z => f z.2.2.2.2.2.1))) (fun e => k0 (fun z => e z.2.2.2.2.1))) (fun d => k0 (fun z => d z.2.2.2.1))) (fun c => k0 (fun z => c z.2.2.1))) (fun b => k0 (fun z => b z.2.1))) (fun a => k0 (fun z => a z.1))
theorem m_isMark (h : MedM σ m n sd B St) {s : Nat} (hs : s < n) {post : Int32 → Prop} (k1 : isMk n B St s → post 1) (k0 : ¬ isMk n B St s → post 0) : wX9_isMark m (nI s) σ post := by
  have hn := h.2.1.2.1
  have hB := h.2.1.2.2.1
  have hw := h.1
  have l4 := lowN_lt hB 4 (2048 * s + 4)
  have l8 := lowN_lt hB 4 (2048 * s + 8)
  unfold wX9_isMark
  simp (disch := omega) only [atg_sI, afI_sI, afL_sI, afR_sI, aln_sI, aaI_sI, aaL_sI, aaR_sI, anx_sI, abc_sI, abs_sI, alo_sI, atg_wI, afI_wI, afL_wI, afR_wI, aln_wI, aaI_wI, aaL_wI, aaR_wI, anx_wI, abc_wI, abs_wI, alo_wI, atg_wL, afI_wL, afL_wL, afR_wL, aln_wL, aaI_wL, aaL_wL, aaR_wL, anx_wL, abc_wL, abs_wL, alo_wL, u2_e, u2_r, u2_i, u3_e, u3_k, u3_c, u3_r, mw_tag hw, mw_lo hw, mw_loa hw, mf_3 hw, mt_3 hw, ml_3 hw, mf_4 hw, mt_4 hw, ml_4 hw, mf_5 hw, mt_5 hw, ml_5 hw, mf_9 hw, mt_9 hw, ml_9 hw, mf_11 hw, mt_11 hw, ml_11 hw, mf_12 hw, mt_12 hw, ml_12 hw, mf_13 hw, mt_13 hw, ml_13 hw, mf_14 hw, mt_14 hw, ml_14 hw, mf_15 hw, mt_15 hw, ml_15 hw, mf_16 hw, mt_16 hw, ml_16 hw, mf_17 hw, mt_17 hw, ml_17 hw, mf_18 hw, mt_18 hw, ml_18 hw, mf_19 hw, mt_19 hw, ml_19 hw, mf_21 hw, mt_21 hw, ml_21 hw, mf_24 hw, mt_24 hw, ml_24 hw, mf_25 hw, mt_25 hw, ml_25 hw, mf_26 hw, mt_26 hw, ml_26 hw, mf_29 hw, mt_29 hw, ml_29 hw, mf_30 hw, mt_30 hw, ml_30 hw, mf_31 hw, mt_31 hw, ml_31 hw, mf_32 hw, mt_32 hw, ml_32 hw, mf_33 hw, mt_33 hw, ml_33 hw, mf_34 hw, mt_34 hw, ml_34 hw, mf_36 hw, mt_36 hw, ml_36 hw, mf_37 hw, mt_37 hw, ml_37 hw, mf_38 hw, mt_38 hw, ml_38 hw, mf_39 hw, mt_39 hw, ml_39 hw, mf_40 hw, mt_40 hw, ml_40 hw, li_0, li_1, li_2, li_3, li_4, li_5, li_6, li_7, li_8, li_9, li_10, li_12, li_14, li_16, li_17, li_18, li_19, li_20, li_25, li_28, li_30, li_31, li_32, li_33, li_34, li_40, li_46, li_48, li_49, li_57, li_59, li_65, li_67, li_68, li_75, li_77, li_80, li_82, li_90, li_95, li_100, li_128, li_130, li_132, li_136, li_140, li_148, li_156, li_200, li_255, li_256, li_400, li_700, li_2047, li_2048, li_2049, li_2050, li_2054, li_2056, li_4096, li_6000, li_163840, li_409600, li_819200, nI_add, pk_mul, pk_sub, nI_leI, nI_ltI, nI_eq, nI_clamp, vin_t, forall_eq, true_and, and_true, forall_const, implies_true]
  refine m_isW h (by omega) (fun a1 a2 => ⟨fun z => absurd z (by decide), fun _ => ?_⟩) (fun a => ⟨fun _ => k0 (fun z => a z.1), fun z => absurd rfl z⟩)
  refine m_gc h (by omega) (by decide) (fun b => m_gc h (by omega) (by decide) (fun c => m_gc h (by omega) (by decide) (fun d => ?_) (fun d => k0 (fun z => d z.2.2.2.1))) (fun c => k0 (fun z => c z.2.2.1))) (fun b => k0 (fun z => b z.2.1))
  have h3 := hB (2048 * s + 3)
  refine m_get h (by omega) ?_
  rw [nI_eq (by omega) (by omega)]
  refine ⟨fun e => m_lowAt h (by omega) (by omega) ⟨fun z => k0 (fun y => ?_), fun z => ⟨fun z2 => k0 (fun y => ?_), fun z2 => m_lowAt h (by omega) (by omega) ⟨fun z3 => k0 (fun y => ?_), fun z3 => k1 ?_⟩⟩⟩, fun e => k0 (fun z => e z.2.2.2.2.1)⟩
  · have := y.2.2.2.2.2.1
    exact nI_lt0 (by omega) z
  · have := y.2.2.2.2.2.1
    rw [nI_leI (by omega) (by omega)] at z2
    omega
  · have := y.2.2.2.2.2.2
    rw [nI_leI (by omega) (by omega)] at z3
    omega
  · rw [nI_neg l4] at z
    rw [nI_leI (by omega) (by omega)] at z2
    have h31 : lowN B (2048 * s + 8) 4 < 2 ^ 31 := by
      rcases Nat.lt_or_ge (lowN B (2048 * s + 8) 4) (2 ^ 31) with q | q
      · exact q
      · exact absurd (Int32.le_of_lt ((nI_neg l8).mpr q)) z3
    rw [nI_leI (by omega) (by omega)] at z3
    exact ⟨⟨a1, a2⟩, b, c, d, e, by omega, by omega, h31⟩
theorem mkR_mem {n : Nat} {B St : Nat → Nat} : ∀ {j s x : Nat}, x ∈ mkR n B St j s → isMk n B St x ∧ s ≤ x ∧ x < s + j
  | 0, s, x, h => by unfold mkR at h; cases h
  | j + 1, s, x, h => by
    unfold mkR at h
    by_cases e : isMk n B St s
    · rw [ic_t e] at h
      rcases List.mem_cons.mp h with q | q
      · rw [q]; exact ⟨e, by omega, by omega⟩
      · have := mkR_mem q; exact ⟨this.1, by omega, by omega⟩
    · rw [ic_f e] at h
      have := mkR_mem h; exact ⟨this.1, by omega, by omega⟩
theorem m_markAt (h : MedM σ m n sd B St) {x : Int32} {post : Int32 → Prop} (k1 : ∀ i s, x = nI i → i < 2 ^ 31 → (mks n B St)[i]? = some s → post (nI s)) (k0 : (∀ i, i < 2 ^ 31 → x = nI i → (mks n B St)[i]? = none) → post (-1)) : wX9_markAt m x σ post := by
  have hn := h.2.1.2.1
  have hw := h.1
  unfold wX9_markAt wX9_markAt_L4
  refine lpG2 (B := fun R x2 x3 => wX9_markAt_B4 post R m x x2 x3 σ) (fun j x2 x3 => ∃ s, s + j = n ∧ x3 = nI s ∧ ((x < 0) ∨ ∃ i i', x = nI i ∧ i < 2 ^ 31 ∧ x2 = nI i' ∧ i' ≤ i ∧ (mks n B St)[i]? = (mkR n B St j s)[i']?)) n ⟨0, by omega, rfl, ?_⟩ ?_
  · by_cases q : x < 0
    · exact Or.inl q
    · obtain ⟨i, h1, h2⟩ := nI_of q
      exact Or.inr ⟨i, i, h2, h1, h2, Nat.le_refl _, rfl⟩
  · rintro j x2 x3 R ⟨s, h1, rfl, h3⟩ hR
    unfold wX9_markAt_B4 wX9_markAt_L36
    rcases h3 with q | ⟨i, i', rfl, hi, rfl, hii, e⟩
    · simp (disch := omega) only [atg_sI, afI_sI, afL_sI, afR_sI, aln_sI, aaI_sI, aaL_sI, aaR_sI, anx_sI, abc_sI, abs_sI, alo_sI, atg_wI, afI_wI, afL_wI, afR_wI, aln_wI, aaI_wI, aaL_wI, aaR_wI, anx_wI, abc_wI, abs_wI, alo_wI, atg_wL, afI_wL, afL_wL, afR_wL, aln_wL, aaI_wL, aaL_wL, aaR_wL, anx_wL, abc_wL, abs_wL, alo_wL, u2_e, u2_r, u2_i, u3_e, u3_k, u3_c, u3_r, mw_tag hw, mw_lo hw, mw_loa hw, mf_3 hw, mt_3 hw, ml_3 hw, mf_4 hw, mt_4 hw, ml_4 hw, mf_5 hw, mt_5 hw, ml_5 hw, mf_9 hw, mt_9 hw, ml_9 hw, mf_11 hw, mt_11 hw, ml_11 hw, mf_12 hw, mt_12 hw, ml_12 hw, mf_13 hw, mt_13 hw, ml_13 hw, mf_14 hw, mt_14 hw, ml_14 hw, mf_15 hw, mt_15 hw, ml_15 hw, mf_16 hw, mt_16 hw, ml_16 hw, mf_17 hw, mt_17 hw, ml_17 hw, mf_18 hw, mt_18 hw, ml_18 hw, mf_19 hw, mt_19 hw, ml_19 hw, mf_21 hw, mt_21 hw, ml_21 hw, mf_24 hw, mt_24 hw, ml_24 hw, mf_25 hw, mt_25 hw, ml_25 hw, mf_26 hw, mt_26 hw, ml_26 hw, mf_29 hw, mt_29 hw, ml_29 hw, mf_30 hw, mt_30 hw, ml_30 hw, mf_31 hw, mt_31 hw, ml_31 hw, mf_32 hw, mt_32 hw, ml_32 hw, mf_33 hw, mt_33 hw, ml_33 hw, mf_34 hw, mt_34 hw, ml_34 hw, mf_36 hw, mt_36 hw, ml_36 hw, mf_37 hw, mt_37 hw, ml_37 hw, mf_38 hw, mt_38 hw, ml_38 hw, mf_39 hw, mt_39 hw, ml_39 hw, mf_40 hw, mt_40 hw, ml_40 hw, li_0, li_1, li_2, li_3, li_4, li_5, li_6, li_7, li_8, li_9, li_10, li_12, li_14, li_16, li_17, li_18, li_19, li_20, li_25, li_28, li_30, li_31, li_32, li_33, li_34, li_40, li_46, li_48, li_49, li_57, li_59, li_65, li_67, li_68, li_75, li_77, li_80, li_82, li_90, li_95, li_100, li_128, li_130, li_132, li_136, li_140, li_148, li_156, li_200, li_255, li_256, li_400, li_700, li_2047, li_2048, li_2049, li_2050, li_2054, li_2056, li_4096, li_6000, li_163840, li_409600, li_819200, nI_add, pk_mul, pk_sub, nI_leI, nI_ltI, nI_eq, nI_clamp, vin_t, forall_eq, true_and, and_true, forall_const, implies_true, h.2.2.1]
      have kk : post (-1) := k0 (fun i hi e => absurd q (by rw [e]; exact nI_pos hi))
      exact ⟨fun _ => kk, fun _ => ⟨fun _ => kk, fun z => absurd q z⟩⟩
    · simp (disch := omega) only [atg_sI, afI_sI, afL_sI, afR_sI, aln_sI, aaI_sI, aaL_sI, aaR_sI, anx_sI, abc_sI, abs_sI, alo_sI, atg_wI, afI_wI, afL_wI, afR_wI, aln_wI, aaI_wI, aaL_wI, aaR_wI, anx_wI, abc_wI, abs_wI, alo_wI, atg_wL, afI_wL, afL_wL, afR_wL, aln_wL, aaI_wL, aaL_wL, aaR_wL, anx_wL, abc_wL, abs_wL, alo_wL, u2_e, u2_r, u2_i, u3_e, u3_k, u3_c, u3_r, mw_tag hw, mw_lo hw, mw_loa hw, mf_3 hw, mt_3 hw, ml_3 hw, mf_4 hw, mt_4 hw, ml_4 hw, mf_5 hw, mt_5 hw, ml_5 hw, mf_9 hw, mt_9 hw, ml_9 hw, mf_11 hw, mt_11 hw, ml_11 hw, mf_12 hw, mt_12 hw, ml_12 hw, mf_13 hw, mt_13 hw, ml_13 hw, mf_14 hw, mt_14 hw, ml_14 hw, mf_15 hw, mt_15 hw, ml_15 hw, mf_16 hw, mt_16 hw, ml_16 hw, mf_17 hw, mt_17 hw, ml_17 hw, mf_18 hw, mt_18 hw, ml_18 hw, mf_19 hw, mt_19 hw, ml_19 hw, mf_21 hw, mt_21 hw, ml_21 hw, mf_24 hw, mt_24 hw, ml_24 hw, mf_25 hw, mt_25 hw, ml_25 hw, mf_26 hw, mt_26 hw, ml_26 hw, mf_29 hw, mt_29 hw, ml_29 hw, mf_30 hw, mt_30 hw, ml_30 hw, mf_31 hw, mt_31 hw, ml_31 hw, mf_32 hw, mt_32 hw, ml_32 hw, mf_33 hw, mt_33 hw, ml_33 hw, mf_34 hw, mt_34 hw, ml_34 hw, mf_36 hw, mt_36 hw, ml_36 hw, mf_37 hw, mt_37 hw, ml_37 hw, mf_38 hw, mt_38 hw, ml_38 hw, mf_39 hw, mt_39 hw, ml_39 hw, mf_40 hw, mt_40 hw, ml_40 hw, li_0, li_1, li_2, li_3, li_4, li_5, li_6, li_7, li_8, li_9, li_10, li_12, li_14, li_16, li_17, li_18, li_19, li_20, li_25, li_28, li_30, li_31, li_32, li_33, li_34, li_40, li_46, li_48, li_49, li_57, li_59, li_65, li_67, li_68, li_75, li_77, li_80, li_82, li_90, li_95, li_100, li_128, li_130, li_132, li_136, li_140, li_148, li_156, li_200, li_255, li_256, li_400, li_700, li_2047, li_2048, li_2049, li_2050, li_2054, li_2056, li_4096, li_6000, li_163840, li_409600, li_819200, nI_add, pk_mul, pk_sub, nI_leI, nI_ltI, nI_eq, nI_clamp, vin_t, forall_eq, true_and, and_true, forall_const, implies_true, h.2.2.1]
      refine ⟨fun q => k0 (fun i2 h2 e2 => ?_), fun q => ⟨fun z => by omega, fun _ => ?_⟩⟩
      · have : i2 = i := ((nI_eq hi h2).mp e2).symm
        rw [this, e, show j = 0 by omega]
        simp [mkR]
      · obtain ⟨j, rfl⟩ : ∃ k, j = k + 1 := ⟨j - 1, by omega⟩
        unfold mkR at e
        refine m_isMark h (by omega) (fun a => ⟨fun _ => ?_, fun z => absurd z (by decide)⟩) (fun a => ⟨fun z => absurd rfl z, fun _ => ?_⟩)
        · rw [ic_t a] at e
          refine ⟨fun z => ?_, fun z => ?_⟩
          · refine hR j _ _ (by omega) ⟨s + 1, by omega, rfl, Or.inr ⟨i, i' - 1, rfl, hi, nI_dec (by omega), by omega, ?_⟩⟩
            rw [e, show i' = (i' - 1) + 1 by omega]
            simp
          · subst z
            exact k1 i s rfl hi (by rw [e]; rfl)
        · rw [ic_f a] at e
          exact hR j _ _ (by omega) ⟨s + 1, by omega, rfl, Or.inr ⟨i, i', rfl, hi, rfl, hii, e⟩⟩
theorem SF0 (h : MedM σ m n sd B St) {σ' : Hp} {r : Nat} (hs : SFd σ' m 0 (rtF B r)) : SF (sI_ σ' 8 27 m (nI 1)) m [rtF B r] := by
  refine ⟨by rw [afI_sI, u3_e]; rfl, fun k hk => ?_⟩
  have : k = 0 := by simp at hk; omega
  rw [this]
  exact hs
theorem FOK1 {r : Nat} (h : recOK n B St r 0) : FOK n [rtF B r] := by
  obtain ⟨h1, h2⟩ := rec_rt h
  refine ⟨⟨by simp, by simp⟩, fun k hk => ?_, ⟨h2, rfl, rfl, rfl⟩, fun k h0 hk => by simp at hk; omega⟩
  have : k = 0 := by simp at hk; omega
  rw [this]
  exact ⟨h1, by show 0 ≤ 7; omega⟩
/-- the reference reads: what changed, and what it answers -/
theorem m_isRead275 (h : MedM σ m n sd B St) {b told : Nat} (hb : b + 19 < n) (ht : told = lowN B (2048 * (b + 16) + 132) 4) (ht2 : told ≤ 2048) (hr : recOK n B St (2048 * (b + 16) + 156) 0) (hF : SF σ m [rtF B (2048 * (b + 16) + 156)]) {post : Int32 → Hp → Prop}
    (k1 : ∀ F σ', rdD n B St b = .inr F → MFr m σ σ' PS QS → SF σ' m F → FOK n F → post 1 σ') (k0 : ∀ w σ', rdD n B St b = .inl w → MFr m σ σ' PS QS → fI_ σ' 8 28 m = nI w → w < 2 ^ 30 → post 0 σ') : wX9_isRead_L275 post m (nI b) (nI (2048 * (b + 16))) (nI told) 0 σ := by
  have hn := h.2.1.2.1
  obtain ⟨Z, hZ⟩ : ∃ Z, dirsR n B St 31 [rtF B (2048 * (b + 16) + 156)] 0 = Z := ⟨_, rfl⟩
  unfold wX9_isRead_L275
  refine lpG2 (B := fun R x4 τ => wX9_isRead_B275 post R m (nI b) (nI (2048 * (b + 16))) (nI told) x4 τ) (fun j x4 τ => ∃ F d, d + j = 31 ∧ x4 = nI d ∧ d ≤ F.length ∧ dirsR n B St j F d = Z ∧ MFr m σ τ PS QS ∧ SF τ m F ∧ FOK n F) 31 ⟨_, 0, by omega, rfl, by omega, hZ, MFr.refl, hF, FOK1 hr⟩ ?_
  rintro j x4 τ R ⟨F, d, h1, rfl, h3, h4, h5, h6, h7⟩ hR
  have hm := h5.ps h
  have hw := hm.1
  have hl := h7.1.2
  obtain ⟨j, rfl⟩ : ∃ k, j = k + 1 := ⟨j - 1, by omega⟩
  unfold dirsR at h4
  unfold wX9_isRead_B275 wX9_isRead_L346 wX9_isRead_L305
  simp (disch := omega) only [atg_sI, afI_sI, afL_sI, afR_sI, aln_sI, aaI_sI, aaL_sI, aaR_sI, anx_sI, abc_sI, abs_sI, alo_sI, atg_wI, afI_wI, afL_wI, afR_wI, aln_wI, aaI_wI, aaL_wI, aaR_wI, anx_wI, abc_wI, abs_wI, alo_wI, atg_wL, afI_wL, afL_wL, afR_wL, aln_wL, aaI_wL, aaL_wL, aaR_wL, anx_wL, abc_wL, abs_wL, alo_wL, u2_e, u2_r, u2_i, u3_e, u3_k, u3_c, u3_r, mw_tag hw, mw_lo hw, mw_loa hw, mf_3 hw, mt_3 hw, ml_3 hw, mf_4 hw, mt_4 hw, ml_4 hw, mf_5 hw, mt_5 hw, ml_5 hw, mf_9 hw, mt_9 hw, ml_9 hw, mf_11 hw, mt_11 hw, ml_11 hw, mf_12 hw, mt_12 hw, ml_12 hw, mf_13 hw, mt_13 hw, ml_13 hw, mf_14 hw, mt_14 hw, ml_14 hw, mf_15 hw, mt_15 hw, ml_15 hw, mf_16 hw, mt_16 hw, ml_16 hw, mf_17 hw, mt_17 hw, ml_17 hw, mf_18 hw, mt_18 hw, ml_18 hw, mf_19 hw, mt_19 hw, ml_19 hw, mf_21 hw, mt_21 hw, ml_21 hw, mf_24 hw, mt_24 hw, ml_24 hw, mf_25 hw, mt_25 hw, ml_25 hw, mf_26 hw, mt_26 hw, ml_26 hw, mf_29 hw, mt_29 hw, ml_29 hw, mf_30 hw, mt_30 hw, ml_30 hw, mf_31 hw, mt_31 hw, ml_31 hw, mf_32 hw, mt_32 hw, ml_32 hw, mf_33 hw, mt_33 hw, ml_33 hw, mf_34 hw, mt_34 hw, ml_34 hw, mf_36 hw, mt_36 hw, ml_36 hw, mf_37 hw, mt_37 hw, ml_37 hw, mf_38 hw, mt_38 hw, ml_38 hw, mf_39 hw, mt_39 hw, ml_39 hw, mf_40 hw, mt_40 hw, ml_40 hw, li_0, li_1, li_2, li_3, li_4, li_5, li_6, li_7, li_8, li_9, li_10, li_12, li_14, li_16, li_17, li_18, li_19, li_20, li_25, li_28, li_30, li_31, li_32, li_33, li_34, li_40, li_46, li_48, li_49, li_57, li_59, li_65, li_67, li_68, li_75, li_77, li_80, li_82, li_90, li_95, li_100, li_128, li_130, li_132, li_136, li_140, li_148, li_156, li_200, li_255, li_256, li_400, li_700, li_2047, li_2048, li_2049, li_2050, li_2054, li_2056, li_4096, li_6000, li_163840, li_409600, li_819200, nI_add, pk_mul, pk_sub, nI_leI, nI_ltI, nI_eq, nI_clamp, vin_t, forall_eq, true_and, and_true, forall_const, implies_true, h6.1]
  refine ⟨fun q => ?_, fun q => ?_⟩
  · rw [ic_f (by omega)] at h4
    have hD : rdD n B St b = rdT B b F := by unfold rdD; rw [hZ, ← h4]
    rw [hD] at k1 k0
    unfold rdT at k1 k0
    refine m_tableIs hm h6 h7 hb (fun σ' a1 a2 a3 => ⟨fun _ => ?_, fun z => absurd (nI_pos' ?_) z⟩) (fun w σ' a1 a2 a3 a4 => ⟨fun z => absurd z (by decide), fun _ => ?_⟩)
    · rw [a1] at k1 k0
      simp only [a2] at k1 k0
      have hpl := ptab_len h7 false F.length 0 (by omega)
      have fr : MFr m σ σ' PS QS := h5.trans (a3.mono (fun j i z => absurd z (fun y => y)) (fun k z => Or.inr z))
      rw [nI_eq (by omega) (by omega)]
      refine ⟨fun e => k1 F σ' ?_ fr (h6.p0 a3) h7, fun e => ⟨mw_tag (a3.mw hw), m_no (a3.mw hw) ⟨fun _ => k0 _ _ ?_ (fr.trans (MFr.sI (Or.inr rfl))) (by rw [afI_sI, u3_e]) (by omega), fun z => absurd rfl z⟩⟩⟩
      · unfold ck; rw [ic_t (by omega)]
      · unfold ck; rw [ic_f (by omega)]
    · have hpl := ptab_len h7 false F.length 0 (by omega)
      omega
    · have fr : MFr m σ σ' PS QS := h5.trans (a2.mono (fun j i z => absurd z (fun y => y)) (fun k z => Or.inr z))
      refine k0 w σ' ?_ fr a3 a4
      cases e : mism B (2048 * (b + 18)) (ptab F true 0 F.length) with
      | some w' => rw [e] at a1; simp at a1; simp [a1]
      | none => rw [e] at a1; simp at a1; simp [a1]
  · rw [ic_t (by omega)] at h4
    obtain ⟨g1, g2, -⟩ := h6.2 d (by omega)
    have o1 := (h7.2.1 d (by omega)).1.1
    simp (disch := omega) only [atg_sI, afI_sI, afL_sI, afR_sI, aln_sI, aaI_sI, aaL_sI, aaR_sI, anx_sI, abc_sI, abs_sI, alo_sI, atg_wI, afI_wI, afL_wI, afR_wI, aln_wI, aaI_wI, aaL_wI, aaR_wI, anx_wI, abc_wI, abs_wI, alo_wI, atg_wL, afI_wL, afL_wL, afR_wL, aln_wL, aaI_wL, aaL_wL, aaR_wL, anx_wL, abc_wL, abs_wL, alo_wL, u2_e, u2_r, u2_i, u3_e, u3_k, u3_c, u3_r, mw_tag hw, mw_lo hw, mw_loa hw, mf_3 hw, mt_3 hw, ml_3 hw, mf_4 hw, mt_4 hw, ml_4 hw, mf_5 hw, mt_5 hw, ml_5 hw, mf_9 hw, mt_9 hw, ml_9 hw, mf_11 hw, mt_11 hw, ml_11 hw, mf_12 hw, mt_12 hw, ml_12 hw, mf_13 hw, mt_13 hw, ml_13 hw, mf_14 hw, mt_14 hw, ml_14 hw, mf_15 hw, mt_15 hw, ml_15 hw, mf_16 hw, mt_16 hw, ml_16 hw, mf_17 hw, mt_17 hw, ml_17 hw, mf_18 hw, mt_18 hw, ml_18 hw, mf_19 hw, mt_19 hw, ml_19 hw, mf_21 hw, mt_21 hw, ml_21 hw, mf_24 hw, mt_24 hw, ml_24 hw, mf_25 hw, mt_25 hw, ml_25 hw, mf_26 hw, mt_26 hw, ml_26 hw, mf_29 hw, mt_29 hw, ml_29 hw, mf_30 hw, mt_30 hw, ml_30 hw, mf_31 hw, mt_31 hw, ml_31 hw, mf_32 hw, mt_32 hw, ml_32 hw, mf_33 hw, mt_33 hw, ml_33 hw, mf_34 hw, mt_34 hw, ml_34 hw, mf_36 hw, mt_36 hw, ml_36 hw, mf_37 hw, mt_37 hw, ml_37 hw, mf_38 hw, mt_38 hw, ml_38 hw, mf_39 hw, mt_39 hw, ml_39 hw, mf_40 hw, mt_40 hw, ml_40 hw, li_0, li_1, li_2, li_3, li_4, li_5, li_6, li_7, li_8, li_9, li_10, li_12, li_14, li_16, li_17, li_18, li_19, li_20, li_25, li_28, li_30, li_31, li_32, li_33, li_34, li_40, li_46, li_48, li_49, li_57, li_59, li_65, li_67, li_68, li_75, li_77, li_80, li_82, li_90, li_95, li_100, li_128, li_130, li_132, li_136, li_140, li_148, li_156, li_200, li_255, li_256, li_400, li_700, li_2047, li_2048, li_2049, li_2050, li_2054, li_2056, li_4096, li_6000, li_163840, li_409600, li_819200, nI_add, pk_mul, pk_sub, nI_leI, nI_ltI, nI_eq, nI_clamp, vin_t, forall_eq, true_and, and_true, forall_const, implies_true, g2]
    refine ⟨fun e => ?_, fun e => ?_⟩
    rotate_left
    · rw [ic_t (by omega)] at h4
      refine m_isGone (F := F) (d := d) hm h6 h7 (by omega) (by omega) (fun F' σ' a1 a2 a3 a4 => ⟨fun _ => ?_, fun z => absurd z (by decide)⟩) (fun w σ' a1 a2 a3 a4 => ⟨fun z => absurd rfl z, fun _ => ?_⟩)
      · rw [a1] at h4
        have := scan_len _ _ _ _ _ a1
        exact hR j _ _ (by omega) ⟨F', d + 1, by omega, rfl, by omega, h4, h5.trans a2, a3, a4⟩
      · rw [a1] at h4
        exact k0 w σ' (by unfold rdD; rw [hZ, ← h4]) (h5.trans a3) a4 (by omega)
    · rw [ic_f (by omega)] at h4
      exact hR j _ _ (by omega) ⟨F, d + 1, by omega, rfl, by omega, h4, h5, h6, h7⟩
theorem m_isRead (h : MedM σ m n sd B St) {b : Nat} (hb : b < 200) {post : Int32 → Hp → Prop}
    (k1 : ∀ F σ', rd n B St b = .inr F → MFr m σ σ' PS QS → SF σ' m F → FOK n F → post 1 σ') (k0 : ∀ w σ', rd n B St b = .inl w → MFr m σ σ' PS QS → fI_ σ' 8 28 m = nI w → w < 2 ^ 30 → post 0 σ') : wX9_isRead m (nI b) σ post := by
  have hn := h.2.1.2.1
  have hB := h.2.1.2.2.1
  have hw := h.1
  obtain ⟨Z, hZ⟩ : ∃ Z, rd n B St b = Z := ⟨_, rfl⟩
  rw [hZ] at k1 k0
  have fail : ∀ w, Z = .inl w → w < 2 ^ 30 → wX9_no m (nI w) σ (fun r σ' => nr_ .boolean r ∧ post r σ') := fun w e1 e2 => m_no hw ⟨nr_0, k0 w _ e1 (MFr.sI (Or.inr rfl)) (by rw [afI_sI, u3_e]) e2⟩
  unfold wX9_isRead wX9_isRead_L5
  intro y hy
  rw [hy, li_16, nI_add]
  refine lpG1 (B := fun R x2 => wX9_isRead_B5 post R m (nI b) x2 σ) (fun j x2 => ∃ s, s + j = b + 20 ∧ x2 = nI s ∧ rdW n B St b j s = Z ∧ j ≤ 4 ∧ ∀ t, b + 16 ≤ t → t < s → wrS n St t) 4 ⟨b + 16, by omega, rfl, hZ, by omega, fun t a c => by omega⟩ ?_
  rintro j x2 R ⟨s, h1, rfl, h3, h4, h5⟩ hR
  unfold wX9_isRead_B5
  simp (disch := omega) only [atg_sI, afI_sI, afL_sI, afR_sI, aln_sI, aaI_sI, aaL_sI, aaR_sI, anx_sI, abc_sI, abs_sI, alo_sI, atg_wI, afI_wI, afL_wI, afR_wI, aln_wI, aaI_wI, aaL_wI, aaR_wI, anx_wI, abc_wI, abs_wI, alo_wI, atg_wL, afI_wL, afL_wL, afR_wL, aln_wL, aaI_wL, aaL_wL, aaR_wL, anx_wL, abc_wL, abs_wL, alo_wL, u2_e, u2_r, u2_i, u3_e, u3_k, u3_c, u3_r, mw_tag hw, mw_lo hw, mw_loa hw, mf_3 hw, mt_3 hw, ml_3 hw, mf_4 hw, mt_4 hw, ml_4 hw, mf_5 hw, mt_5 hw, ml_5 hw, mf_9 hw, mt_9 hw, ml_9 hw, mf_11 hw, mt_11 hw, ml_11 hw, mf_12 hw, mt_12 hw, ml_12 hw, mf_13 hw, mt_13 hw, ml_13 hw, mf_14 hw, mt_14 hw, ml_14 hw, mf_15 hw, mt_15 hw, ml_15 hw, mf_16 hw, mt_16 hw, ml_16 hw, mf_17 hw, mt_17 hw, ml_17 hw, mf_18 hw, mt_18 hw, ml_18 hw, mf_19 hw, mt_19 hw, ml_19 hw, mf_21 hw, mt_21 hw, ml_21 hw, mf_24 hw, mt_24 hw, ml_24 hw, mf_25 hw, mt_25 hw, ml_25 hw, mf_26 hw, mt_26 hw, ml_26 hw, mf_29 hw, mt_29 hw, ml_29 hw, mf_30 hw, mt_30 hw, ml_30 hw, mf_31 hw, mt_31 hw, ml_31 hw, mf_32 hw, mt_32 hw, ml_32 hw, mf_33 hw, mt_33 hw, ml_33 hw, mf_34 hw, mt_34 hw, ml_34 hw, mf_36 hw, mt_36 hw, ml_36 hw, mf_37 hw, mt_37 hw, ml_37 hw, mf_38 hw, mt_38 hw, ml_38 hw, mf_39 hw, mt_39 hw, ml_39 hw, mf_40 hw, mt_40 hw, ml_40 hw, li_0, li_1, li_2, li_3, li_4, li_5, li_6, li_7, li_8, li_9, li_10, li_12, li_14, li_16, li_17, li_18, li_19, li_20, li_25, li_28, li_30, li_31, li_32, li_33, li_34, li_40, li_46, li_48, li_49, li_57, li_59, li_65, li_67, li_68, li_75, li_77, li_80, li_82, li_90, li_95, li_100, li_128, li_130, li_132, li_136, li_140, li_148, li_156, li_200, li_255, li_256, li_400, li_700, li_2047, li_2048, li_2049, li_2050, li_2054, li_2056, li_4096, li_6000, li_163840, li_409600, li_819200, nI_add, pk_mul, pk_sub, nI_leI, nI_ltI, nI_eq, nI_clamp, vin_t, forall_eq, true_and, and_true, forall_const, implies_true]
  refine ⟨fun q => ?_, fun q => ?_⟩
  · have hj : j = 0 := by omega
    subst hj
    have hb19 : b + 19 < n := (h5 (b + 19) (by omega) (by omega)).1
    have h3' : rdH n B St b = Z := h3
    have l128 := lowN_lt hB 2 (2048 * (b + 16) + 128)
    have g130 := highN_lt hB (2048 * (b + 16) + 130) 2
    have l132 := lowN_lt hB 4 (2048 * (b + 16) + 132)
    have g136 := highN_lt hB (2048 * (b + 16) + 136) 4
    have l140 := lowN_lt hB 4 (2048 * (b + 16) + 140)
    have g148 := highN_lt hB (2048 * (b + 16) + 148) 4
    unfold rdH ck at h3'
    unfold wX9_isRead_L130 wX9_isRead_L176
    refine m_begins h (by omega) (by decide) (fun a => ⟨fun _ => ?_, fun z => absurd z (by decide)⟩) (fun a => ⟨fun z => absurd rfl z, fun _ => fail _ (by rw [← h3', ic_f a]) (by omega)⟩)
    rw [ic_t a] at h3'
    refine m_begins h (by omega) (by decide) (fun a => ⟨fun _ => ?_, fun z => absurd z (by decide)⟩) (fun a => ⟨fun z => absurd rfl z, fun _ => fail _ (by rw [← h3', ic_f a]) (by omega)⟩)
    rw [ic_t a] at h3'
    simp (disch := omega) only [atg_sI, afI_sI, afL_sI, afR_sI, aln_sI, aaI_sI, aaL_sI, aaR_sI, anx_sI, abc_sI, abs_sI, alo_sI, atg_wI, afI_wI, afL_wI, afR_wI, aln_wI, aaI_wI, aaL_wI, aaR_wI, anx_wI, abc_wI, abs_wI, alo_wI, atg_wL, afI_wL, afL_wL, afR_wL, aln_wL, aaI_wL, aaL_wL, aaR_wL, anx_wL, abc_wL, abs_wL, alo_wL, u2_e, u2_r, u2_i, u3_e, u3_k, u3_c, u3_r, mw_tag hw, mw_lo hw, mw_loa hw, mf_3 hw, mt_3 hw, ml_3 hw, mf_4 hw, mt_4 hw, ml_4 hw, mf_5 hw, mt_5 hw, ml_5 hw, mf_9 hw, mt_9 hw, ml_9 hw, mf_11 hw, mt_11 hw, ml_11 hw, mf_12 hw, mt_12 hw, ml_12 hw, mf_13 hw, mt_13 hw, ml_13 hw, mf_14 hw, mt_14 hw, ml_14 hw, mf_15 hw, mt_15 hw, ml_15 hw, mf_16 hw, mt_16 hw, ml_16 hw, mf_17 hw, mt_17 hw, ml_17 hw, mf_18 hw, mt_18 hw, ml_18 hw, mf_19 hw, mt_19 hw, ml_19 hw, mf_21 hw, mt_21 hw, ml_21 hw, mf_24 hw, mt_24 hw, ml_24 hw, mf_25 hw, mt_25 hw, ml_25 hw, mf_26 hw, mt_26 hw, ml_26 hw, mf_29 hw, mt_29 hw, ml_29 hw, mf_30 hw, mt_30 hw, ml_30 hw, mf_31 hw, mt_31 hw, ml_31 hw, mf_32 hw, mt_32 hw, ml_32 hw, mf_33 hw, mt_33 hw, ml_33 hw, mf_34 hw, mt_34 hw, ml_34 hw, mf_36 hw, mt_36 hw, ml_36 hw, mf_37 hw, mt_37 hw, ml_37 hw, mf_38 hw, mt_38 hw, ml_38 hw, mf_39 hw, mt_39 hw, ml_39 hw, mf_40 hw, mt_40 hw, ml_40 hw, li_0, li_1, li_2, li_3, li_4, li_5, li_6, li_7, li_8, li_9, li_10, li_12, li_14, li_16, li_17, li_18, li_19, li_20, li_25, li_28, li_30, li_31, li_32, li_33, li_34, li_40, li_46, li_48, li_49, li_57, li_59, li_65, li_67, li_68, li_75, li_77, li_80, li_82, li_90, li_95, li_100, li_128, li_130, li_132, li_136, li_140, li_148, li_156, li_200, li_255, li_256, li_400, li_700, li_2047, li_2048, li_2049, li_2050, li_2054, li_2056, li_4096, li_6000, li_163840, li_409600, li_819200, nI_add, pk_mul, pk_sub, nI_leI, nI_ltI, nI_eq, nI_clamp, vin_t, forall_eq, true_and, and_true, forall_const, implies_true]
    refine m_lowAt h (by omega) (by omega) ?_
    rw [nI_eq (by omega) (by omega)]
    refine ⟨fun a => fail _ (by rw [← h3', ic_f (fun z => a z.1)]) (by omega), fun a => m_highAt h (by omega) (by omega) ?_⟩
    rw [nI_eq (by omega) (by omega)]
    refine ⟨fun a2 => ?_, fun a2 => fail _ (by rw [← h3', ic_f (fun z => a2 z.2)]) (by omega)⟩
    rw [ic_t ⟨a, a2⟩] at h3'
    refine m_lowAt h (by omega) (by omega) (m_highAt h (by omega) (by omega) ?_)
    rw [nI_eq32 l132 g136]
    refine ⟨fun a => fail _ (by rw [← h3', ic_f (fun z => a z.1)]) (by omega), fun a => ⟨fun a2 => fail _ (by rw [← h3', ic_f (fun z => nI_lt0 (by omega) a2)]) (by omega), fun a2 => ⟨fun a3 => ?_, fun a3 => fail _ (by rw [← h3', ic_f (fun z => a3 ((nI_leI (by omega) (by omega)).mpr z.2))]) (by omega)⟩⟩⟩
    · rw [nI_neg l132] at a2
      rw [nI_leI (by omega) (by omega)] at a3
      rw [ic_t ⟨a, a3⟩] at h3'
      refine m_lowAt h (by omega) (by omega) ?_
      rw [nI_eq32 l140 (by omega)]
      refine ⟨fun a4 => m_highAt h (by omega) (by omega) ?_, fun a4 => fail _ (by rw [← h3', ic_f a4]) (by omega)⟩
      rw [ic_t a4] at h3'
      rw [nI_eq32 g148 (by omega)]
      refine ⟨fun a5 => ?_, fun a5 => fail _ (by rw [← h3', ic_f a5]) (by omega)⟩
      rw [ic_t a5] at h3'
      refine m_isRecord h (by decide) (by omega) (fun a6 => ⟨fun _ => ⟨mw_tag hw, ?_⟩, fun z => absurd z (by decide)⟩) (fun a6 => ⟨fun z => absurd rfl z, fun _ => k0 _ _ (by rw [← h3', ic_f a6]) (MFr.sI (Or.inr rfl)) (by rw [afI_sI, u3_e]) (by omega)⟩)
      rw [ic_t a6] at h3'
      have hrng := a6.1.1
      have hrng2 := a6.1.2.1
      refine m_begin (K := 0) (dp := 0) (e := 0) (x4 := 1) (a := 4294967295) (k := 0) h (by omega) (by omega) (by omega) (by omega) rfl (by omega) (by omega) (Or.inr rfl) ⟨fun _ => rfl, fun z => by omega⟩ (fun _ => rfl) (fun z => by omega) (fun z => by omega) (fun τ b1 b2 => ⟨mw_tag (b1.mw hw), ?_⟩)
      have fr1 : MFr m σ τ PS QS := b1.mono (fun j i z => ⟨z.1, z.2.1⟩) (fun k z => absurd z (fun y => y))
      have fr2 : MFr m σ (sI_ τ 8 27 m 1) PS QS := fr1.trans (MFr.sI (Or.inl rfl))
      exact m_isRead275 (fr2.ps h) hb19 rfl (by omega) a6 (SF0 h b2) (fun F σ' c1 c2 c3 c4 => k1 F σ' (by rw [← h3', c1]) (fr2.trans c2) c3 c4) (fun w σ' c1 c2 c3 c4 => k0 w σ' (by rw [← h3', c1]) (fr2.trans c2) c3 c4)
  · obtain ⟨j, rfl⟩ : ∃ k, j = k + 1 := ⟨j - 1, by omega⟩
    unfold rdW ck at h3
    refine m_isW h (by omega) (fun a c => ⟨fun _ => ?_, fun z => absurd z (by decide)⟩) (fun a => ⟨fun z => absurd rfl z, fun _ => fail _ (by rw [← h3, ic_f (show ¬ wrS n St s from a)]) (by omega)⟩)
    rw [ic_t (show wrS n St s from ⟨a, c⟩)] at h3
    refine hR j _ (by omega) ⟨s + 1, by omega, rfl, h3, by omega, fun t t1 t2 => ?_⟩
    by_cases e : t < s
    · exact h5 t t1 e
    · rw [show t = s by omega]; exact ⟨a, c⟩
theorem m_look (h : MedM σ m n sd B St) {b : Nat} (hb : b < 200) {post : Int32 → Hp → Prop}
    (k1 : ∀ F σ', rd n B St b = .inr F → MFr m σ σ' PS QS → SF σ' m F → FOK n F → post (nI F.length) σ') (k0 : ∀ w σ', rd n B St b = .inl w → MFr m σ σ' PS QS → w < 2 ^ 30 → post (-1 - nI w) σ') : wX9_look m (nI b) σ post := by
  have hw := h.1
  unfold wX9_look
  refine ⟨mw_tag hw, fun σ2 e2 => ?_⟩
  have fr : MFr m σ σ2 PS QS := by rw [e2]; exact MFr.sI (Or.inl rfl)
  refine m_isRead (fr.ps h) hb (fun F σ' a1 a2 a3 a4 => ⟨fun z => absurd z (by decide), fun _ => ⟨mw_tag (a2.mw (fr.mw hw)), ?_⟩⟩) (fun w σ' a1 a2 a3 a4 => ⟨fun _ => ⟨mw_tag (a2.mw (fr.mw hw)), ?_⟩, fun z => absurd rfl z⟩)
  · rw [a3.1]; exact k1 F σ' a1 (fr.trans a2) a3 a4
  · rw [a3]; exact k0 w σ' a1 (fr.trans a2) a4
end
