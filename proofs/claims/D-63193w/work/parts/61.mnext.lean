/-! the reference: the next node of a directory; the table of directories -/
def cdO (b : Option Nat) : Int32 := match b with
  | some k => nI k
  | none => -1
theorem i32_pos (r : Int32) : 0 < r ↔ ¬ r < 0 ∧ ¬ r = 0 := by
  rw [Int32.lt_iff_toInt_lt, Int32.lt_iff_toInt_lt, ← Int32.toInt_inj]
  have : (0 : Int32).toInt = 0 := by decide
  omega
section
variable {σ : Hp} {m n : Nat} {t : TT}
def cand (t : TT) (d : Nat) (bh : Option Nat) (x : Nat) : Prop := x ∈ srt t d ∧ ∀ b, bh = some b → RL t b x
theorem sib_ne (ok : TOK n t) {d x y : Nat} (hx : x ∈ srt t d) (hy : y ∈ srt t d) (h : x ≠ y) : tI t x ≠ tI t y := by
  obtain ⟨⟨a1, a2⟩, a3, a4⟩ := ((srt_ok ok d).2.1 x).mp hx
  obtain ⟨⟨b1, b2⟩, b3, b4⟩ := ((srt_ok ok d).2.1 y).mp hy
  exact ok.2.2.2.2 x y a3 a1 a2 b3 b1 b2 h (by rw [a4, b4])
theorem m_next (hw : MW σ m) (hT : MT0 σ m t) (ok : TOK n t) {d : Nat} (hd : d < tN t) {bh : Option Nat} (hbh : ∀ b, bh = some b → b < tN t ∧ tT t b = true) {post : Int32 → Prop}
    (k1 : ∀ k, cand t d bh k → (∀ x, cand t d bh x → x = k ∨ RL t k x) → post (nI k)) (k0 : (∀ x, ¬ cand t d bh x) → post (-1)) : wX9_next m (nI d) (cdO bh) σ post := by
  have hN := ok.1.2.1
  have h1' := ok.1.1
  unfold wX9_next wX9_next_L5
  refine lpG2 (B := fun R x3 x4 => wX9_next_B5 post R m (nI d) (cdO bh) x3 x4 σ) (fun j x3 x4 => ∃ q b, q + j = tN t ∧ 1 ≤ q ∧ x4 = nI q ∧ x3 = cdO b ∧ (∀ k, b = some k → cand t d bh k ∧ k < q) ∧ ∀ x, cand t d bh x → x < q → ∃ k, b = some k ∧ (x = k ∨ RL t k x)) (tN t - 1) ⟨1, none, by omega, by omega, rfl, rfl, fun k e => (by cases e), fun x hx hq => ?_⟩ ?_
  · have := (((srt_ok ok d).2.1 x).mp hx.1).2.1
    omega
  rintro j x3 x4 R ⟨q, b, h1, h2, rfl, rfl, h5, h6⟩ hR
  unfold wX9_next_B5
  by_cases hq : q < tN t
  · have keep : ¬ cand t d bh q → R (cdO b) (nI (q + 1)) := by
      intro z
      refine hR (j - 1) _ _ (by omega) ⟨q + 1, b, by omega, by omega, rfl, rfl, fun k e => ⟨(h5 k e).1, by have := (h5 k e).2; omega⟩, fun x hx hxq => h6 x hx ?_⟩
      by_cases e : x = q
      · rw [e] at hx; exact absurd hx z
      · omega
    have take : cand t d bh q → (∀ k, b = some k → lx (tI t q) (tI t k) = true) → R (nI q) (nI (q + 1)) := by
      intro z y
      refine hR (j - 1) _ _ (by omega) ⟨q + 1, some q, by omega, by omega, rfl, rfl, fun k e => by cases e; exact ⟨z, by omega⟩, fun x hx hxq => ⟨q, rfl, ?_⟩⟩
      by_cases e : x = q
      · exact Or.inl e
      · obtain ⟨k, e1, e2⟩ := h6 x hx (by omega)
        have := y k e1
        rcases e2 with e2 | e2
        · rw [e2]; exact Or.inr this
        · exact Or.inr (lx_tr this e2)
    have c0 := hT.2.1 q hq
    cases ht : tT t q with
    | false =>
      rw [ht] at c0
      have c0' : aI_ σ (m + 5) q = nI 0 := c0
      unfold wX9_next_L113
      simp (disch := omega) only [atg_sI, afI_sI, afL_sI, afR_sI, aln_sI, aaI_sI, aaL_sI, aaR_sI, anx_sI, abc_sI, abs_sI, alo_sI, atg_wI, afI_wI, afL_wI, afR_wI, aln_wI, aaI_wI, aaL_wI, aaR_wI, anx_wI, abc_wI, abs_wI, alo_wI, atg_wL, afI_wL, afL_wL, afR_wL, aln_wL, aaI_wL, aaL_wL, aaR_wL, anx_wL, abc_wL, abs_wL, alo_wL, u2_e, u2_r, u2_i, u3_e, u3_k, u3_c, u3_r, mw_tag hw, mw_lo hw, mw_loa hw, mf_3 hw, mt_3 hw, ml_3 hw, mf_4 hw, mt_4 hw, ml_4 hw, mf_5 hw, mt_5 hw, ml_5 hw, mf_9 hw, mt_9 hw, ml_9 hw, mf_11 hw, mt_11 hw, ml_11 hw, mf_12 hw, mt_12 hw, ml_12 hw, mf_13 hw, mt_13 hw, ml_13 hw, mf_14 hw, mt_14 hw, ml_14 hw, mf_15 hw, mt_15 hw, ml_15 hw, mf_16 hw, mt_16 hw, ml_16 hw, mf_17 hw, mt_17 hw, ml_17 hw, mf_18 hw, mt_18 hw, ml_18 hw, mf_19 hw, mt_19 hw, ml_19 hw, mf_21 hw, mt_21 hw, ml_21 hw, mf_24 hw, mt_24 hw, ml_24 hw, mf_25 hw, mt_25 hw, ml_25 hw, mf_26 hw, mt_26 hw, ml_26 hw, mf_29 hw, mt_29 hw, ml_29 hw, mf_30 hw, mt_30 hw, ml_30 hw, mf_31 hw, mt_31 hw, ml_31 hw, mf_32 hw, mt_32 hw, ml_32 hw, mf_33 hw, mt_33 hw, ml_33 hw, mf_34 hw, mt_34 hw, ml_34 hw, mf_36 hw, mt_36 hw, ml_36 hw, mf_37 hw, mt_37 hw, ml_37 hw, mf_38 hw, mt_38 hw, ml_38 hw, mf_39 hw, mt_39 hw, ml_39 hw, mf_40 hw, mt_40 hw, ml_40 hw, li_0, li_1, li_2, li_3, li_4, li_5, li_6, li_7, li_8, li_9, li_10, li_12, li_14, li_16, li_17, li_18, li_19, li_20, li_25, li_28, li_30, li_31, li_32, li_33, li_34, li_40, li_46, li_48, li_49, li_57, li_59, li_65, li_67, li_68, li_75, li_77, li_80, li_82, li_90, li_95, li_100, li_128, li_130, li_132, li_136, li_140, li_148, li_156, li_200, li_255, li_256, li_400, li_700, li_2047, li_2048, li_2049, li_2050, li_2054, li_2056, li_4096, li_6000, li_163840, li_409600, li_819200, nI_add, pk_mul, pk_sub, nI_leI, nI_ltI, nI_eq, nI_clamp, vin_t, forall_eq, true_and, and_true, forall_const, implies_true, hT.1, c0']
      refine ⟨fun z => by omega, fun _ => ⟨keep (fun z => ?_), fun z => absurd trivial z⟩⟩
      have := (((srt_ok ok d).2.1 q).mp z.1).1.2
      rw [ht] at this; cases this
    | true =>
      rw [ht] at c0
      have c0' : aI_ σ (m + 5) q = nI 1 := c0
      obtain ⟨c1, c2, c3, -⟩ := hT.2.2 q hq ht
      have hp := (dep_s ok (by omega) hq ht).1
      obtain ⟨n1, n2⟩ := nm_b ok hq ht
      have hdq := root_D ok hq ht
      have L74 : cand t d bh q → wX9_next_L74 post R m (nI d) (cdO bh) (cdO b) (nI q) σ := by
        intro z
        unfold wX9_next_L74 wX9_next_L110 wX9_next_L113
        cases b with
        | none => exact ⟨fun _ y hy => by rw [hy, li_1, nI_add]; exact take z (fun k e => by cases e), fun y => absurd (by decide) y⟩
        | some k =>
          obtain ⟨e1, e2⟩ := h5 k rfl
          have ek := ((srt_ok ok d).2.1 k).mp e1.1
          obtain ⟨k1', k2', k3', -⟩ := hT.2.2 k ek.1.1 ek.1.2
          obtain ⟨m1, m2⟩ := nm_b ok ek.1.1 ek.1.2
          have hdk := root_D ok ek.1.1 ek.1.2
          rw [show cdO (some k) = nI k from rfl]
          simp (disch := omega) only [atg_sI, afI_sI, afL_sI, afR_sI, aln_sI, aaI_sI, aaL_sI, aaR_sI, anx_sI, abc_sI, abs_sI, alo_sI, atg_wI, afI_wI, afL_wI, afR_wI, aln_wI, aaI_wI, aaL_wI, aaR_wI, anx_wI, abc_wI, abs_wI, alo_wI, atg_wL, afI_wL, afL_wL, afR_wL, aln_wL, aaI_wL, aaL_wL, aaR_wL, anx_wL, abc_wL, abs_wL, alo_wL, u2_e, u2_r, u2_i, u3_e, u3_k, u3_c, u3_r, mw_tag hw, mw_lo hw, mw_loa hw, mf_3 hw, mt_3 hw, ml_3 hw, mf_4 hw, mt_4 hw, ml_4 hw, mf_5 hw, mt_5 hw, ml_5 hw, mf_9 hw, mt_9 hw, ml_9 hw, mf_11 hw, mt_11 hw, ml_11 hw, mf_12 hw, mt_12 hw, ml_12 hw, mf_13 hw, mt_13 hw, ml_13 hw, mf_14 hw, mt_14 hw, ml_14 hw, mf_15 hw, mt_15 hw, ml_15 hw, mf_16 hw, mt_16 hw, ml_16 hw, mf_17 hw, mt_17 hw, ml_17 hw, mf_18 hw, mt_18 hw, ml_18 hw, mf_19 hw, mt_19 hw, ml_19 hw, mf_21 hw, mt_21 hw, ml_21 hw, mf_24 hw, mt_24 hw, ml_24 hw, mf_25 hw, mt_25 hw, ml_25 hw, mf_26 hw, mt_26 hw, ml_26 hw, mf_29 hw, mt_29 hw, ml_29 hw, mf_30 hw, mt_30 hw, ml_30 hw, mf_31 hw, mt_31 hw, ml_31 hw, mf_32 hw, mt_32 hw, ml_32 hw, mf_33 hw, mt_33 hw, ml_33 hw, mf_34 hw, mt_34 hw, ml_34 hw, mf_36 hw, mt_36 hw, ml_36 hw, mf_37 hw, mt_37 hw, ml_37 hw, mf_38 hw, mt_38 hw, ml_38 hw, mf_39 hw, mt_39 hw, ml_39 hw, mf_40 hw, mt_40 hw, ml_40 hw, li_0, li_1, li_2, li_3, li_4, li_5, li_6, li_7, li_8, li_9, li_10, li_12, li_14, li_16, li_17, li_18, li_19, li_20, li_25, li_28, li_30, li_31, li_32, li_33, li_34, li_40, li_46, li_48, li_49, li_57, li_59, li_65, li_67, li_68, li_75, li_77, li_80, li_82, li_90, li_95, li_100, li_128, li_130, li_132, li_136, li_140, li_148, li_156, li_200, li_255, li_256, li_400, li_700, li_2047, li_2048, li_2049, li_2050, li_2054, li_2056, li_4096, li_6000, li_163840, li_409600, li_819200, nI_add, pk_mul, pk_sub, nI_leI, nI_ltI, nI_eq, nI_clamp, vin_t, forall_eq, true_and, and_true, forall_const, implies_true, c1, c3, k1', k3']
          refine ⟨fun y => by omega, fun _ => m_compare n1 n2 m1 m2 (by omega) (by omega) (fun r r1 r2 => ⟨fun y => ?_, fun y => ?_⟩)⟩
          · refine hR (j - 1) _ _ (by omega) ⟨q + 1, some k, by omega, by omega, rfl, rfl, fun k' e => by cases e; exact ⟨e1, by omega⟩, fun x hx hxq => ?_⟩
            by_cases e : x = q
            · refine ⟨k, rfl, Or.inr ?_⟩
              rw [e]
              have hnl : ¬ lx (idb (tM t q) (tD t q)) (idb (tM t k) (tD t k)) = true := fun a => Int32.not_lt.mpr y (r1.mpr a)
              rcases lx_tot (tI t q) (tI t k) with a | a | a
              · exact absurd a hnl
              · exact absurd a (sib_ne ok z.1 e1.1 (by omega))
              · exact a
            · exact h6 x hx (by omega)
          · exact take z (fun k' e => by cases e; exact r1.mp (Int32.not_le.mp y))
      have mem : tP t q = d → q ∈ srt t d := fun e => ((srt_ok ok d).2.1 q).mpr ⟨⟨hq, ht⟩, by omega, e⟩
      unfold wX9_next_L113
      simp (disch := omega) only [atg_sI, afI_sI, afL_sI, afR_sI, aln_sI, aaI_sI, aaL_sI, aaR_sI, anx_sI, abc_sI, abs_sI, alo_sI, atg_wI, afI_wI, afL_wI, afR_wI, aln_wI, aaI_wI, aaL_wI, aaR_wI, anx_wI, abc_wI, abs_wI, alo_wI, atg_wL, afI_wL, afL_wL, afR_wL, aln_wL, aaI_wL, aaL_wL, aaR_wL, anx_wL, abc_wL, abs_wL, alo_wL, u2_e, u2_r, u2_i, u3_e, u3_k, u3_c, u3_r, mw_tag hw, mw_lo hw, mw_loa hw, mf_3 hw, mt_3 hw, ml_3 hw, mf_4 hw, mt_4 hw, ml_4 hw, mf_5 hw, mt_5 hw, ml_5 hw, mf_9 hw, mt_9 hw, ml_9 hw, mf_11 hw, mt_11 hw, ml_11 hw, mf_12 hw, mt_12 hw, ml_12 hw, mf_13 hw, mt_13 hw, ml_13 hw, mf_14 hw, mt_14 hw, ml_14 hw, mf_15 hw, mt_15 hw, ml_15 hw, mf_16 hw, mt_16 hw, ml_16 hw, mf_17 hw, mt_17 hw, ml_17 hw, mf_18 hw, mt_18 hw, ml_18 hw, mf_19 hw, mt_19 hw, ml_19 hw, mf_21 hw, mt_21 hw, ml_21 hw, mf_24 hw, mt_24 hw, ml_24 hw, mf_25 hw, mt_25 hw, ml_25 hw, mf_26 hw, mt_26 hw, ml_26 hw, mf_29 hw, mt_29 hw, ml_29 hw, mf_30 hw, mt_30 hw, ml_30 hw, mf_31 hw, mt_31 hw, ml_31 hw, mf_32 hw, mt_32 hw, ml_32 hw, mf_33 hw, mt_33 hw, ml_33 hw, mf_34 hw, mt_34 hw, ml_34 hw, mf_36 hw, mt_36 hw, ml_36 hw, mf_37 hw, mt_37 hw, ml_37 hw, mf_38 hw, mt_38 hw, ml_38 hw, mf_39 hw, mt_39 hw, ml_39 hw, mf_40 hw, mt_40 hw, ml_40 hw, li_0, li_1, li_2, li_3, li_4, li_5, li_6, li_7, li_8, li_9, li_10, li_12, li_14, li_16, li_17, li_18, li_19, li_20, li_25, li_28, li_30, li_31, li_32, li_33, li_34, li_40, li_46, li_48, li_49, li_57, li_59, li_65, li_67, li_68, li_75, li_77, li_80, li_82, li_90, li_95, li_100, li_128, li_130, li_132, li_136, li_140, li_148, li_156, li_200, li_255, li_256, li_400, li_700, li_2047, li_2048, li_2049, li_2050, li_2054, li_2056, li_4096, li_6000, li_163840, li_409600, li_819200, nI_add, pk_mul, pk_sub, nI_leI, nI_ltI, nI_eq, nI_clamp, vin_t, forall_eq, true_and, and_true, forall_const, implies_true, hT.1, c0', c2]
      refine ⟨fun z => by omega, fun _ => ⟨fun z => by omega, fun _ => ⟨fun z => keep (fun y => z (((srt_ok ok d).2.1 q).mp y.1).2.2), fun z => ?_⟩⟩⟩
      cases bh with
      | none => exact ⟨fun _ => L74 ⟨mem z, fun b e => by cases e⟩, fun y => absurd (by decide) y⟩
      | some bb =>
        obtain ⟨e1, e2⟩ := hbh bb rfl
        obtain ⟨k1', k2', k3', -⟩ := hT.2.2 bb e1 e2
        obtain ⟨m1, m2⟩ := nm_b ok e1 e2
        have hdk := root_D ok e1 e2
        rw [show cdO (some bb) = nI bb from rfl] at L74 ⊢
        simp (disch := omega) only [atg_sI, afI_sI, afL_sI, afR_sI, aln_sI, aaI_sI, aaL_sI, aaR_sI, anx_sI, abc_sI, abs_sI, alo_sI, atg_wI, afI_wI, afL_wI, afR_wI, aln_wI, aaI_wI, aaL_wI, aaR_wI, anx_wI, abc_wI, abs_wI, alo_wI, atg_wL, afI_wL, afL_wL, afR_wL, aln_wL, aaI_wL, aaL_wL, aaR_wL, anx_wL, abc_wL, abs_wL, alo_wL, u2_e, u2_r, u2_i, u3_e, u3_k, u3_c, u3_r, mw_tag hw, mw_lo hw, mw_loa hw, mf_3 hw, mt_3 hw, ml_3 hw, mf_4 hw, mt_4 hw, ml_4 hw, mf_5 hw, mt_5 hw, ml_5 hw, mf_9 hw, mt_9 hw, ml_9 hw, mf_11 hw, mt_11 hw, ml_11 hw, mf_12 hw, mt_12 hw, ml_12 hw, mf_13 hw, mt_13 hw, ml_13 hw, mf_14 hw, mt_14 hw, ml_14 hw, mf_15 hw, mt_15 hw, ml_15 hw, mf_16 hw, mt_16 hw, ml_16 hw, mf_17 hw, mt_17 hw, ml_17 hw, mf_18 hw, mt_18 hw, ml_18 hw, mf_19 hw, mt_19 hw, ml_19 hw, mf_21 hw, mt_21 hw, ml_21 hw, mf_24 hw, mt_24 hw, ml_24 hw, mf_25 hw, mt_25 hw, ml_25 hw, mf_26 hw, mt_26 hw, ml_26 hw, mf_29 hw, mt_29 hw, ml_29 hw, mf_30 hw, mt_30 hw, ml_30 hw, mf_31 hw, mt_31 hw, ml_31 hw, mf_32 hw, mt_32 hw, ml_32 hw, mf_33 hw, mt_33 hw, ml_33 hw, mf_34 hw, mt_34 hw, ml_34 hw, mf_36 hw, mt_36 hw, ml_36 hw, mf_37 hw, mt_37 hw, ml_37 hw, mf_38 hw, mt_38 hw, ml_38 hw, mf_39 hw, mt_39 hw, ml_39 hw, mf_40 hw, mt_40 hw, ml_40 hw, li_0, li_1, li_2, li_3, li_4, li_5, li_6, li_7, li_8, li_9, li_10, li_12, li_14, li_16, li_17, li_18, li_19, li_20, li_25, li_28, li_30, li_31, li_32, li_33, li_34, li_40, li_46, li_48, li_49, li_57, li_59, li_65, li_67, li_68, li_75, li_77, li_80, li_82, li_90, li_95, li_100, li_128, li_130, li_132, li_136, li_140, li_148, li_156, li_200, li_255, li_256, li_400, li_700, li_2047, li_2048, li_2049, li_2050, li_2054, li_2056, li_4096, li_6000, li_163840, li_409600, li_819200, nI_add, pk_mul, pk_sub, nI_leI, nI_ltI, nI_eq, nI_clamp, vin_t, forall_eq, true_and, and_true, forall_const, implies_true, c1, c3, k1', k3']
        refine ⟨fun y => by omega, fun _ => m_compare n1 n2 m1 m2 (by omega) (by omega) (fun r r1 r2 => ⟨fun y => L74 ⟨mem z, fun b e => ?_⟩, fun y => keep (fun a => y ?_)⟩)⟩
        · cases e
          rw [show (nI 0 < r) ↔ (0 < r) from Iff.rfl, i32_pos] at y
          rcases lx_tot (tI t q) (tI t bb) with a | a | a
          · exact absurd (r1.mpr a) y.1
          · exact absurd (r2.mpr a) y.2
          · exact a
        · have ha := a.2 bb rfl
          rw [show (nI 0 < r) ↔ (0 < r) from Iff.rfl, i32_pos]
          refine ⟨fun c => ?_, fun c => ?_⟩
          · have h3 : lx (tI t q) (tI t bb) = true := r1.mp c
            rw [lx_asym ha] at h3; cases h3
          · have h3 : tI t q = tI t bb := r2.mp c
            unfold RL at ha
            rw [h3, lx_irr] at ha; cases ha
  · simp (disch := omega) only [atg_sI, afI_sI, afL_sI, afR_sI, aln_sI, aaI_sI, aaL_sI, aaR_sI, anx_sI, abc_sI, abs_sI, alo_sI, atg_wI, afI_wI, afL_wI, afR_wI, aln_wI, aaI_wI, aaL_wI, aaR_wI, anx_wI, abc_wI, abs_wI, alo_wI, atg_wL, afI_wL, afL_wL, afR_wL, aln_wL, aaI_wL, aaL_wL, aaR_wL, anx_wL, abc_wL, abs_wL, alo_wL, u2_e, u2_r, u2_i, u3_e, u3_k, u3_c, u3_r, mw_tag hw, mw_lo hw, mw_loa hw, mf_3 hw, mt_3 hw, ml_3 hw, mf_4 hw, mt_4 hw, ml_4 hw, mf_5 hw, mt_5 hw, ml_5 hw, mf_9 hw, mt_9 hw, ml_9 hw, mf_11 hw, mt_11 hw, ml_11 hw, mf_12 hw, mt_12 hw, ml_12 hw, mf_13 hw, mt_13 hw, ml_13 hw, mf_14 hw, mt_14 hw, ml_14 hw, mf_15 hw, mt_15 hw, ml_15 hw, mf_16 hw, mt_16 hw, ml_16 hw, mf_17 hw, mt_17 hw, ml_17 hw, mf_18 hw, mt_18 hw, ml_18 hw, mf_19 hw, mt_19 hw, ml_19 hw, mf_21 hw, mt_21 hw, ml_21 hw, mf_24 hw, mt_24 hw, ml_24 hw, mf_25 hw, mt_25 hw, ml_25 hw, mf_26 hw, mt_26 hw, ml_26 hw, mf_29 hw, mt_29 hw, ml_29 hw, mf_30 hw, mt_30 hw, ml_30 hw, mf_31 hw, mt_31 hw, ml_31 hw, mf_32 hw, mt_32 hw, ml_32 hw, mf_33 hw, mt_33 hw, ml_33 hw, mf_34 hw, mt_34 hw, ml_34 hw, mf_36 hw, mt_36 hw, ml_36 hw, mf_37 hw, mt_37 hw, ml_37 hw, mf_38 hw, mt_38 hw, ml_38 hw, mf_39 hw, mt_39 hw, ml_39 hw, mf_40 hw, mt_40 hw, ml_40 hw, li_0, li_1, li_2, li_3, li_4, li_5, li_6, li_7, li_8, li_9, li_10, li_12, li_14, li_16, li_17, li_18, li_19, li_20, li_25, li_28, li_30, li_31, li_32, li_33, li_34, li_40, li_46, li_48, li_49, li_57, li_59, li_65, li_67, li_68, li_75, li_77, li_80, li_82, li_90, li_95, li_100, li_128, li_130, li_132, li_136, li_140, li_148, li_156, li_200, li_255, li_256, li_400, li_700, li_2047, li_2048, li_2049, li_2050, li_2054, li_2056, li_4096, li_6000, li_163840, li_409600, li_819200, nI_add, pk_mul, pk_sub, nI_leI, nI_ltI, nI_eq, nI_clamp, vin_t, forall_eq, true_and, and_true, forall_const, implies_true, hT.1]
    refine ⟨fun _ => ?_, fun z => by omega⟩
    cases b with
    | none => exact k0 (fun x hx => by obtain ⟨k, e, -⟩ := h6 x hx (by have := (((srt_ok ok d).2.1 x).mp hx.1).1.1; omega); cases e)
    | some k => exact k1 k (h5 k rfl).1 (fun x hx => by obtain ⟨k', e, e2⟩ := h6 x hx (by have := (((srt_ok ok d).2.1 x).mp hx.1).1.1; omega); cases e; exact e2)
theorem nth_RL {s : List Nat} (h : s.Pairwise (RL t)) {i j : Nat} (hi : i < s.length) (hj : j < s.length) (hij : i < j) : RL t s[i] s[j] := List.pairwise_iff_getElem.mp h i j hi hj hij
/-- behind the i-th comes the i-th of the rest -/
def bhO (s : List Nat) (i : Nat) : Option Nat := if i = 0 then none else s[i - 1]?
theorem m_nextI (hw : MW σ m) (hT : MT0 σ m t) (ok : TOK n t) {d i : Nat} (hd : d < tN t) (hi : i ≤ (srt t d).length) {post : Int32 → Prop} (k : post (cdO (srt t d)[i]?)) : wX9_next m (nI d) (cdO (bhO (srt t d) i)) σ post := by
  have hs := (srt_ok ok d).1
  have hmem : ∀ b, bhO (srt t d) i = some b → b ∈ srt t d ∧ ∃ h : i - 1 < (srt t d).length, 0 < i ∧ (srt t d)[i - 1] = b := by
    intro b e
    unfold bhO at e
    split at e
    · cases e
    · have h1 := List.mem_of_getElem? e
      obtain ⟨h2, h3⟩ := List.getElem?_eq_some_iff.mp e
      exact ⟨h1, h2, by omega, h3⟩
  have after : ∀ j, ∀ hj : j < (srt t d).length, (∀ b, bhO (srt t d) i = some b → RL t b (srt t d)[j]) → i ≤ j := by
    intro j hj z
    by_cases e : i ≤ j
    · exact e
    · exfalso
      have h1 : bhO (srt t d) i = some (srt t d)[i - 1] := by unfold bhO; rw [if_neg (by omega), List.getElem?_eq_getElem (by omega)]
      have h2 := z _ h1
      by_cases e2 : j = i - 1
      · subst e2
        unfold RL at h2; rw [lx_irr] at h2; cases h2
      · have h3 := nth_RL hs hj (by omega : i - 1 < _) (by omega)
        unfold RL at h2 h3
        rw [lx_asym h3] at h2; cases h2
  refine m_next hw hT ok hd (fun b e => ?_) (fun x hx hx2 => ?_) (fun hx => ?_)
  · exact (((srt_ok ok d).2.1 b).mp (hmem b e).1).1
  · obtain ⟨j, hj, e⟩ := List.getElem_of_mem hx.1
    have hij := after j hj (by rw [e]; exact hx.2)
    have hji : j = i := by
      by_cases z : j = i
      · exact z
      · exfalso
        have hc : cand t d (bhO (srt t d) i) (srt t d)[i] := by
          refine ⟨List.getElem_mem _, fun b e => ?_⟩
          obtain ⟨-, h2, h3, h4⟩ := hmem b e
          rw [← h4]
          exact nth_RL hs h2 (by omega) (by omega)
        have h5 := nth_RL hs (by omega : i < _) hj (by omega)
        rcases hx2 _ hc with a | a
        · rw [e, ← a] at h5; unfold RL at h5; rw [lx_irr] at h5; cases h5
        · rw [e] at h5; unfold RL at h5 a; rw [lx_asym h5] at a; cases a
    subst hji
    rw [List.getElem?_eq_getElem hj, e] at k
    exact k
  · rw [List.getElem?_eq_none] at k
    · exact k
    · by_cases z : (srt t d).length ≤ i
      · exact z
      · exfalso
        refine hx (srt t d)[i] ⟨List.getElem_mem _, fun b e => ?_⟩
        obtain ⟨-, h2, h3, h4⟩ := hmem b e
        rw [← h4]
        exact nth_RL hs h2 (by omega) (by omega)
end
