/-! the reference: designing a session, the walk -/
section
variable {σ : Hp} {m n : Nat} {t : TT} {base : Nat}
theorem m_des373 (hw : MW σ m) (hT : MT0 σ m t) (ok : TOK n t) (hb : base ≤ 200) {g : Nat → Nat} (h : PL σ m g) (hA : AT σ m (dirT t) base) {i p il : Nat} (hi : i < (dirT t).length) (hp : p < 10000) (hil : il < 100) (hz : ∀ q, 8192 + 2048 * i ≤ q → q < 8192 + 2048 * i + 2048 → g q = 0) {post : Hp → Prop} {rc : Int32 → Int32 → Hp → Prop} {x2 x3 : Int32}
    (k : ∀ σ', MFr m σ σ' P14 N0 → PL σ' m (ov g (8192 + 2048 * i) (dirL t (dirT t) base ((dirT t).getD i 0))) → rc (nI (p + (8 + ev il))) (nI (i + 1)) σ') : wX9_design_L373 post rc m (nI base) x2 x3 (nI p) (nI i) (nI ((dirT t).getD i 0)) (nI il) σ := by
  have hN := ok.1.2.1
  have hl := dirT_len ok
  have hm : (dirT t).getD i 0 ∈ dirT t := getD_mem hi
  obtain ⟨⟨a1, a2⟩, a3⟩ := dirT_mem ok hm
  have ha := (hA _ hm).1
  rw [dirT_plc ok hi] at ha
  unfold wX9_design_L373
  refine m_even (by omega) ?_
  simp (disch := omega) only [atg_sI, afI_sI, afL_sI, afR_sI, aln_sI, aaI_sI, aaL_sI, aaR_sI, anx_sI, abc_sI, abs_sI, alo_sI, atg_wI, afI_wI, afL_wI, afR_wI, aln_wI, aaI_wI, aaL_wI, aaR_wI, anx_wI, abc_wI, abs_wI, alo_wI, atg_wL, afI_wL, afL_wL, afR_wL, aln_wL, aaI_wL, aaL_wL, aaR_wL, anx_wL, abc_wL, abs_wL, alo_wL, u2_e, u2_r, u2_i, u3_e, u3_k, u3_c, u3_r, mw_tag hw, mw_lo hw, mw_loa hw, mf_3 hw, mt_3 hw, ml_3 hw, mf_4 hw, mt_4 hw, ml_4 hw, mf_5 hw, mt_5 hw, ml_5 hw, mf_9 hw, mt_9 hw, ml_9 hw, mf_11 hw, mt_11 hw, ml_11 hw, mf_12 hw, mt_12 hw, ml_12 hw, mf_13 hw, mt_13 hw, ml_13 hw, mf_14 hw, mt_14 hw, ml_14 hw, mf_15 hw, mt_15 hw, ml_15 hw, mf_16 hw, mt_16 hw, ml_16 hw, mf_17 hw, mt_17 hw, ml_17 hw, mf_18 hw, mt_18 hw, ml_18 hw, mf_19 hw, mt_19 hw, ml_19 hw, mf_21 hw, mt_21 hw, ml_21 hw, mf_24 hw, mt_24 hw, ml_24 hw, mf_25 hw, mt_25 hw, ml_25 hw, mf_26 hw, mt_26 hw, ml_26 hw, mf_29 hw, mt_29 hw, ml_29 hw, mf_30 hw, mt_30 hw, ml_30 hw, mf_31 hw, mt_31 hw, ml_31 hw, mf_32 hw, mt_32 hw, ml_32 hw, mf_33 hw, mt_33 hw, ml_33 hw, mf_34 hw, mt_34 hw, ml_34 hw, mf_36 hw, mt_36 hw, ml_36 hw, mf_37 hw, mt_37 hw, ml_37 hw, mf_38 hw, mt_38 hw, ml_38 hw, mf_39 hw, mt_39 hw, ml_39 hw, mf_40 hw, mt_40 hw, ml_40 hw, li_0, li_1, li_2, li_3, li_4, li_5, li_6, li_7, li_8, li_9, li_10, li_12, li_14, li_16, li_17, li_18, li_19, li_20, li_25, li_28, li_30, li_31, li_32, li_33, li_34, li_40, li_46, li_48, li_49, li_57, li_59, li_65, li_67, li_68, li_75, li_77, li_80, li_82, li_90, li_95, li_100, li_128, li_130, li_132, li_136, li_140, li_148, li_156, li_200, li_255, li_256, li_400, li_700, li_2047, li_2048, li_2049, li_2050, li_2054, li_2056, li_4096, li_6000, li_163840, li_409600, li_819200, nI_add, pk_mul, pk_sub, nI_leI, nI_ltI, nI_eq, nI_clamp, vin_t, forall_eq, true_and, and_true, forall_const, implies_true, ha]
  refine m_along (f := g) (base := base) hw hT ok (by omega) hm (by omega) hb (fun _ => ⟨h, hA, fun q g1 g2 => hz q (by omega) (by omega)⟩) (fun σ' r b1 b2 b3 b4 b5 => ?_)
  have h4 := b4 rfl
  rw [show 2048 * (base + 20 + i - base - 16) = 8192 + 2048 * i by omega] at h4
  exact k σ' b1 h4
theorem m_des302 (hw : MW σ m) (hT : MT0 σ m t) (ok : TOK n t) {f : Nat → Nat} {A U : List Nat} {p d : Nat} (hA : A.length = 8) (hU : U.length = 8) (h : PL σ m (ov (ov f p A) (p + 2048) U)) (hp : p < 7000) (hd1 : d < tN t) (hd2 : tT t d = true) {post : Hp → Prop} {rc : Int32 → Int32 → Hp → Prop} {x1 x2 x3 x5 : Int32}
    (k : ∀ τ, MFr m σ τ P14 N0 → PL τ m (ov (ov f p (A ++ (if d = 0 then [] else tM t d))) (p + 2048) (U ++ (if d = 0 then [] else tM t d))) → wX9_design_L373 post rc m x1 x2 x3 (nI p) x5 (nI d) (nI (if d = 0 then [0] else tM t d).length) τ) : wX9_design_L302 post rc m x1 x2 x3 (nI p) x5 (nI d) (nI (if d = 0 then [0] else tM t d).length) 0 σ := by
  have hN := ok.1.2.1
  obtain ⟨n1, n2⟩ := nm_b ok hd1 hd2
  unfold wX9_design_L302
  by_cases hd0 : d = 0
  · simp only [if_pos hd0] at k ⊢
    rw [List.append_nil, List.append_nil] at k
    refine ⟨fun x τ => x = 0 ∧ τ = σ, fun _ _ => 0, ⟨rfl, rfl⟩, fun x τ hx => ?_⟩
    obtain ⟨rfl, rfl⟩ := hx
    unfold wX9_design_B302
    refine ⟨fun z => k τ MFr.refl h, fun _ => ⟨fun _ => k τ MFr.refl h, fun z => absurd (by rw [hd0]; decide) z⟩⟩
  · simp only [if_neg hd0] at k ⊢
    obtain ⟨l, hl⟩ : ∃ l, l = tM t d := ⟨_, rfl⟩
    rw [← hl] at k n1 n2 ⊢
    refine lpG2 (B := fun R x τ => wX9_design_B302 post rc R m x1 x2 x3 (nI p) x5 (nI d) (nI l.length) x τ) (fun j x τ => ∃ c, c + j = l.length ∧ x = nI c ∧ MFr m σ τ P14 N0 ∧ PL τ m (ov (ov f p (A ++ l.take c)) (p + 2048) (U ++ l.take c))) l.length ⟨0, by omega, rfl, MFr.refl, by simpa using h⟩ ?_
    rintro j x τ R ⟨c, h1, rfl, h3, h4⟩ hR
    have hw := h3.mw hw
    have hT' := hT.f14 h3
    obtain ⟨c1, c2, c3, -⟩ := hT'.2.2 d hd1 hd2
    rw [← hl] at c3
    unfold wX9_design_B302
    by_cases hc : c < l.length
    · have hg : l.getD c 0 = l[c] := by simp [List.getD_eq_getElem?_getD, hc]
      simp (disch := omega) only [atg_sI, afI_sI, afL_sI, afR_sI, aln_sI, aaI_sI, aaL_sI, aaR_sI, anx_sI, abc_sI, abs_sI, alo_sI, atg_wI, afI_wI, afL_wI, afR_wI, aln_wI, aaI_wI, aaL_wI, aaR_wI, anx_wI, abc_wI, abs_wI, alo_wI, atg_wL, afI_wL, afL_wL, afR_wL, aln_wL, aaI_wL, aaL_wL, aaR_wL, anx_wL, abc_wL, abs_wL, alo_wL, u2_e, u2_r, u2_i, u3_e, u3_k, u3_c, u3_r, mw_tag hw, mw_lo hw, mw_loa hw, mf_3 hw, mt_3 hw, ml_3 hw, mf_4 hw, mt_4 hw, ml_4 hw, mf_5 hw, mt_5 hw, ml_5 hw, mf_9 hw, mt_9 hw, ml_9 hw, mf_11 hw, mt_11 hw, ml_11 hw, mf_12 hw, mt_12 hw, ml_12 hw, mf_13 hw, mt_13 hw, ml_13 hw, mf_14 hw, mt_14 hw, ml_14 hw, mf_15 hw, mt_15 hw, ml_15 hw, mf_16 hw, mt_16 hw, ml_16 hw, mf_17 hw, mt_17 hw, ml_17 hw, mf_18 hw, mt_18 hw, ml_18 hw, mf_19 hw, mt_19 hw, ml_19 hw, mf_21 hw, mt_21 hw, ml_21 hw, mf_24 hw, mt_24 hw, ml_24 hw, mf_25 hw, mt_25 hw, ml_25 hw, mf_26 hw, mt_26 hw, ml_26 hw, mf_29 hw, mt_29 hw, ml_29 hw, mf_30 hw, mt_30 hw, ml_30 hw, mf_31 hw, mt_31 hw, ml_31 hw, mf_32 hw, mt_32 hw, ml_32 hw, mf_33 hw, mt_33 hw, ml_33 hw, mf_34 hw, mt_34 hw, ml_34 hw, mf_36 hw, mt_36 hw, ml_36 hw, mf_37 hw, mt_37 hw, ml_37 hw, mf_38 hw, mt_38 hw, ml_38 hw, mf_39 hw, mt_39 hw, ml_39 hw, mf_40 hw, mt_40 hw, ml_40 hw, li_0, li_1, li_2, li_3, li_4, li_5, li_6, li_7, li_8, li_9, li_10, li_12, li_14, li_16, li_17, li_18, li_19, li_20, li_25, li_28, li_30, li_31, li_32, li_33, li_34, li_40, li_46, li_48, li_49, li_57, li_59, li_65, li_67, li_68, li_75, li_77, li_80, li_82, li_90, li_95, li_100, li_128, li_130, li_132, li_136, li_140, li_148, li_156, li_200, li_255, li_256, li_400, li_700, li_2047, li_2048, li_2049, li_2050, li_2054, li_2056, li_4096, li_6000, li_163840, li_409600, li_819200, nI_add, pk_mul, pk_sub, nI_leI, nI_ltI, nI_eq, nI_clamp, vin_t, forall_eq, true_and, and_true, forall_const, implies_true, c3]
      refine ⟨fun z => by omega, fun _ => ⟨fun z => by omega, fun _ => m_letter n1 n2 hc ?_⟩⟩
      refine m_letter n1 n2 hc ?_
      rw [show (nI (l.getD c 0)).toInt8.toInt32 = sb_b (l.getD c 0) from rfl, nar_b]
      refine hR (j - 1) _ _ (by omega) ⟨c + 1, by omega, rfl, by (repeat' first | with_reducible exact MFr.refl | with_reducible assumption | with_reducible apply MFr.wI' | with_reducible apply MFr.wL' | with_reducible apply MFr.sI' | omega | trivial | exact ⟨by omega, by omega⟩ | exact rfl), ?_⟩
      have h5 := PL_w (p := p + 8 + c) (c := l.getD c 0) h4
      have lA : (A ++ l.take c).length = 8 + c := by simp [hA]; omega
      have lU : (U ++ l.take c).length = 8 + c := by simp [hU]; omega
      rw [show p + 8 + c = p + (A ++ l.take c).length by omega, ov_two (by simp [hA]; omega)] at h5
      have h6 := PL_w (p := p + 2056 + c) (c := l.getD c 0) h5
      rw [ov_two2 (by omega)] at h6
      rw [show p + (A ++ l.take c).length = p + 8 + c by omega, hg, List.append_assoc, List.append_assoc, ← List.take_succ_eq_append_getElem hc] at h6
      rw [hg]
      exact h6
    · simp (disch := omega) only [atg_sI, afI_sI, afL_sI, afR_sI, aln_sI, aaI_sI, aaL_sI, aaR_sI, anx_sI, abc_sI, abs_sI, alo_sI, atg_wI, afI_wI, afL_wI, afR_wI, aln_wI, aaI_wI, aaL_wI, aaR_wI, anx_wI, abc_wI, abs_wI, alo_wI, atg_wL, afI_wL, afL_wL, afR_wL, aln_wL, aaI_wL, aaL_wL, aaR_wL, anx_wL, abc_wL, abs_wL, alo_wL, u2_e, u2_r, u2_i, u3_e, u3_k, u3_c, u3_r, mw_tag hw, mw_lo hw, mw_loa hw, mf_3 hw, mt_3 hw, ml_3 hw, mf_4 hw, mt_4 hw, ml_4 hw, mf_5 hw, mt_5 hw, ml_5 hw, mf_9 hw, mt_9 hw, ml_9 hw, mf_11 hw, mt_11 hw, ml_11 hw, mf_12 hw, mt_12 hw, ml_12 hw, mf_13 hw, mt_13 hw, ml_13 hw, mf_14 hw, mt_14 hw, ml_14 hw, mf_15 hw, mt_15 hw, ml_15 hw, mf_16 hw, mt_16 hw, ml_16 hw, mf_17 hw, mt_17 hw, ml_17 hw, mf_18 hw, mt_18 hw, ml_18 hw, mf_19 hw, mt_19 hw, ml_19 hw, mf_21 hw, mt_21 hw, ml_21 hw, mf_24 hw, mt_24 hw, ml_24 hw, mf_25 hw, mt_25 hw, ml_25 hw, mf_26 hw, mt_26 hw, ml_26 hw, mf_29 hw, mt_29 hw, ml_29 hw, mf_30 hw, mt_30 hw, ml_30 hw, mf_31 hw, mt_31 hw, ml_31 hw, mf_32 hw, mt_32 hw, ml_32 hw, mf_33 hw, mt_33 hw, ml_33 hw, mf_34 hw, mt_34 hw, ml_34 hw, mf_36 hw, mt_36 hw, ml_36 hw, mf_37 hw, mt_37 hw, ml_37 hw, mf_38 hw, mt_38 hw, ml_38 hw, mf_39 hw, mt_39 hw, ml_39 hw, mf_40 hw, mt_40 hw, ml_40 hw, li_0, li_1, li_2, li_3, li_4, li_5, li_6, li_7, li_8, li_9, li_10, li_12, li_14, li_16, li_17, li_18, li_19, li_20, li_25, li_28, li_30, li_31, li_32, li_33, li_34, li_40, li_46, li_48, li_49, li_57, li_59, li_65, li_67, li_68, li_75, li_77, li_80, li_82, li_90, li_95, li_100, li_128, li_130, li_132, li_136, li_140, li_148, li_156, li_200, li_255, li_256, li_400, li_700, li_2047, li_2048, li_2049, li_2050, li_2054, li_2056, li_4096, li_6000, li_163840, li_409600, li_819200, nI_add, pk_mul, pk_sub, nI_leI, nI_ltI, nI_eq, nI_clamp, vin_t, forall_eq, true_and, and_true, forall_const, implies_true]
      have hce : c = l.length := by omega
      rw [hce, List.take_length] at h4
      exact ⟨fun _ => k τ h3 h4, fun z => by omega⟩
theorem ptE_w {lo : Bool} {l : List Nat} {x up : Nat} {d : Nat} (hl : d = 0 → l = [0]) {f : Nat → Nat} {p : Nat} (hz : ∀ i, p ≤ i → i < p + (ptE lo l x up).length → f i = 0) : ov f p ([l.length, 0] ++ ((if lo then lowB 4 x else highB 4 x) ++ (if lo then lowB 2 up else highB 2 up)) ++ (if d = 0 then [] else l)) = ov f p (ptE lo l x up) := by
  rw [ptE_len] at hz
  have l4 : (if lo then lowB 4 x else highB 4 x).length = 4 := by cases lo <;> simp [lowB_len, highB_len]
  have l2 : (if lo then lowB 2 up else highB 2 up).length = 2 := by cases lo <;> simp [lowB_len, highB_len]
  obtain ⟨X, hX⟩ : ∃ X, X = (if lo then lowB 4 x else highB 4 x) := ⟨_, rfl⟩
  obtain ⟨Y, hY⟩ : ∃ Y, Y = (if lo then lowB 2 up else highB 2 up) := ⟨_, rfl⟩
  unfold ptE
  rw [← hX, ← hY]
  rw [← hX] at l4
  rw [← hY] at l2
  by_cases e : d = 0
  · rw [if_pos e, List.append_nil, ov_pad (g := 2)]
    · congr 1
      rw [hl e]
      simp
    · intro i g1 g2
      have := hl e
      rw [this] at hz
      refine hz i (by omega) ?_
      simp [l4, l2] at g2 ⊢
      omega
  · rw [if_neg e, ov_pad (g := l.length % 2)]
    · congr 1
      have : (if l.length % 2 = 1 then [0] else ([] : List Nat)) = List.replicate (l.length % 2) 0 := by
        rcases (show l.length % 2 = 0 ∨ l.length % 2 = 1 by omega) with q | q <;> rw [q] <;> simp
      rw [this]
      simp
    · intro i g1 g2
      refine hz i (by omega) ?_
      simp [l4, l2] at g2
      omega
theorem m_des214 (hw : MW σ m) (hT : MT0 σ m t) (ok : TOK n t) (hb : base ≤ 200) {f : Nat → Nat} (h : PL σ m f) (hA : AT σ m (dirT t) base) {i up : Nat} (hi : i < (dirT t).length) (hdi : DI n t base i f) (hup : up < 1000) (hupe : up = (if i = 0 then 1 else plc (dirT t) (tP t ((dirT t).getD i 0)) + 1)) {post : Hp → Prop} {rc : Int32 → Int32 → Hp → Prop} {x2 x3 : Int32}
    (k : ∀ σ' f', MFr m σ σ' P14 N0 → PL σ' m f' → DI n t base (i + 1) f' → rc (nI (4096 + (ptT t (dirT t) base true (i + 1)).length)) (nI (i + 1)) σ') :
    wX9_design_L214 post rc m (nI base) x2 x3 (nI (4096 + (ptT t (dirT t) base true i).length)) (nI i) (nI ((dirT t).getD i 0)) (nI (if (dirT t).getD i 0 = 0 then [0] else tM t ((dirT t).getD i 0)).length) (nI up) σ := by
  have hN := ok.1.2.1
  have hl := dirT_len ok
  have hm : (dirT t).getD i 0 ∈ dirT t := getD_mem hi
  obtain ⟨⟨a1, a2⟩, a3⟩ := dirT_mem ok hm
  obtain ⟨n1, n2⟩ := nm_b ok a1 a2
  have ha := (hA _ hm).1
  rw [dirT_plc ok hi] at ha
  have hi0 : (dirT t).getD i 0 = 0 ↔ i = 0 := by
    have h0 : (dirT t).getD 0 1 = 0 := (dirT_ok ok).2.1
    have h0' : (dirT t).getD 0 0 = 0 := by
      have hlen := (dirT_ok ok).2.2.1
      rw [List.getD_eq_getElem?_getD, List.getElem?_eq_getElem (by omega)] at h0 ⊢
      exact h0
    constructor
    · intro e
      exact getD_inj (dirT_ok ok).1 hi (by have := (dirT_ok ok).2.2.1; omega) (by rw [e, h0'])
    · intro e; rw [e]; exact h0'
  obtain ⟨l, hle⟩ : ∃ l, l = (if (dirT t).getD i 0 = 0 then [0] else tM t ((dirT t).getD i 0)) := ⟨_, rfl⟩
  have hle2 : l = (if i = 0 then [0] else tM t ((dirT t).getD i 0)) := by
    rw [hle]
    by_cases e : i = 0
    · rw [if_pos e, if_pos (hi0.mpr e)]
    · rw [if_neg e, if_neg (fun z => e (hi0.mp z))]
  have hll : l.length ≤ 8 := by
    rw [hle]; split
    · simp
    · exact n1
  obtain ⟨q1, q2⟩ := ptT_len ok (base := base) i (by omega)
  obtain ⟨p, hpe⟩ : ∃ p, p = 4096 + (ptT t (dirT t) base true i).length := ⟨_, rfl⟩
  rw [← hpe, ← hle]
  have hw0 := hw
  have hT0 := hT
  have hA0 := hA
  -- zeros where the entries go
  have hzl : ∀ q, p ≤ q → q < p + 16 → f q = 0 := by
    intro q g1 g2
    have := hdi.2.2.1 (q - 4096) (by omega)
    rw [show 4096 + (q - 4096) = q by omega, pz_hi (by omega)] at this
    exact this
  have hzh : ∀ q, p + 2048 ≤ q → q < p + 2048 + 16 → f q = 0 := by
    intro q g1 g2
    have := hdi.2.2.2.1 (q - 6144) (by omega)
    rw [show 6144 + (q - 6144) = q by omega, pz_hi (by omega)] at this
    exact this
  unfold wX9_design_L214
  rw [show (nI l.length).toInt8.toInt32 = sb_b l.length from rfl, nar_b]
  simp (disch := omega) only [atg_sI, afI_sI, afL_sI, afR_sI, aln_sI, aaI_sI, aaL_sI, aaR_sI, anx_sI, abc_sI, abs_sI, alo_sI, atg_wI, afI_wI, afL_wI, afR_wI, aln_wI, aaI_wI, aaL_wI, aaR_wI, anx_wI, abc_wI, abs_wI, alo_wI, atg_wL, afI_wL, afL_wL, afR_wL, aln_wL, aaI_wL, aaL_wL, aaR_wL, anx_wL, abc_wL, abs_wL, alo_wL, u2_e, u2_r, u2_i, u3_e, u3_k, u3_c, u3_r, mw_tag hw, mw_lo hw, mw_loa hw, mf_3 hw, mt_3 hw, ml_3 hw, mf_4 hw, mt_4 hw, ml_4 hw, mf_5 hw, mt_5 hw, ml_5 hw, mf_9 hw, mt_9 hw, ml_9 hw, mf_11 hw, mt_11 hw, ml_11 hw, mf_12 hw, mt_12 hw, ml_12 hw, mf_13 hw, mt_13 hw, ml_13 hw, mf_14 hw, mt_14 hw, ml_14 hw, mf_15 hw, mt_15 hw, ml_15 hw, mf_16 hw, mt_16 hw, ml_16 hw, mf_17 hw, mt_17 hw, ml_17 hw, mf_18 hw, mt_18 hw, ml_18 hw, mf_19 hw, mt_19 hw, ml_19 hw, mf_21 hw, mt_21 hw, ml_21 hw, mf_24 hw, mt_24 hw, ml_24 hw, mf_25 hw, mt_25 hw, ml_25 hw, mf_26 hw, mt_26 hw, ml_26 hw, mf_29 hw, mt_29 hw, ml_29 hw, mf_30 hw, mt_30 hw, ml_30 hw, mf_31 hw, mt_31 hw, ml_31 hw, mf_32 hw, mt_32 hw, ml_32 hw, mf_33 hw, mt_33 hw, ml_33 hw, mf_34 hw, mt_34 hw, ml_34 hw, mf_36 hw, mt_36 hw, ml_36 hw, mf_37 hw, mt_37 hw, ml_37 hw, mf_38 hw, mt_38 hw, ml_38 hw, mf_39 hw, mt_39 hw, ml_39 hw, mf_40 hw, mt_40 hw, ml_40 hw, li_0, li_1, li_2, li_3, li_4, li_5, li_6, li_7, li_8, li_9, li_10, li_12, li_14, li_16, li_17, li_18, li_19, li_20, li_25, li_28, li_30, li_31, li_32, li_33, li_34, li_40, li_46, li_48, li_49, li_57, li_59, li_65, li_67, li_68, li_75, li_77, li_80, li_82, li_90, li_95, li_100, li_128, li_130, li_132, li_136, li_140, li_148, li_156, li_200, li_255, li_256, li_400, li_700, li_2047, li_2048, li_2049, li_2050, li_2054, li_2056, li_4096, li_6000, li_163840, li_409600, li_819200, nI_add, pk_mul, pk_sub, nI_leI, nI_ltI, nI_eq, nI_clamp, vin_t, forall_eq, true_and, and_true, forall_const, implies_true, ha]
  have f2 : MFr m σ (wI_ (wI_ σ (m + 14) p (sb_b l.length)) (m + 14) (p + 2048) (sb_b l.length)) P14 N0 := by (repeat' first | with_reducible exact MFr.refl | with_reducible assumption | with_reducible apply MFr.wI' | with_reducible apply MFr.wL' | with_reducible apply MFr.sI' | omega | trivial | exact ⟨by omega, by omega⟩ | exact rfl)
  have p2 := PL_w (p := p + 2048) (c := l.length) (PL_w (p := p) (c := l.length) h)
  -- both rows have a zero behind the length
  have e1 : ov (ov f p [l.length]) (p + 2048) [l.length] = ov (ov f p ([l.length] ++ List.replicate 1 0)) (p + 2048) ([l.length] ++ List.replicate 1 0) := by
    rw [ov_pad (f := f) (p := p) (a := [l.length]) (g := 1) (fun q g1 g2 => hzl q (by simp at g1; omega) (by simp at g2; omega))]
    rw [ov_pad (f := ov f p ([l.length] ++ List.replicate 1 0)) (p := p + 2048) (a := [l.length]) (g := 1) (fun q g1 g2 => by
      rw [ov_out (by simp at g1 ⊢; omega)]
      exact hzh q (by simp at g1; omega) (by simp at g2; omega))]
  rw [e1] at p2
  refine m_low (f2.mw hw) p2 (by omega) (by omega) (by omega) (fun σ3 a3 b3 => ?_)
  rw [show p + 2 = p + ([l.length] ++ List.replicate 1 0).length from rfl, ov_two (by simp [lowB_len])] at b3
  have f3 := f2.trans a3
  have ha3 := (hA0.f14 f3 _ hm).1
  rw [dirT_plc ok hi] at ha3
  have hw := f3.mw hw0
  simp (disch := omega) only [atg_sI, afI_sI, afL_sI, afR_sI, aln_sI, aaI_sI, aaL_sI, aaR_sI, anx_sI, abc_sI, abs_sI, alo_sI, atg_wI, afI_wI, afL_wI, afR_wI, aln_wI, aaI_wI, aaL_wI, aaR_wI, anx_wI, abc_wI, abs_wI, alo_wI, atg_wL, afI_wL, afL_wL, afR_wL, aln_wL, aaI_wL, aaL_wL, aaR_wL, anx_wL, abc_wL, abs_wL, alo_wL, u2_e, u2_r, u2_i, u3_e, u3_k, u3_c, u3_r, mw_tag hw, mw_lo hw, mw_loa hw, mf_3 hw, mt_3 hw, ml_3 hw, mf_4 hw, mt_4 hw, ml_4 hw, mf_5 hw, mt_5 hw, ml_5 hw, mf_9 hw, mt_9 hw, ml_9 hw, mf_11 hw, mt_11 hw, ml_11 hw, mf_12 hw, mt_12 hw, ml_12 hw, mf_13 hw, mt_13 hw, ml_13 hw, mf_14 hw, mt_14 hw, ml_14 hw, mf_15 hw, mt_15 hw, ml_15 hw, mf_16 hw, mt_16 hw, ml_16 hw, mf_17 hw, mt_17 hw, ml_17 hw, mf_18 hw, mt_18 hw, ml_18 hw, mf_19 hw, mt_19 hw, ml_19 hw, mf_21 hw, mt_21 hw, ml_21 hw, mf_24 hw, mt_24 hw, ml_24 hw, mf_25 hw, mt_25 hw, ml_25 hw, mf_26 hw, mt_26 hw, ml_26 hw, mf_29 hw, mt_29 hw, ml_29 hw, mf_30 hw, mt_30 hw, ml_30 hw, mf_31 hw, mt_31 hw, ml_31 hw, mf_32 hw, mt_32 hw, ml_32 hw, mf_33 hw, mt_33 hw, ml_33 hw, mf_34 hw, mt_34 hw, ml_34 hw, mf_36 hw, mt_36 hw, ml_36 hw, mf_37 hw, mt_37 hw, ml_37 hw, mf_38 hw, mt_38 hw, ml_38 hw, mf_39 hw, mt_39 hw, ml_39 hw, mf_40 hw, mt_40 hw, ml_40 hw, li_0, li_1, li_2, li_3, li_4, li_5, li_6, li_7, li_8, li_9, li_10, li_12, li_14, li_16, li_17, li_18, li_19, li_20, li_25, li_28, li_30, li_31, li_32, li_33, li_34, li_40, li_46, li_48, li_49, li_57, li_59, li_65, li_67, li_68, li_75, li_77, li_80, li_82, li_90, li_95, li_100, li_128, li_130, li_132, li_136, li_140, li_148, li_156, li_200, li_255, li_256, li_400, li_700, li_2047, li_2048, li_2049, li_2050, li_2054, li_2056, li_4096, li_6000, li_163840, li_409600, li_819200, nI_add, pk_mul, pk_sub, nI_leI, nI_ltI, nI_eq, nI_clamp, vin_t, forall_eq, true_and, and_true, forall_const, implies_true, ha3]
  refine m_high hw b3 (by omega) (by omega) (by omega) (fun σ4 a4 b4 => ?_)
  rw [ov_two2 (by simp)] at b4
  have f4 := f3.trans a4
  have hw := f4.mw hw0
  refine ⟨mw_tag hw, ?_⟩
  refine m_low hw b4 (by omega) (by omega) (by omega) (fun σ5 a5 b5 => ?_)
  rw [show p + 6 = p + ([l.length] ++ List.replicate 1 0 ++ lowB 4 (base + 20 + i)).length by simp [lowB_len], ov_two (by simp [lowB_len])] at b5
  have f5 := f4.trans a5
  have hw := f5.mw hw0
  refine ⟨mw_tag hw, ?_⟩
  refine m_high hw b5 (by omega) (by omega) (by omega) (fun σ6 a6 b6 => ?_)
  rw [ov_two2 (by simp [highB_len])] at b6
  have f6 := f5.trans a6
  have hw := f6.mw hw0
  have hd0l : (if (dirT t).getD i 0 = 0 then [] else tM t ((dirT t).getD i 0)) = (if (dirT t).getD i 0 = 0 then [] else l) := by
    by_cases e : (dirT t).getD i 0 = 0
    · rw [if_pos e, if_pos e]
    · rw [if_neg e, if_neg e, hle, if_neg e]
  have h302 := m_des302 (post := post) (rc := rc) (x1 := nI base) (x2 := x2) (x3 := x3) (x5 := nI i) hw (hT0.f14 f6) ok (f := f) (p := p) (d := (dirT t).getD i 0) (by simp [lowB_len]) (by simp [highB_len]) b6 (by omega) a1 a2 (fun τ g1 g2 => ?_)
  · rw [← hle] at h302
    exact h302
  rw [← hle]
  rw [hd0l] at g2
  have fτ := f6.trans g1
  have w1 := ptE_w (lo := true) (l := l) (x := base + 20 + i) (up := up) (d := (dirT t).getD i 0) (fun e => by rw [hle, if_pos e]) (f := f) (p := p) (fun q g1 g2 => hzl q g1 (by rw [ptE_len] at g2; omega))
  have w2 := ptE_w (lo := false) (l := l) (x := base + 20 + i) (up := up) (d := (dirT t).getD i 0) (fun e => by rw [hle, if_pos e]) (f := ov f p (ptE true l (base + 20 + i) up)) (p := p + 2048) (fun q g1 g2 => by
    rw [ov_out (by rw [ptE_len]; omega)]
    exact hzh q g1 (by rw [ptE_len] at g2; omega))
  have n3 : ∀ lo, ptN t (dirT t) base lo i = ptE lo l (base + 20 + i) up := by
    intro lo
    unfold ptN
    rw [← hle2, ← hupe]
  have g3 : PL τ m (ov (ov f p (ptE true l (base + 20 + i) up)) (p + 2048) (ptE false l (base + 20 + i) up)) := by
    rw [← w2, ← w1]
    simpa [List.append_assoc] using g2
  refine m_des373 (fτ.mw hw0) (hT0.f14 fτ) ok hb g3 (hA0.f14 fτ) hi (by omega) (by omega) (fun q z1 z2 => ?_) (fun σ' y1 y2 => ?_)
  · rw [ov_out (by rw [ptE_len]; omega), ov_out (by rw [ptE_len]; omega)]
    exact hdi.2.2.2.2.2 q z1 (by omega)
  · have := k σ' _ (fτ.trans y1) y2 (by
      have := DI_step ok hdi hi
      rw [← hpe, n3, n3] at this
      exact this)
    have e9 : 4096 + (ptT t (dirT t) base true (i + 1)).length = p + (8 + ev l.length) := by
      show 4096 + (ptT t (dirT t) base true i ++ ptN t (dirT t) base true i).length = _
      rw [List.length_append, n3, ptE_len, hpe]
      unfold ev
      omega
    rw [e9] at this
    exact this
end
