/-! the reference: is a node new; a directory is gone through -/
theorem vin_t {a N : Nat} (h : a < N) (hN : N < 2147483648) : vp_in (nI a) N = True := eq_true ((vin_ (by omega)).mpr h)
section
variable {σ : Hp} {m n sd : Nat} {B St : Nat → Nat}
/-- what stays while a session is read -/
def PS : Nat → Nat → Prop := fun j _ => 18 ≤ j ∧ j ≤ 23
def QS : Nat → Prop := fun k => k = 27 ∨ k = 28
theorem MFr.ps {σ' : Hp} (h : MFr m σ σ' PS QS) (hm : MedM σ m n sd B St) : MedM σ' m n sd B St := h.med hm (by unfold QS; omega) (by unfold QS; omega) (fun i q => by unfold PS at q; omega) (fun i q => by unfold PS at q; omega)
theorem lap_i {a b c d : Nat} (ha : a < 2 ^ 30) (hb : b < 2 ^ 31) (hc : c < 2 ^ 30) : (nI a + nI b / nI 2048 ≤ nI c) ↔ a + b / 2048 ≤ c := by
  rw [pk_div hb (by decide) (by decide), nI_add, nI_leI (by omega) (by omega)]
theorem m_isNew66 (h : MedM σ m n sd B St) {F : List FT} {f : FT} {rc : Nat} (hF : ∀ q, q < F.length → SFd σ m q (gF F q) ∧ FO n (gF F q)) (hl : F.length < 30) (hf : SFd σ m F.length f) (hfo : FO n f) (hfp : fp_ f < 100)
    (hrc : 2 < rc → lx (idb (fn_ (gF F (F.length - 1))) (fd_ (gF F (F.length - 1)))) (idb (fn_ f) (fd_ f)) = true) {post : Int32 → Hp → Prop} (k1 : newOK F rc f → post 1 σ) (k0 : ¬ newOK F rc f → post 0 σ) : wX9_isNew_L66 post m (nI F.length) σ := by
  have hn := h.2.1.2.1
  have hw := h.1
  obtain ⟨f1, f2, f3, f4, f5, f6⟩ := hf
  obtain ⟨o1, o2, o3, o4, o5, o6, o7⟩ := hfo
  unfold wX9_isNew_L66
  simp (disch := omega) only [atg_sI, afI_sI, afL_sI, afR_sI, aln_sI, aaI_sI, aaL_sI, aaR_sI, anx_sI, abc_sI, abs_sI, alo_sI, atg_wI, afI_wI, afL_wI, afR_wI, aln_wI, aaI_wI, aaL_wI, aaR_wI, anx_wI, abc_wI, abs_wI, alo_wI, atg_wL, afI_wL, afL_wL, afR_wL, aln_wL, aaI_wL, aaL_wL, aaR_wL, anx_wL, abc_wL, abs_wL, alo_wL, u2_e, u2_r, u2_i, u3_e, u3_k, u3_c, u3_r, mw_tag hw, mw_lo hw, mw_loa hw, mf_3 hw, mt_3 hw, ml_3 hw, mf_4 hw, mt_4 hw, ml_4 hw, mf_5 hw, mt_5 hw, ml_5 hw, mf_9 hw, mt_9 hw, ml_9 hw, mf_11 hw, mt_11 hw, ml_11 hw, mf_12 hw, mt_12 hw, ml_12 hw, mf_13 hw, mt_13 hw, ml_13 hw, mf_14 hw, mt_14 hw, ml_14 hw, mf_15 hw, mt_15 hw, ml_15 hw, mf_16 hw, mt_16 hw, ml_16 hw, mf_17 hw, mt_17 hw, ml_17 hw, mf_18 hw, mt_18 hw, ml_18 hw, mf_19 hw, mt_19 hw, ml_19 hw, mf_21 hw, mt_21 hw, ml_21 hw, mf_24 hw, mt_24 hw, ml_24 hw, mf_25 hw, mt_25 hw, ml_25 hw, mf_26 hw, mt_26 hw, ml_26 hw, mf_29 hw, mt_29 hw, ml_29 hw, mf_30 hw, mt_30 hw, ml_30 hw, mf_31 hw, mt_31 hw, ml_31 hw, mf_32 hw, mt_32 hw, ml_32 hw, mf_33 hw, mt_33 hw, ml_33 hw, mf_34 hw, mt_34 hw, ml_34 hw, mf_36 hw, mt_36 hw, ml_36 hw, mf_37 hw, mt_37 hw, ml_37 hw, mf_38 hw, mt_38 hw, ml_38 hw, mf_39 hw, mt_39 hw, ml_39 hw, mf_40 hw, mt_40 hw, ml_40 hw, li_0, li_1, li_2, li_3, li_4, li_5, li_6, li_7, li_8, li_9, li_10, li_12, li_14, li_16, li_17, li_18, li_19, li_20, li_25, li_28, li_30, li_31, li_32, li_33, li_34, li_40, li_46, li_48, li_49, li_57, li_59, li_65, li_67, li_68, li_75, li_77, li_80, li_82, li_90, li_95, li_100, li_128, li_130, li_132, li_136, li_140, li_148, li_156, li_200, li_255, li_256, li_400, li_700, li_2047, li_2048, li_2049, li_2050, li_2054, li_2056, li_4096, li_6000, li_163840, li_409600, li_819200, nI_add, pk_mul, pk_sub, nI_leI, nI_ltI, nI_eq, nI_clamp, vin_t, forall_eq, true_and, and_true, forall_const, implies_true, f2, f6]
  refine ⟨fun q => ⟨fun q2 => ?_, fun q2 => k0 (fun z => q2 (z.2.2 (by omega)).1)⟩, fun q => k1 ⟨by omega, hrc, fun z => by omega⟩⟩
  unfold wX9_isNew_L95
  refine lpG1 (B := fun R x => wX9_isNew_B95 post R m (nI F.length) x σ) (fun j x => j ≤ F.length ∧ x = nI (F.length - j) ∧ ∀ q, q < F.length - j → fd_ (gF F q) = 1 → ¬ lapF f (gF F q)) F.length ⟨Nat.le_refl _, by simp [nI_0], fun q hq => absurd hq (by omega)⟩ ?_
  rintro j x R ⟨h1, rfl, h3⟩ hR
  unfold wX9_isNew_B95 wX9_isNew_L172
  by_cases hj : j = 0
  · subst hj
    exact ⟨fun _ => k1 ⟨by omega, hrc, fun _ => ⟨q2, fun q hq => h3 q (by omega)⟩⟩, fun z => absurd (nI_le (by omega) (by omega)) z⟩
  · obtain ⟨⟨g1, g2, g3, g4, g5, g6⟩, ⟨p1, p2, p3, p4, p5, p6, p7⟩⟩ := hF (F.length - j) (by omega)
    have step : (fd_ (gF F (F.length - j)) = 1 → ¬ lapF f (gF F (F.length - j))) → R (nI (F.length - j + 1)) := by
      intro z
      refine hR (j - 1) _ (by omega) ⟨by omega, by congr 1; omega, fun q hq => ?_⟩
      by_cases e : q < F.length - j
      · exact h3 q e
      · rw [show q = F.length - j by omega]; exact z
    simp (disch := omega) only [atg_sI, afI_sI, afL_sI, afR_sI, aln_sI, aaI_sI, aaL_sI, aaR_sI, anx_sI, abc_sI, abs_sI, alo_sI, atg_wI, afI_wI, afL_wI, afR_wI, aln_wI, aaI_wI, aaL_wI, aaR_wI, anx_wI, abc_wI, abs_wI, alo_wI, atg_wL, afI_wL, afL_wL, afR_wL, aln_wL, aaI_wL, aaL_wL, aaR_wL, anx_wL, abc_wL, abs_wL, alo_wL, u2_e, u2_r, u2_i, u3_e, u3_k, u3_c, u3_r, mw_tag hw, mw_lo hw, mw_loa hw, mf_3 hw, mt_3 hw, ml_3 hw, mf_4 hw, mt_4 hw, ml_4 hw, mf_5 hw, mt_5 hw, ml_5 hw, mf_9 hw, mt_9 hw, ml_9 hw, mf_11 hw, mt_11 hw, ml_11 hw, mf_12 hw, mt_12 hw, ml_12 hw, mf_13 hw, mt_13 hw, ml_13 hw, mf_14 hw, mt_14 hw, ml_14 hw, mf_15 hw, mt_15 hw, ml_15 hw, mf_16 hw, mt_16 hw, ml_16 hw, mf_17 hw, mt_17 hw, ml_17 hw, mf_18 hw, mt_18 hw, ml_18 hw, mf_19 hw, mt_19 hw, ml_19 hw, mf_21 hw, mt_21 hw, ml_21 hw, mf_24 hw, mt_24 hw, ml_24 hw, mf_25 hw, mt_25 hw, ml_25 hw, mf_26 hw, mt_26 hw, ml_26 hw, mf_29 hw, mt_29 hw, ml_29 hw, mf_30 hw, mt_30 hw, ml_30 hw, mf_31 hw, mt_31 hw, ml_31 hw, mf_32 hw, mt_32 hw, ml_32 hw, mf_33 hw, mt_33 hw, ml_33 hw, mf_34 hw, mt_34 hw, ml_34 hw, mf_36 hw, mt_36 hw, ml_36 hw, mf_37 hw, mt_37 hw, ml_37 hw, mf_38 hw, mt_38 hw, ml_38 hw, mf_39 hw, mt_39 hw, ml_39 hw, mf_40 hw, mt_40 hw, ml_40 hw, li_0, li_1, li_2, li_3, li_4, li_5, li_6, li_7, li_8, li_9, li_10, li_12, li_14, li_16, li_17, li_18, li_19, li_20, li_25, li_28, li_30, li_31, li_32, li_33, li_34, li_40, li_46, li_48, li_49, li_57, li_59, li_65, li_67, li_68, li_75, li_77, li_80, li_82, li_90, li_95, li_100, li_128, li_130, li_132, li_136, li_140, li_148, li_156, li_200, li_255, li_256, li_400, li_700, li_2047, li_2048, li_2049, li_2050, li_2054, li_2056, li_4096, li_6000, li_163840, li_409600, li_819200, nI_add, pk_mul, pk_sub, nI_leI, nI_ltI, nI_eq, nI_clamp, vin_t, forall_eq, true_and, and_true, forall_const, implies_true, g2, g3, g4, f3, f4]
    rw [pk_div (by omega) (by decide) (by decide), pk_div (by omega) (by decide) (by decide), nI_add, nI_add, nI_leI (by omega) (by omega), nI_leI (by omega) (by omega)]
    refine ⟨fun z => by omega, fun _ => ⟨fun z => step (fun y => by omega), fun z => ⟨fun a => step (fun _ y => by unfold lapF at y; omega), fun a => ⟨fun b => step (fun _ y => by unfold lapF at y; omega), fun b => k0 (fun y => (y.2.2 (by omega)).2 (F.length - j) (by omega) (by omega) (by unfold lapF; omega))⟩⟩⟩⟩
theorem m_isNew (h : MedM σ m n sd B St) {F : List FT} (hF : SF σ m F) (hok : ∀ q, q < F.length → FO n (gF F q)) (hlen : F.length ≤ 30) {d r rc : Nat} (hd : d < F.length) (hfp : fp_ (gF F d) ≤ 7) (hrec : recOK n B St r 2) (hr : r < 2048 * n) {x3 : Int32} (hx1 : 2 < rc → x3 = nI (F.length - 1)) (hx2 : ¬ 2 < rc → x3 = -1) {post : Int32 → Hp → Prop}
    (k1 : ∀ σ', newOK F rc (mkF B d F r) → MFr m σ σ' (PB F.length) N0 → SFd σ' m F.length (mkF B d F r) → post 1 σ') (k0 : ∀ σ', ¬ newOK F rc (mkF B d F r) → MFr m σ σ' (PB F.length) N0 → post 0 σ') : wX9_isNew m (nI d) (nI r) x3 σ post := by
  have hn := h.2.1.2.1
  have hB := h.2.1.2.2.1
  have hw := h.1
  obtain ⟨hfo, hnm⟩ := rec_mk (d := d) (F := F) hrec
  obtain ⟨⟨r1, r2, r3, -⟩, hid, -⟩ := id hrec
  unfold idOK at hid
  rw [if_neg (by decide)] at hid
  unfold wX9_isNew
  simp (disch := omega) only [atg_sI, afI_sI, afL_sI, afR_sI, aln_sI, aaI_sI, aaL_sI, aaR_sI, anx_sI, abc_sI, abs_sI, alo_sI, atg_wI, afI_wI, afL_wI, afR_wI, aln_wI, aaI_wI, aaL_wI, aaR_wI, anx_wI, abc_wI, abs_wI, alo_wI, atg_wL, afI_wL, afL_wL, afR_wL, aln_wL, aaI_wL, aaL_wL, aaR_wL, anx_wL, abc_wL, abs_wL, alo_wL, u2_e, u2_r, u2_i, u3_e, u3_k, u3_c, u3_r, mw_tag hw, mw_lo hw, mw_loa hw, mf_3 hw, mt_3 hw, ml_3 hw, mf_4 hw, mt_4 hw, ml_4 hw, mf_5 hw, mt_5 hw, ml_5 hw, mf_9 hw, mt_9 hw, ml_9 hw, mf_11 hw, mt_11 hw, ml_11 hw, mf_12 hw, mt_12 hw, ml_12 hw, mf_13 hw, mt_13 hw, ml_13 hw, mf_14 hw, mt_14 hw, ml_14 hw, mf_15 hw, mt_15 hw, ml_15 hw, mf_16 hw, mt_16 hw, ml_16 hw, mf_17 hw, mt_17 hw, ml_17 hw, mf_18 hw, mt_18 hw, ml_18 hw, mf_19 hw, mt_19 hw, ml_19 hw, mf_21 hw, mt_21 hw, ml_21 hw, mf_24 hw, mt_24 hw, ml_24 hw, mf_25 hw, mt_25 hw, ml_25 hw, mf_26 hw, mt_26 hw, ml_26 hw, mf_29 hw, mt_29 hw, ml_29 hw, mf_30 hw, mt_30 hw, ml_30 hw, mf_31 hw, mt_31 hw, ml_31 hw, mf_32 hw, mt_32 hw, ml_32 hw, mf_33 hw, mt_33 hw, ml_33 hw, mf_34 hw, mt_34 hw, ml_34 hw, mf_36 hw, mt_36 hw, ml_36 hw, mf_37 hw, mt_37 hw, ml_37 hw, mf_38 hw, mt_38 hw, ml_38 hw, mf_39 hw, mt_39 hw, ml_39 hw, mf_40 hw, mt_40 hw, ml_40 hw, li_0, li_1, li_2, li_3, li_4, li_5, li_6, li_7, li_8, li_9, li_10, li_12, li_14, li_16, li_17, li_18, li_19, li_20, li_25, li_28, li_30, li_31, li_32, li_33, li_34, li_40, li_46, li_48, li_49, li_57, li_59, li_65, li_67, li_68, li_75, li_77, li_80, li_82, li_90, li_95, li_100, li_128, li_130, li_132, li_136, li_140, li_148, li_156, li_200, li_255, li_256, li_400, li_700, li_2047, li_2048, li_2049, li_2050, li_2054, li_2056, li_4096, li_6000, li_163840, li_409600, li_819200, nI_add, pk_mul, pk_sub, nI_leI, nI_ltI, nI_eq, nI_clamp, vin_t, forall_eq, true_and, and_true, forall_const, implies_true, hF.1]
  refine ⟨fun q => ?_, fun q => k0 σ (fun z => z.1 q) MFr.refl⟩
  have hKl : (if B (r + 25) = 2 then B (r + 32) else B (r + 32) - 3) ≤ 8 := by
    have := hnm.2.1
    rw [show fn_ (mkF B d F r) = ltA B (r + 33) (if B (r + 25) = 2 then B (r + 32) else B (r + 32) - 3) from rfl, ltA_len] at this
    exact this
  refine m_begin (K := if B (r + 25) = 2 then B (r + 32) else B (r + 32) - 3) (dp := fp_ (gF F d)) (e := fp_ (gF F d) + 1) (x4 := 0) h (by omega) hKl (by omega) (by split <;> omega) rfl (by omega) (by omega) (Or.inl ⟨by omega, by omega, (hF.2 d hd).2.2.2.2.2, _, rfl, trivial⟩) ⟨fun z => by omega, fun _ => rfl⟩ (fun z => by omega) (fun _ z => ?_) (fun _ z => ?_) (fun τ h1 h2 => ?_)
  · by_cases e : B (r + 25) = 2
    · rw [if_pos e]
    · rw [if_neg e] at z; omega
  · by_cases e : B (r + 25) = 2
    · rw [if_pos e] at z; omega
    · rw [if_neg e]
      exact ⟨by have := (hid.2 e).1; omega, rfl⟩
  · have hm := h1.pb h
    have hw := hm.1
    have hF2 : ∀ q, q < F.length → SFd τ m q (gF F q) ∧ FO n (gF F q) := by
      intro q hq
      refine ⟨?_, hok q hq⟩
      obtain ⟨a, b, c, d, e, f⟩ := hF.2 q hq
      have hp : ∀ j, ¬ PB F.length j q := fun j z => by unfold PB at z; omega
      exact ⟨by rw [h1.a (hp _)]; exact a, by rw [h1.a (hp _)]; exact b, by rw [h1.a (hp _)]; exact c, by rw [h1.a (hp _)]; exact d, by rw [h1.l (hp _)]; exact e, by rw [h1.a (hp _)]; exact f⟩
    have e27 : fI_ τ 8 27 m = nI F.length := by rw [h1.f (fun z => z)]; exact hF.1
    have L66 : (2 < rc → lx (idb (fn_ (gF F (F.length - 1))) (fd_ (gF F (F.length - 1)))) (idb (fn_ (mkF B d F r)) (fd_ (mkF B d F r))) = true) → wX9_isNew_L66 post m (nI F.length) τ := fun hrc => m_isNew66 hm hF2 (by omega) h2 hfo (by show fp_ (gF F d) + 1 < 100; omega) hrc (fun z => k1 τ z h1 h2) (fun z => k0 τ z h1)
    simp (disch := omega) only [atg_sI, afI_sI, afL_sI, afR_sI, aln_sI, aaI_sI, aaL_sI, aaR_sI, anx_sI, abc_sI, abs_sI, alo_sI, atg_wI, afI_wI, afL_wI, afR_wI, aln_wI, aaI_wI, aaL_wI, aaR_wI, anx_wI, abc_wI, abs_wI, alo_wI, atg_wL, afI_wL, afL_wL, afR_wL, aln_wL, aaI_wL, aaL_wL, aaR_wL, anx_wL, abc_wL, abs_wL, alo_wL, u2_e, u2_r, u2_i, u3_e, u3_k, u3_c, u3_r, mw_tag hw, mw_lo hw, mw_loa hw, mf_3 hw, mt_3 hw, ml_3 hw, mf_4 hw, mt_4 hw, ml_4 hw, mf_5 hw, mt_5 hw, ml_5 hw, mf_9 hw, mt_9 hw, ml_9 hw, mf_11 hw, mt_11 hw, ml_11 hw, mf_12 hw, mt_12 hw, ml_12 hw, mf_13 hw, mt_13 hw, ml_13 hw, mf_14 hw, mt_14 hw, ml_14 hw, mf_15 hw, mt_15 hw, ml_15 hw, mf_16 hw, mt_16 hw, ml_16 hw, mf_17 hw, mt_17 hw, ml_17 hw, mf_18 hw, mt_18 hw, ml_18 hw, mf_19 hw, mt_19 hw, ml_19 hw, mf_21 hw, mt_21 hw, ml_21 hw, mf_24 hw, mt_24 hw, ml_24 hw, mf_25 hw, mt_25 hw, ml_25 hw, mf_26 hw, mt_26 hw, ml_26 hw, mf_29 hw, mt_29 hw, ml_29 hw, mf_30 hw, mt_30 hw, ml_30 hw, mf_31 hw, mt_31 hw, ml_31 hw, mf_32 hw, mt_32 hw, ml_32 hw, mf_33 hw, mt_33 hw, ml_33 hw, mf_34 hw, mt_34 hw, ml_34 hw, mf_36 hw, mt_36 hw, ml_36 hw, mf_37 hw, mt_37 hw, ml_37 hw, mf_38 hw, mt_38 hw, ml_38 hw, mf_39 hw, mt_39 hw, ml_39 hw, mf_40 hw, mt_40 hw, ml_40 hw, li_0, li_1, li_2, li_3, li_4, li_5, li_6, li_7, li_8, li_9, li_10, li_12, li_14, li_16, li_17, li_18, li_19, li_20, li_25, li_28, li_30, li_31, li_32, li_33, li_34, li_40, li_46, li_48, li_49, li_57, li_59, li_65, li_67, li_68, li_75, li_77, li_80, li_82, li_90, li_95, li_100, li_128, li_130, li_132, li_136, li_140, li_148, li_156, li_200, li_255, li_256, li_400, li_700, li_2047, li_2048, li_2049, li_2050, li_2054, li_2056, li_4096, li_6000, li_163840, li_409600, li_819200, nI_add, pk_mul, pk_sub, nI_leI, nI_ltI, nI_eq, nI_clamp, vin_t, forall_eq, true_and, and_true, forall_const, implies_true, e27]
    by_cases hrc : 2 < rc
    · rw [hx1 hrc]
      refine ⟨fun z => absurd z (nI_lt0 (by omega)), fun _ => ?_⟩
      obtain ⟨⟨a1, a2, a3, a4, a5, a6⟩, b⟩ := hF2 (F.length - 1) (by omega)
      simp (disch := omega) only [atg_sI, afI_sI, afL_sI, afR_sI, aln_sI, aaI_sI, aaL_sI, aaR_sI, anx_sI, abc_sI, abs_sI, alo_sI, atg_wI, afI_wI, afL_wI, afR_wI, aln_wI, aaI_wI, aaL_wI, aaR_wI, anx_wI, abc_wI, abs_wI, alo_wI, atg_wL, afI_wL, afL_wL, afR_wL, aln_wL, aaI_wL, aaL_wL, aaR_wL, anx_wL, abc_wL, abs_wL, alo_wL, u2_e, u2_r, u2_i, u3_e, u3_k, u3_c, u3_r, mw_tag hw, mw_lo hw, mw_loa hw, mf_3 hw, mt_3 hw, ml_3 hw, mf_4 hw, mt_4 hw, ml_4 hw, mf_5 hw, mt_5 hw, ml_5 hw, mf_9 hw, mt_9 hw, ml_9 hw, mf_11 hw, mt_11 hw, ml_11 hw, mf_12 hw, mt_12 hw, ml_12 hw, mf_13 hw, mt_13 hw, ml_13 hw, mf_14 hw, mt_14 hw, ml_14 hw, mf_15 hw, mt_15 hw, ml_15 hw, mf_16 hw, mt_16 hw, ml_16 hw, mf_17 hw, mt_17 hw, ml_17 hw, mf_18 hw, mt_18 hw, ml_18 hw, mf_19 hw, mt_19 hw, ml_19 hw, mf_21 hw, mt_21 hw, ml_21 hw, mf_24 hw, mt_24 hw, ml_24 hw, mf_25 hw, mt_25 hw, ml_25 hw, mf_26 hw, mt_26 hw, ml_26 hw, mf_29 hw, mt_29 hw, ml_29 hw, mf_30 hw, mt_30 hw, ml_30 hw, mf_31 hw, mt_31 hw, ml_31 hw, mf_32 hw, mt_32 hw, ml_32 hw, mf_33 hw, mt_33 hw, ml_33 hw, mf_34 hw, mt_34 hw, ml_34 hw, mf_36 hw, mt_36 hw, ml_36 hw, mf_37 hw, mt_37 hw, ml_37 hw, mf_38 hw, mt_38 hw, ml_38 hw, mf_39 hw, mt_39 hw, ml_39 hw, mf_40 hw, mt_40 hw, ml_40 hw, li_0, li_1, li_2, li_3, li_4, li_5, li_6, li_7, li_8, li_9, li_10, li_12, li_14, li_16, li_17, li_18, li_19, li_20, li_25, li_28, li_30, li_31, li_32, li_33, li_34, li_40, li_46, li_48, li_49, li_57, li_59, li_65, li_67, li_68, li_75, li_77, li_80, li_82, li_90, li_95, li_100, li_128, li_130, li_132, li_136, li_140, li_148, li_156, li_200, li_255, li_256, li_400, li_700, li_2047, li_2048, li_2049, li_2050, li_2054, li_2056, li_4096, li_6000, li_163840, li_409600, li_819200, nI_add, pk_mul, pk_sub, nI_leI, nI_ltI, nI_eq, nI_clamp, vin_t, forall_eq, true_and, and_true, forall_const, implies_true, a2, a5, h2.2.1, h2.2.2.2.2.1]
      exact m_compare (vd := fd_ (gF F (F.length - 1))) (wd' := fd_ (mkF B d F r)) b.2.2.2.2.2.1 (FO_b b) hfo.2.2.2.2.2.1 (FO_b hfo) (by have := b.1; omega) (by have := hfo.1; omega) (fun y y1 y2 => ⟨fun z => L66 (fun _ => y1.mp z), fun z => k0 τ (fun a => z (y1.mpr (a.2.1 hrc))) h1⟩)
    · rw [hx2 hrc]
      exact ⟨fun _ => L66 (fun z => absurd z hrc), fun z => absurd (by decide) z⟩
end
