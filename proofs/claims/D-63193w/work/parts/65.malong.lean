/-! the reference: along a directory; measuring -/
section
variable {n : Nat} {t : TT}
/-- directories below those of the table that were looked at are in it -/
theorem bfs_all (ok : TOK n t) : ∀ (j i : Nat) (tb : List Nat), TBk t i tb → i ≤ tb.length → 31 ≤ i + j → (∀ i', i' < i → ∀ k ∈ srt t (tb.getD i' 0), tD t k = 1 → k ∈ tb) → ∀ i', i' < (bfs t j i tb).length → ∀ k ∈ srt t ((bfs t j i tb).getD i' 0), tD t k = 1 → k ∈ bfs t j i tb
  | 0, i, tb, h, h1, h2, h3 => by
    have := TBk_len ok h
    omega
  | j + 1, i, tb, h, h1, h2, h3 => by
    unfold bfs
    split
    · rename_i hi
      have hb := TBk_dirs ok h hi (L := (srt t (tb.getD i 0)).filter (fun k => tD t k == 1)) (List.filter_sublist ..) (fun k hk => by have := (List.mem_filter.mp hk).2; simpa using this)
      refine bfs_all ok j (i + 1) _ hb (by simp; omega) (by omega) (fun i' hi' k hk hd => ?_)
      rw [gD_app (by omega)] at hk
      by_cases e : i' = i
      · rw [e] at hk
        exact List.mem_append_right _ (List.mem_filter.mpr ⟨hk, by simpa using hd⟩)
      · exact List.mem_append_left _ (h3 i' (by omega) k hk hd)
    · rename_i hi
      intro i' hi' k hk hd
      exact h3 i' (by omega) k hk hd
theorem dirT_all (ok : TOK n t) {d k : Nat} (hd : d ∈ dirT t) (hk : k ∈ srt t d) (hkd : tD t k = 1) : k ∈ dirT t := by
  obtain ⟨i, h1, h2⟩ := mem_getD hd
  exact bfs_all ok 31 0 [0] (TBk0 ok) (by simp) (by omega) (fun i' h => absurd h (by omega)) i h1 k (by rw [← h2] at hk; exact hk) hkd
theorem dirT_par (ok : TOK n t) {d : Nat} (hd : d ∈ dirT t) (h0 : d ≠ 0) : tP t d ∈ dirT t := by
  obtain ⟨j, h1, h2, h3⟩ := (dirT_ok ok).2.2.2.2.1 d hd h0
  rw [← h2]
  exact getD_mem h3
theorem dirT_mem (ok : TOK n t) {d : Nat} (hd : d ∈ dirT t) : (d < tN t ∧ tT t d = true) ∧ tD t d = 1 := (dirT_ok ok).2.2.2.1 d hd
theorem dirT_len (ok : TOK n t) : (dirT t).length ≤ 30 := TBk_len ok (dirT_ok ok)
theorem dirT_plc (ok : TOK n t) {i : Nat} (hi : i < (dirT t).length) : plc (dirT t) ((dirT t).getD i 0) = i := by
  have hm := getD_mem (d := 0) hi
  have h1 : (dirT t).idxOf ((dirT t).getD i 0) < (dirT t).length := List.idxOf_lt_length_of_mem hm
  have h2 : (dirT t).getD ((dirT t).idxOf ((dirT t).getD i 0)) 0 = (dirT t).getD i 0 := by
    rw [List.getD_eq_getElem?_getD, List.getElem?_eq_getElem h1]; simp
  exact getD_inj (dirT_ok ok).1 h1 hi h2
/-- the first c records of a directory -/
def dLc (t : TT) (tb : List Nat) (base d : Nat) : Nat → List Nat
  | 0 => []
  | 1 => recS t tb base 0 d
  | c + 2 => recS t tb base 0 d ++ (recS t tb base 1 (if d = 0 then 0 else tP t d) ++ (((srt t d).take c).map (recN t tb base)).flatten)
theorem dLc_2 (tb : List Nat) (base d c : Nat) : dLc t tb base d (c + 2) = recS t tb base 0 d ++ (recS t tb base 1 (if d = 0 then 0 else tP t d) ++ (((srt t d).take c).map (recN t tb base)).flatten) := rfl
theorem dLc_all (tb : List Nat) (base d : Nat) : dLc t tb base d ((srt t d).length + 2) = dirL t tb base d := by
  unfold dirL
  rw [dLc_2, List.take_length]
theorem dLc_s (tb : List Nat) (base d : Nat) {c : Nat} (hc : c < (srt t d).length) : dLc t tb base d (c + 3) = dLc t tb base d (c + 2) ++ recN t tb base (srt t d)[c] := by
  rw [show c + 3 = (c + 1) + 2 from rfl, dLc_2, dLc_2, List.take_succ_eq_append_getElem hc, List.map_append, List.flatten_append]
  simp only [List.append_assoc, List.map_cons, List.map_nil, List.flatten_cons, List.flatten_nil, List.append_nil]
theorem recS_len (tb : List Nat) (base s k : Nat) : (recS t tb base s k).length = 34 := by
  unfold recS
  rw [recP_len]; simp [ev]
theorem recN_len (tb : List Nat) (base k : Nat) : (recN t tb base k).length = ev (33 + (tI t k).length) := by
  unfold recN
  rw [recP_len]
theorem dLc_len (ok : TOK n t) (tb : List Nat) (base d : Nat) : ∀ c, c ≤ (srt t d).length + 2 → (dLc t tb base d c).length ≤ 44 * c
  | 0, _ => by simp [dLc]
  | 1, _ => by unfold dLc; rw [recS_len]; omega
  | 2, _ => by unfold dLc; simp [recS_len]
  | c + 3, h => by
    rw [dLc_s tb base d (by omega), List.length_append, recN_len]
    have h1 := dLc_len ok tb base d (c + 2) (by omega)
    have hm : (srt t d)[c] ∈ srt t d := List.getElem_mem _
    obtain ⟨⟨a1, a2⟩, -⟩ := ((srt_ok ok d).2.1 _).mp hm
    have h2 := idb_len12 (d := tD t (srt t d)[c]) (nm_b ok a1 a2).1
    have h3 : ev (33 + (tI t (srt t d)[c]).length) ≤ 44 := by unfold ev tI; omega
    omega
end
section
variable {σ : Hp} {m n : Nat} {t : TT}
theorem m_along (hw : MW σ m) (hT : MT0 σ m t) (ok : TOK n t) {d fr la base : Nat} (hla : la ≤ 1) (hd : d ∈ dirT t) (hfr : fr + 2048 ≤ 163840) (hb : base ≤ 200) {f : Nat → Nat} (hz : la = 1 → PL σ m f ∧ AT σ m (dirT t) base ∧ ∀ i, fr ≤ i → i < fr + 2048 → f i = 0) {post : Int32 → Hp → Prop}
    (kk : ∀ σ' r, MFr m σ σ' P14 N0 → r ≤ 1408 → 0 < r → (la = 1 → PL σ' m (ov f fr (dirL t (dirT t) base d))) → (la = 0 → σ' = σ) → post (nI r) σ') : wX9_along m (nI d) (nI fr) (nI la) σ post := by
  have hN := ok.1.2.1
  obtain ⟨⟨hd1, hd2⟩, hd3⟩ := dirT_mem ok hd
  have hs29 := srt_len ok d
  have htl := dirT_len ok
  obtain ⟨tb, htb⟩ : ∃ tb, tb = dirT t := ⟨_, rfl⟩
  rw [← htb] at hz kk htl
  have hw0 := hw
  unfold wX9_along wX9_along_L9
  refine lpG4 (B := fun R x4 x5 x6 τ => wX9_along_B9 post R m (nI d) (nI fr) (nI la) x4 x5 x6 τ) (fun j x4 x5 x6 τ => ∃ c, c + j = (srt t d).length + 3 ∧ c ≤ (srt t d).length + 2 ∧ x4 = nI (dLc t tb base d c).length ∧ x5 = nI (if c < 2 then c else 2) ∧ x6 = cdO (bhO (srt t d) (c - 2)) ∧ MFr m σ τ P14 N0 ∧ (la = 1 → PL τ m (ov f fr (dLc t tb base d c))) ∧ (la = 0 → τ = σ)) ((srt t d).length + 3) ⟨0, by omega, by omega, rfl, rfl, rfl, MFr.refl, fun e => by simpa [dLc, ov_nil] using (hz e).1, fun _ => rfl⟩ ?_
  rintro j x4 x5 x6 τ R ⟨c, h1, h2, rfl, rfl, rfl, h6, h7, h8⟩ hR
  have hcl := dLc_len ok tb base d c h2
  have hwτ := h6.mw hw
  have hTτ := hT.f14 h6
  -- record number c, of node k
  have L68 : ∀ (k : Nat) (b' : Option Nat), c < (srt t d).length + 2 → k < tN t → tT t k = true → (tD t k = 1 → k ∈ tb) → dLc t tb base d (c + 1) = dLc t tb base d c ++ recP (if (if c < 2 then c else 2) < 2 then [if c < 2 then c else 2] else tI t k) (rSec t tb base k) (rSiz t k) (rFlg t k) → b' = bhO (srt t d) (c + 1 - 2) →
      wX9_along_L68 post R m (nI d) (nI fr) (nI la) (nI (dLc t tb base d c).length) (nI (if c < 2 then c else 2)) (cdO b') (nI k) τ := by
    intro k b' hc hk hkt hkd hdl hb'
    obtain ⟨s, hs⟩ : ∃ s, s = (if c < 2 then c else 2) := ⟨_, rfl⟩
    rw [← hs] at hdl ⊢
    have hs2 : s ≤ 2 := by rw [hs]; split <;> omega
    obtain ⟨n1, n2⟩ := nm_b ok hk hkt
    have hidl : (if s < 2 then [s] else tI t k).length ≤ 11 := by
      split
      · simp
      · exact idb_len12 n1
    have hev : ev (33 + (if s < 2 then [s] else tI t k).length) ≤ 44 := by unfold ev; omega
    have hll : (dLc t tb base d (c + 1)).length = (dLc t tb base d c).length + ev (33 + (if s < 2 then [s] else tI t k).length) := by rw [hdl, List.length_append, recP_len]
    have hcl2 := dLc_len ok tb base d (c + 1) (by omega)
    unfold wX9_along_L68
    refine ⟨mw_tag hwτ, m_recordId hwτ hTτ ok hs2 hk hkt ?_⟩
    rw [li_33, nI_add]
    refine m_even (by omega) ?_
    rw [show 33 + (if s < 2 then [s] else tI t k).length + (33 + (if s < 2 then [s] else tI t k).length) % 2 = ev (33 + (if s < 2 then [s] else tI t k).length) from rfl]
    rw [li_2048, pk_rem (by omega) (by decide) (by decide), nI_add, nI_leI (by omega) (by omega)]
    refine ⟨fun _ => ?_, fun z => by omega⟩
    have L132 : ∀ τ', MFr m σ τ' P14 N0 → (la = 1 → PL τ' m (ov f fr (dLc t tb base d (c + 1)))) → (la = 0 → τ' = σ) → wX9_along_L132 post R m (nI d) (nI fr) (nI la) (nI (dLc t tb base d c).length) (nI s) (cdO b') (nI (ev (33 + (if s < 2 then [s] else tI t k).length))) τ' := by
      intro τ' g1 g2 g3
      unfold wX9_along_L132 wX9_along_L153
      simp (disch := omega) only [atg_sI, afI_sI, afL_sI, afR_sI, aln_sI, aaI_sI, aaL_sI, aaR_sI, anx_sI, abc_sI, abs_sI, alo_sI, atg_wI, afI_wI, afL_wI, afR_wI, aln_wI, aaI_wI, aaL_wI, aaR_wI, anx_wI, abc_wI, abs_wI, alo_wI, atg_wL, afI_wL, afL_wL, afR_wL, aln_wL, aaI_wL, aaL_wL, aaR_wL, anx_wL, abc_wL, abs_wL, alo_wL, u2_e, u2_r, u2_i, u3_e, u3_k, u3_c, u3_r, mw_tag hw, mw_lo hw, mw_loa hw, mf_3 hw, mt_3 hw, ml_3 hw, mf_4 hw, mt_4 hw, ml_4 hw, mf_5 hw, mt_5 hw, ml_5 hw, mf_9 hw, mt_9 hw, ml_9 hw, mf_11 hw, mt_11 hw, ml_11 hw, mf_12 hw, mt_12 hw, ml_12 hw, mf_13 hw, mt_13 hw, ml_13 hw, mf_14 hw, mt_14 hw, ml_14 hw, mf_15 hw, mt_15 hw, ml_15 hw, mf_16 hw, mt_16 hw, ml_16 hw, mf_17 hw, mt_17 hw, ml_17 hw, mf_18 hw, mt_18 hw, ml_18 hw, mf_19 hw, mt_19 hw, ml_19 hw, mf_21 hw, mt_21 hw, ml_21 hw, mf_24 hw, mt_24 hw, ml_24 hw, mf_25 hw, mt_25 hw, ml_25 hw, mf_26 hw, mt_26 hw, ml_26 hw, mf_29 hw, mt_29 hw, ml_29 hw, mf_30 hw, mt_30 hw, ml_30 hw, mf_31 hw, mt_31 hw, ml_31 hw, mf_32 hw, mt_32 hw, ml_32 hw, mf_33 hw, mt_33 hw, ml_33 hw, mf_34 hw, mt_34 hw, ml_34 hw, mf_36 hw, mt_36 hw, ml_36 hw, mf_37 hw, mt_37 hw, ml_37 hw, mf_38 hw, mt_38 hw, ml_38 hw, mf_39 hw, mt_39 hw, ml_39 hw, mf_40 hw, mt_40 hw, ml_40 hw, li_0, li_1, li_2, li_3, li_4, li_5, li_6, li_7, li_8, li_9, li_10, li_12, li_14, li_16, li_17, li_18, li_19, li_20, li_25, li_28, li_30, li_31, li_32, li_33, li_34, li_40, li_46, li_48, li_49, li_57, li_59, li_65, li_67, li_68, li_75, li_77, li_80, li_82, li_90, li_95, li_100, li_128, li_130, li_132, li_136, li_140, li_148, li_156, li_200, li_255, li_256, li_400, li_700, li_2047, li_2048, li_2049, li_2050, li_2054, li_2056, li_4096, li_6000, li_163840, li_409600, li_819200, nI_add, pk_mul, pk_sub, nI_leI, nI_ltI, nI_eq, nI_clamp, vin_t, forall_eq, true_and, and_true, forall_const, implies_true]
      rw [← hll]
      refine ⟨fun e => hR (j - 1) _ _ _ _ (by omega) ⟨c + 1, by omega, by omega, rfl, ?_, by rw [hb'], g1, g2, g3⟩, fun e => hR (j - 1) _ _ _ _ (by omega) ⟨c + 1, by omega, by omega, rfl, ?_, by rw [hb'], g1, g2, g3⟩⟩
      · rw [if_neg (by rw [hs] at e; split at e <;> omega)]
      · have : c < 2 := by
          rw [hs] at e
          split at e
          · assumption
          · omega
        rw [hs, if_pos this]
        split
        · rfl
        · congr 1; omega
    unfold wX9_along_L116
    rw [li_0, nI_eq (by omega) (by omega)]
    refine ⟨fun e => L132 τ h6 (fun z => by omega) h8, fun e => ⟨mw_tag hwτ, ?_⟩⟩
    have hla1 : la = 1 := by omega
    obtain ⟨z1, z2, z3⟩ := hz hla1
    rw [nI_add]
    refine m_record hwτ hTτ ok (h7 hla1) (z2.f14 h6) hb htl hs2 hk hkt hkd (by omega) (fun i i1 i2 => ?_) (fun σ' a b => L132 σ' (h6.trans a) (fun _ => ?_) (fun z => by omega))
    · rw [ov_out (by omega)]
      exact z3 i (by omega) (by omega)
    · rw [ov_app rfl, ← hdl] at b
      exact b
  unfold wX9_along_B9
  have e2 : (nI (if c < 2 then c else 2) = (2 : Int32)) ↔ ¬ c < 2 := by
    rw [li_2, nI_eq (by split <;> omega) (by omega)]
    split <;> omega
  rw [e2]
  refine ⟨fun hc => ?_, fun hc => ?_⟩
  · have hc2 : c < 2 := Classical.byContradiction hc
    have hb' : bhO (srt t d) (c - 2) = bhO (srt t d) (c + 1 - 2) := by congr 1; omega
    unfold wX9_along_L32 wX9_along_L47 wX9_along_L51
    rw [if_pos hc2] at L68 ⊢
    rw [li_0, nI_eq (by omega) (by omega), li_1, nI_eq (by omega) (by omega), nI_eq (by omega) (by omega)]
    have r0 : c = 0 → wX9_along_L68 post R m (nI d) (nI fr) (nI la) (nI (dLc t tb base d c).length) (nI c) (cdO (bhO (srt t d) (c - 2))) (nI d) τ := by
      intro e
      refine L68 d _ (by omega) hd1 hd2 (fun _ => by rw [htb]; exact hd) ?_ hb'
      subst e
      simp [dLc, recS]
    have r1 : c = 1 → ∀ k, k = (if d = 0 then 0 else tP t d) → wX9_along_L68 post R m (nI d) (nI fr) (nI la) (nI (dLc t tb base d c).length) (nI c) (cdO (bhO (srt t d) (c - 2))) (nI k) τ := by
      intro e k hk
      have hpar : (k < tN t ∧ tT t k = true) ∧ k ∈ tb := by
        rw [hk, htb]
        split
        · rename_i e0
          rw [e0] at hd1 hd2 hd
          exact ⟨⟨hd1, hd2⟩, hd⟩
        · rename_i e0
          have := dirT_par ok hd e0
          exact ⟨(dirT_mem ok this).1, this⟩
      refine L68 k _ (by omega) hpar.1.1 hpar.1.2 (fun _ => hpar.2) ?_ hb'
      subst e
      rw [hk]
      simp [dLc, recS]
    refine ⟨fun e => r0 e, fun e => ⟨fun e3 => absurd (by omega) e3, fun e3 => ⟨fun e4 => ⟨fun e5 => absurd e3 e5, fun _ => ?_⟩, fun e4 => r1 e3 d (by rw [if_pos e4]; exact e4)⟩⟩⟩
    obtain ⟨c1, c2, -⟩ := hTτ.2.2 d hd1 hd2
    have hw := hwτ
    have hpl := (dep_s ok (by omega) hd1 hd2).1
    simp (disch := omega) only [atg_sI, afI_sI, afL_sI, afR_sI, aln_sI, aaI_sI, aaL_sI, aaR_sI, anx_sI, abc_sI, abs_sI, alo_sI, atg_wI, afI_wI, afL_wI, afR_wI, aln_wI, aaI_wI, aaL_wI, aaR_wI, anx_wI, abc_wI, abs_wI, alo_wI, atg_wL, afI_wL, afL_wL, afR_wL, aln_wL, aaI_wL, aaL_wL, aaR_wL, anx_wL, abc_wL, abs_wL, alo_wL, u2_e, u2_r, u2_i, u3_e, u3_k, u3_c, u3_r, mw_tag hw, mw_lo hw, mw_loa hw, mf_3 hw, mt_3 hw, ml_3 hw, mf_4 hw, mt_4 hw, ml_4 hw, mf_5 hw, mt_5 hw, ml_5 hw, mf_9 hw, mt_9 hw, ml_9 hw, mf_11 hw, mt_11 hw, ml_11 hw, mf_12 hw, mt_12 hw, ml_12 hw, mf_13 hw, mt_13 hw, ml_13 hw, mf_14 hw, mt_14 hw, ml_14 hw, mf_15 hw, mt_15 hw, ml_15 hw, mf_16 hw, mt_16 hw, ml_16 hw, mf_17 hw, mt_17 hw, ml_17 hw, mf_18 hw, mt_18 hw, ml_18 hw, mf_19 hw, mt_19 hw, ml_19 hw, mf_21 hw, mt_21 hw, ml_21 hw, mf_24 hw, mt_24 hw, ml_24 hw, mf_25 hw, mt_25 hw, ml_25 hw, mf_26 hw, mt_26 hw, ml_26 hw, mf_29 hw, mt_29 hw, ml_29 hw, mf_30 hw, mt_30 hw, ml_30 hw, mf_31 hw, mt_31 hw, ml_31 hw, mf_32 hw, mt_32 hw, ml_32 hw, mf_33 hw, mt_33 hw, ml_33 hw, mf_34 hw, mt_34 hw, ml_34 hw, mf_36 hw, mt_36 hw, ml_36 hw, mf_37 hw, mt_37 hw, ml_37 hw, mf_38 hw, mt_38 hw, ml_38 hw, mf_39 hw, mt_39 hw, ml_39 hw, mf_40 hw, mt_40 hw, ml_40 hw, li_0, li_1, li_2, li_3, li_4, li_5, li_6, li_7, li_8, li_9, li_10, li_12, li_14, li_16, li_17, li_18, li_19, li_20, li_25, li_28, li_30, li_31, li_32, li_33, li_34, li_40, li_46, li_48, li_49, li_57, li_59, li_65, li_67, li_68, li_75, li_77, li_80, li_82, li_90, li_95, li_100, li_128, li_130, li_132, li_136, li_140, li_148, li_156, li_200, li_255, li_256, li_400, li_700, li_2047, li_2048, li_2049, li_2050, li_2054, li_2056, li_4096, li_6000, li_163840, li_409600, li_819200, nI_add, pk_mul, pk_sub, nI_leI, nI_ltI, nI_eq, nI_clamp, vin_t, forall_eq, true_and, and_true, forall_const, implies_true, c2]
    exact r1 e3 (tP t d) (by rw [if_neg e4])
  · rw [if_neg hc] at L68 ⊢
    refine ⟨mw_tag hwτ, m_nextI hwτ hTτ ok hd1 (by omega) ?_⟩
    by_cases hcl3 : c - 2 < (srt t d).length
    · rw [List.getElem?_eq_getElem hcl3]
      rw [show cdO (some (srt t d)[c - 2]) = nI (srt t d)[c - 2] from rfl]
      have hm : (srt t d)[c - 2] ∈ srt t d := List.getElem_mem _
      obtain ⟨⟨a1, a2⟩, a3, a4⟩ := ((srt_ok ok d).2.1 _).mp hm
      refine ⟨fun _ => ?_, fun z => absurd (nI_pos' (by omega)) z⟩
      unfold wX9_along_L32 wX9_along_L51
      have L := L68 (srt t d)[c - 2] (some (srt t d)[c - 2]) (by omega) a1 a2 (fun e => by rw [htb]; exact dirT_all ok hd hm e) (by
        rw [if_neg (by omega), show c + 1 = (c - 2) + 3 by omega, dLc_s tb base d hcl3, show c - 2 + 2 = c by omega]; rfl) (by
        unfold bhO
        rw [if_neg (by omega), show c + 1 - 2 - 1 = c - 2 by omega, List.getElem?_eq_getElem hcl3])
      exact ⟨fun z => absurd z (by decide), fun _ => ⟨fun _ => ⟨fun _ => L, fun z => absurd z (by decide)⟩, fun z => absurd z (by decide)⟩⟩
    · rw [List.getElem?_eq_none (by omega)]
      refine ⟨fun z => absurd z (by decide), fun _ => ?_⟩
      have hce : c = (srt t d).length + 2 := by omega
      have hll := dLc_len ok tb base d c h2
      have h0 : 0 < (dLc t tb base d c).length := by rw [hce]; unfold dLc; simp [recS_len]; omega
      refine kk τ _ h6 (by omega) h0 (fun e => ?_) h8
      have := h7 e
      rw [hce, dLc_all] at this
      exact this
end
