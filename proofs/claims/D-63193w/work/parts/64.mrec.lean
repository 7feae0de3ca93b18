/-! the reference: a record; along a directory; measuring -/
section
variable {σ : Hp} {m n : Nat} {t : TT}
/-- directories' sectors and lengths -/
def AT (σ : Hp) (m : Nat) (tb : List Nat) (base : Nat) : Prop := ∀ k, k ∈ tb → aI_ σ (m + 16) k = nI (base + 20 + plc tb k) ∧ aI_ σ (m + 17) k = nI 1
theorem AT.fr {σ' : Hp} {tb : List Nat} {base : Nat} {P : Nat → Nat → Prop} {Q : Nat → Prop} (h : AT σ m tb base) (f : MFr m σ σ' P Q) (p : ∀ i, ¬ P 16 i ∧ ¬ P 17 i) : AT σ' m tb base := fun k hk => ⟨by rw [f.a (p k).1]; exact (h k hk).1, by rw [f.a (p k).2]; exact (h k hk).2⟩
theorem AT.f14 {σ' : Hp} {tb : List Nat} {base : Nat} (h : AT σ m tb base) (f : MFr m σ σ' P14 N0) : AT σ' m tb base := h.fr f (fun i => by unfold P14; omega)
theorem DTb.f14 {σ' : Hp} {tb : List Nat} (h : DTb σ m tb) (f : MFr m σ σ' P14 N0) : DTb σ' m tb := ⟨by rw [f.f (fun z => z)]; exact h.1, fun i hi => by rw [f.a (by unfold P14; omega)]; exact h.2 i hi⟩
theorem m_rec114 (hw : MW σ m) (hT : MT0 σ m t) (ok : TOK n t) {f : Nat → Nat} (h : PL σ m f) {p s k fl : Nat} {id : List Nat} (hs : s ≤ 2) (hk : k < tN t) (hkt : tT t k = true) (hid : id = if s < 2 then [s] else tI t k) (hp : p + 50 ≤ 163840) {post : Hp → Prop} (kk : ∀ σ', MFr m σ σ' P14 N0 → PL σ' m (ov (ov (ov (ov (ov f (p + 25) [fl]) (p + 28) (lowB 2 1)) (p + 30) (highB 2 1)) (p + 32) [id.length]) (p + 33) id) → post σ') :
    wX9_record_L114 post m (nI p) (nI s) (nI k) (nI id.length) (nI fl) (nI (p + 25)) (m + 14) σ := by
  unfold wX9_record_L114
  rw [show (nI fl).toInt8.toInt32 = sb_b fl from rfl, nar_b]
  simp (disch := omega) only [atg_sI, afI_sI, afL_sI, afR_sI, aln_sI, aaI_sI, aaL_sI, aaR_sI, anx_sI, abc_sI, abs_sI, alo_sI, atg_wI, afI_wI, afL_wI, afR_wI, aln_wI, aaI_wI, aaL_wI, aaR_wI, anx_wI, abc_wI, abs_wI, alo_wI, atg_wL, afI_wL, afL_wL, afR_wL, aln_wL, aaI_wL, aaL_wL, aaR_wL, anx_wL, abc_wL, abs_wL, alo_wL, u2_e, u2_r, u2_i, u3_e, u3_k, u3_c, u3_r, mw_tag hw, mw_lo hw, mw_loa hw, mf_3 hw, mt_3 hw, ml_3 hw, mf_4 hw, mt_4 hw, ml_4 hw, mf_5 hw, mt_5 hw, ml_5 hw, mf_9 hw, mt_9 hw, ml_9 hw, mf_11 hw, mt_11 hw, ml_11 hw, mf_12 hw, mt_12 hw, ml_12 hw, mf_13 hw, mt_13 hw, ml_13 hw, mf_14 hw, mt_14 hw, ml_14 hw, mf_15 hw, mt_15 hw, ml_15 hw, mf_16 hw, mt_16 hw, ml_16 hw, mf_17 hw, mt_17 hw, ml_17 hw, mf_18 hw, mt_18 hw, ml_18 hw, mf_19 hw, mt_19 hw, ml_19 hw, mf_21 hw, mt_21 hw, ml_21 hw, mf_24 hw, mt_24 hw, ml_24 hw, mf_25 hw, mt_25 hw, ml_25 hw, mf_26 hw, mt_26 hw, ml_26 hw, mf_29 hw, mt_29 hw, ml_29 hw, mf_30 hw, mt_30 hw, ml_30 hw, mf_31 hw, mt_31 hw, ml_31 hw, mf_32 hw, mt_32 hw, ml_32 hw, mf_33 hw, mt_33 hw, ml_33 hw, mf_34 hw, mt_34 hw, ml_34 hw, mf_36 hw, mt_36 hw, ml_36 hw, mf_37 hw, mt_37 hw, ml_37 hw, mf_38 hw, mt_38 hw, ml_38 hw, mf_39 hw, mt_39 hw, ml_39 hw, mf_40 hw, mt_40 hw, ml_40 hw, li_0, li_1, li_2, li_3, li_4, li_5, li_6, li_7, li_8, li_9, li_10, li_12, li_14, li_16, li_17, li_18, li_19, li_20, li_25, li_28, li_30, li_31, li_32, li_33, li_34, li_40, li_46, li_48, li_49, li_57, li_59, li_65, li_67, li_68, li_75, li_77, li_80, li_82, li_90, li_95, li_100, li_128, li_130, li_132, li_136, li_140, li_148, li_156, li_200, li_255, li_256, li_400, li_700, li_2047, li_2048, li_2049, li_2050, li_2054, li_2056, li_4096, li_6000, li_163840, li_409600, li_819200, nI_add, pk_mul, pk_sub, nI_leI, nI_ltI, nI_eq, nI_clamp, vin_t, forall_eq, true_and, and_true, forall_const, implies_true]
  have f1 : MFr m σ (wI_ σ (m + 14) (p + 25) (sb_b fl)) P14 N0 := by (repeat' first | with_reducible exact MFr.refl | with_reducible assumption | with_reducible apply MFr.wI' | with_reducible apply MFr.wL' | with_reducible apply MFr.sI' | omega | trivial | exact ⟨by omega, by omega⟩ | exact rfl)
  refine m_both (f1.mw hw) (PL_w h) (by omega) (by omega) (by omega) (fun σ2 a2 b2 => ?_)
  have f2 := f1.trans a2
  have hw := f2.mw hw
  simp (disch := omega) only [atg_sI, afI_sI, afL_sI, afR_sI, aln_sI, aaI_sI, aaL_sI, aaR_sI, anx_sI, abc_sI, abs_sI, alo_sI, atg_wI, afI_wI, afL_wI, afR_wI, aln_wI, aaI_wI, aaL_wI, aaR_wI, anx_wI, abc_wI, abs_wI, alo_wI, atg_wL, afI_wL, afL_wL, afR_wL, aln_wL, aaI_wL, aaL_wL, aaR_wL, anx_wL, abc_wL, abs_wL, alo_wL, u2_e, u2_r, u2_i, u3_e, u3_k, u3_c, u3_r, mw_tag hw, mw_lo hw, mw_loa hw, mf_3 hw, mt_3 hw, ml_3 hw, mf_4 hw, mt_4 hw, ml_4 hw, mf_5 hw, mt_5 hw, ml_5 hw, mf_9 hw, mt_9 hw, ml_9 hw, mf_11 hw, mt_11 hw, ml_11 hw, mf_12 hw, mt_12 hw, ml_12 hw, mf_13 hw, mt_13 hw, ml_13 hw, mf_14 hw, mt_14 hw, ml_14 hw, mf_15 hw, mt_15 hw, ml_15 hw, mf_16 hw, mt_16 hw, ml_16 hw, mf_17 hw, mt_17 hw, ml_17 hw, mf_18 hw, mt_18 hw, ml_18 hw, mf_19 hw, mt_19 hw, ml_19 hw, mf_21 hw, mt_21 hw, ml_21 hw, mf_24 hw, mt_24 hw, ml_24 hw, mf_25 hw, mt_25 hw, ml_25 hw, mf_26 hw, mt_26 hw, ml_26 hw, mf_29 hw, mt_29 hw, ml_29 hw, mf_30 hw, mt_30 hw, ml_30 hw, mf_31 hw, mt_31 hw, ml_31 hw, mf_32 hw, mt_32 hw, ml_32 hw, mf_33 hw, mt_33 hw, ml_33 hw, mf_34 hw, mt_34 hw, ml_34 hw, mf_36 hw, mt_36 hw, ml_36 hw, mf_37 hw, mt_37 hw, ml_37 hw, mf_38 hw, mt_38 hw, ml_38 hw, mf_39 hw, mt_39 hw, ml_39 hw, mf_40 hw, mt_40 hw, ml_40 hw, li_0, li_1, li_2, li_3, li_4, li_5, li_6, li_7, li_8, li_9, li_10, li_12, li_14, li_16, li_17, li_18, li_19, li_20, li_25, li_28, li_30, li_31, li_32, li_33, li_34, li_40, li_46, li_48, li_49, li_57, li_59, li_65, li_67, li_68, li_75, li_77, li_80, li_82, li_90, li_95, li_100, li_128, li_130, li_132, li_136, li_140, li_148, li_156, li_200, li_255, li_256, li_400, li_700, li_2047, li_2048, li_2049, li_2050, li_2054, li_2056, li_4096, li_6000, li_163840, li_409600, li_819200, nI_add, pk_mul, pk_sub, nI_leI, nI_ltI, nI_eq, nI_clamp, vin_t, forall_eq, true_and, and_true, forall_const, implies_true]
  rw [show (nI id.length).toInt8.toInt32 = sb_b id.length from rfl, nar_b]
  have f3 : MFr m σ (wI_ σ2 (m + 14) (p + 32) (sb_b id.length)) P14 N0 := by (repeat' first | with_reducible exact MFr.refl | with_reducible assumption | with_reducible apply MFr.wI' | with_reducible apply MFr.wL' | with_reducible apply MFr.sI' | omega | trivial | exact ⟨by omega, by omega⟩ | exact rfl)
  exact m_rec141 (f3.mw ‹MW σ m›) (hT.f14 f3) ok (PL_w b2) hs hk hkt hid hp (fun σ3 a3 b3 => kk σ3 (f3.trans a3) b3)
theorem m_record (hw : MW σ m) (hT : MT0 σ m t) (ok : TOK n t) {f : Nat → Nat} (h : PL σ m f) {p s k base : Nat} {tb : List Nat} (hA : AT σ m tb base) (hb : base ≤ 200) (htb : tb.length ≤ 30) (hs : s ≤ 2) (hk : k < tN t) (hkt : tT t k = true) (hkd : tD t k = 1 → k ∈ tb) (hp : p + 50 ≤ 163840)
    (hz : ∀ i, p ≤ i → i < p + ev (33 + (if s < 2 then [s] else tI t k).length) → f i = 0) {post : Hp → Prop}
    (kk : ∀ σ', MFr m σ σ' P14 N0 → PL σ' m (ov f p (recP (if s < 2 then [s] else tI t k) (rSec t tb base k) (rSiz t k) (rFlg t k))) → post σ') : wX9_record m (nI p) (nI s) (nI k) σ post := by
  have hN := ok.1.2.1
  obtain ⟨n1, n2⟩ := nm_b ok hk hkt
  have hd := root_D ok hk hkt
  obtain ⟨id, hid⟩ : ∃ id, id = (if s < 2 then [s] else tI t k) := ⟨_, rfl⟩
  rw [← hid] at hz kk
  have hlen : id.length ≤ 11 := by
    rw [hid]; split
    · simp
    · exact idb_len12 n1
  have hpl : tD t k = 1 → plc tb k < tb.length := fun e => List.idxOf_lt_length_of_mem (hkd e)
  have hsz : tS t k ≤ 409600 ∧ tX t k ≤ 200 := by
    rcases Nat.eq_zero_or_pos k with e | e
    · rw [e, ok.2.1.2.2.2.2.1, ok.2.1.2.2.2.2.2.2]; omega
    · exact ⟨(ok.2.2.2.1 k e hk hkt).2.2.2.1, (ok.2.2.2.1 k e hk hkt).2.2.2.2.1⟩
  have hw0 := hw
  have hbs : rSec t tb base k < 2 ^ 32 := by
    unfold rSec
    split
    · rename_i e
      have := hpl e; omega
    · omega
  have hbz : rSiz t k < 2 ^ 32 := by unfold rSiz; split <;> omega
  -- the sector
  have L52 : ∀ τ g, MFr m σ τ P14 N0 → PL τ m g → (∀ σ', MFr m σ σ' P14 N0 → PL σ' m (ov (ov (ov (ov (ov (ov (ov (ov (ov g (p + 2) (lowB 4 (rSec t tb base k))) (p + 6) (highB 4 (rSec t tb base k))) (p + 10) (lowB 4 (rSiz t k))) (p + 14) (highB 4 (rSiz t k))) (p + 25) [rFlg t k]) (p + 28) (lowB 2 1)) (p + 30) (highB 2 1)) (p + 32) [id.length]) (p + 33) id) → post σ') →
      wX9_record_L52 post m (nI p) (nI s) (nI k) (nI id.length) (nI (rSec t tb base k)) (nI 4) (nI (p + 2)) m τ := by
    intro τ g fτ hτ kτ
    unfold wX9_record_L52
    refine ⟨mw_tag (fτ.mw hw), m_both (fτ.mw hw) hτ (by omega) (by omega) hbs (fun σ2 a2 b2 => ?_)⟩
    have f2 := fτ.trans a2
    have hw := f2.mw hw
    obtain ⟨c1, c2, c3, c4, -⟩ := (hT.f14 f2).2.2 k hk hkt
    have L89 : wX9_record_L89 post m (nI p) (nI s) (nI k) (nI id.length) (nI (rSiz t k)) (nI 4) (nI (p + 10)) m σ2 := by
      unfold wX9_record_L89
      refine ⟨mw_tag hw, m_both hw b2 (by omega) (by omega) hbz (fun σ3 a3 b3 => ?_)⟩
      have f3 := f2.trans a3
      have hw := f3.mw hw0
      obtain ⟨d1, -⟩ := (hT.f14 f3).2.2 k hk hkt
      have L114 := m_rec114 (post := post) hw (hT.f14 f3) ok b3 (p := p) (fl := rFlg t k) hs hk hkt hid hp (fun σ4 a4 b4 => kτ σ4 (f3.trans a4) b4)
      simp (disch := omega) only [atg_sI, afI_sI, afL_sI, afR_sI, aln_sI, aaI_sI, aaL_sI, aaR_sI, anx_sI, abc_sI, abs_sI, alo_sI, atg_wI, afI_wI, afL_wI, afR_wI, aln_wI, aaI_wI, aaL_wI, aaR_wI, anx_wI, abc_wI, abs_wI, alo_wI, atg_wL, afI_wL, afL_wL, afR_wL, aln_wL, aaI_wL, aaL_wL, aaR_wL, anx_wL, abc_wL, abs_wL, alo_wL, u2_e, u2_r, u2_i, u3_e, u3_k, u3_c, u3_r, mw_tag hw, mw_lo hw, mw_loa hw, mf_3 hw, mt_3 hw, ml_3 hw, mf_4 hw, mt_4 hw, ml_4 hw, mf_5 hw, mt_5 hw, ml_5 hw, mf_9 hw, mt_9 hw, ml_9 hw, mf_11 hw, mt_11 hw, ml_11 hw, mf_12 hw, mt_12 hw, ml_12 hw, mf_13 hw, mt_13 hw, ml_13 hw, mf_14 hw, mt_14 hw, ml_14 hw, mf_15 hw, mt_15 hw, ml_15 hw, mf_16 hw, mt_16 hw, ml_16 hw, mf_17 hw, mt_17 hw, ml_17 hw, mf_18 hw, mt_18 hw, ml_18 hw, mf_19 hw, mt_19 hw, ml_19 hw, mf_21 hw, mt_21 hw, ml_21 hw, mf_24 hw, mt_24 hw, ml_24 hw, mf_25 hw, mt_25 hw, ml_25 hw, mf_26 hw, mt_26 hw, ml_26 hw, mf_29 hw, mt_29 hw, ml_29 hw, mf_30 hw, mt_30 hw, ml_30 hw, mf_31 hw, mt_31 hw, ml_31 hw, mf_32 hw, mt_32 hw, ml_32 hw, mf_33 hw, mt_33 hw, ml_33 hw, mf_34 hw, mt_34 hw, ml_34 hw, mf_36 hw, mt_36 hw, ml_36 hw, mf_37 hw, mt_37 hw, ml_37 hw, mf_38 hw, mt_38 hw, ml_38 hw, mf_39 hw, mt_39 hw, ml_39 hw, mf_40 hw, mt_40 hw, ml_40 hw, li_0, li_1, li_2, li_3, li_4, li_5, li_6, li_7, li_8, li_9, li_10, li_12, li_14, li_16, li_17, li_18, li_19, li_20, li_25, li_28, li_30, li_31, li_32, li_33, li_34, li_40, li_46, li_48, li_49, li_57, li_59, li_65, li_67, li_68, li_75, li_77, li_80, li_82, li_90, li_95, li_100, li_128, li_130, li_132, li_136, li_140, li_148, li_156, li_200, li_255, li_256, li_400, li_700, li_2047, li_2048, li_2049, li_2050, li_2054, li_2056, li_4096, li_6000, li_163840, li_409600, li_819200, nI_add, pk_mul, pk_sub, nI_leI, nI_ltI, nI_eq, nI_clamp, vin_t, forall_eq, true_and, and_true, forall_const, implies_true, d1]
      unfold rFlg at L114
      refine ⟨fun e => ?_, fun e => ?_⟩
      · rw [if_neg (by omega)] at L114; exact L114
      · rw [if_pos (by omega)] at L114; exact L114
    simp (disch := omega) only [atg_sI, afI_sI, afL_sI, afR_sI, aln_sI, aaI_sI, aaL_sI, aaR_sI, anx_sI, abc_sI, abs_sI, alo_sI, atg_wI, afI_wI, afL_wI, afR_wI, aln_wI, aaI_wI, aaL_wI, aaR_wI, anx_wI, abc_wI, abs_wI, alo_wI, atg_wL, afI_wL, afL_wL, afR_wL, aln_wL, aaI_wL, aaL_wL, aaR_wL, anx_wL, abc_wL, abs_wL, alo_wL, u2_e, u2_r, u2_i, u3_e, u3_k, u3_c, u3_r, mw_tag hw, mw_lo hw, mw_loa hw, mf_3 hw, mt_3 hw, ml_3 hw, mf_4 hw, mt_4 hw, ml_4 hw, mf_5 hw, mt_5 hw, ml_5 hw, mf_9 hw, mt_9 hw, ml_9 hw, mf_11 hw, mt_11 hw, ml_11 hw, mf_12 hw, mt_12 hw, ml_12 hw, mf_13 hw, mt_13 hw, ml_13 hw, mf_14 hw, mt_14 hw, ml_14 hw, mf_15 hw, mt_15 hw, ml_15 hw, mf_16 hw, mt_16 hw, ml_16 hw, mf_17 hw, mt_17 hw, ml_17 hw, mf_18 hw, mt_18 hw, ml_18 hw, mf_19 hw, mt_19 hw, ml_19 hw, mf_21 hw, mt_21 hw, ml_21 hw, mf_24 hw, mt_24 hw, ml_24 hw, mf_25 hw, mt_25 hw, ml_25 hw, mf_26 hw, mt_26 hw, ml_26 hw, mf_29 hw, mt_29 hw, ml_29 hw, mf_30 hw, mt_30 hw, ml_30 hw, mf_31 hw, mt_31 hw, ml_31 hw, mf_32 hw, mt_32 hw, ml_32 hw, mf_33 hw, mt_33 hw, ml_33 hw, mf_34 hw, mt_34 hw, ml_34 hw, mf_36 hw, mt_36 hw, ml_36 hw, mf_37 hw, mt_37 hw, ml_37 hw, mf_38 hw, mt_38 hw, ml_38 hw, mf_39 hw, mt_39 hw, ml_39 hw, mf_40 hw, mt_40 hw, ml_40 hw, li_0, li_1, li_2, li_3, li_4, li_5, li_6, li_7, li_8, li_9, li_10, li_12, li_14, li_16, li_17, li_18, li_19, li_20, li_25, li_28, li_30, li_31, li_32, li_33, li_34, li_40, li_46, li_48, li_49, li_57, li_59, li_65, li_67, li_68, li_75, li_77, li_80, li_82, li_90, li_95, li_100, li_128, li_130, li_132, li_136, li_140, li_148, li_156, li_200, li_255, li_256, li_400, li_700, li_2047, li_2048, li_2049, li_2050, li_2054, li_2056, li_4096, li_6000, li_163840, li_409600, li_819200, nI_add, pk_mul, pk_sub, nI_leI, nI_ltI, nI_eq, nI_clamp, vin_t, forall_eq, true_and, and_true, forall_const, implies_true, c1, c4]
    unfold rSiz at L89
    refine ⟨fun e => ?_, fun e => ?_⟩
    · rw [if_neg (by omega)] at L89; exact L89
    · rw [if_pos (by omega)] at L89
      rw [((hA.f14 f2) k (hkd (by omega))).2, pk_mul]
      exact L89
  unfold wX9_record
  refine ⟨mw_tag hw, m_recordId hw hT ok hs hk hkt ?_⟩
  rw [← hid, li_33, nI_add]
  refine m_even (by omega) ?_
  rw [show 33 + id.length + (33 + id.length) % 2 = ev (33 + id.length) from rfl]
  have hev : ev (33 + id.length) < 100 := by unfold ev; omega
  rw [show (nI (ev (33 + id.length))).toInt8.toInt32 = sb_b (ev (33 + id.length)) from rfl, nar_b]
  obtain ⟨c1, c2, c3, c4, c5, c6, c7⟩ := hT.2.2 k hk hkt
  simp (disch := omega) only [atg_sI, afI_sI, afL_sI, afR_sI, aln_sI, aaI_sI, aaL_sI, aaR_sI, anx_sI, abc_sI, abs_sI, alo_sI, atg_wI, afI_wI, afL_wI, afR_wI, aln_wI, aaI_wI, aaL_wI, aaR_wI, anx_wI, abc_wI, abs_wI, alo_wI, atg_wL, afI_wL, afL_wL, afR_wL, aln_wL, aaI_wL, aaL_wL, aaR_wL, anx_wL, abc_wL, abs_wL, alo_wL, u2_e, u2_r, u2_i, u3_e, u3_k, u3_c, u3_r, mw_tag hw, mw_lo hw, mw_loa hw, mf_3 hw, mt_3 hw, ml_3 hw, mf_4 hw, mt_4 hw, ml_4 hw, mf_5 hw, mt_5 hw, ml_5 hw, mf_9 hw, mt_9 hw, ml_9 hw, mf_11 hw, mt_11 hw, ml_11 hw, mf_12 hw, mt_12 hw, ml_12 hw, mf_13 hw, mt_13 hw, ml_13 hw, mf_14 hw, mt_14 hw, ml_14 hw, mf_15 hw, mt_15 hw, ml_15 hw, mf_16 hw, mt_16 hw, ml_16 hw, mf_17 hw, mt_17 hw, ml_17 hw, mf_18 hw, mt_18 hw, ml_18 hw, mf_19 hw, mt_19 hw, ml_19 hw, mf_21 hw, mt_21 hw, ml_21 hw, mf_24 hw, mt_24 hw, ml_24 hw, mf_25 hw, mt_25 hw, ml_25 hw, mf_26 hw, mt_26 hw, ml_26 hw, mf_29 hw, mt_29 hw, ml_29 hw, mf_30 hw, mt_30 hw, ml_30 hw, mf_31 hw, mt_31 hw, ml_31 hw, mf_32 hw, mt_32 hw, ml_32 hw, mf_33 hw, mt_33 hw, ml_33 hw, mf_34 hw, mt_34 hw, ml_34 hw, mf_36 hw, mt_36 hw, ml_36 hw, mf_37 hw, mt_37 hw, ml_37 hw, mf_38 hw, mt_38 hw, ml_38 hw, mf_39 hw, mt_39 hw, ml_39 hw, mf_40 hw, mt_40 hw, ml_40 hw, li_0, li_1, li_2, li_3, li_4, li_5, li_6, li_7, li_8, li_9, li_10, li_12, li_14, li_16, li_17, li_18, li_19, li_20, li_25, li_28, li_30, li_31, li_32, li_33, li_34, li_40, li_46, li_48, li_49, li_57, li_59, li_65, li_67, li_68, li_75, li_77, li_80, li_82, li_90, li_95, li_100, li_128, li_130, li_132, li_136, li_140, li_148, li_156, li_200, li_255, li_256, li_400, li_700, li_2047, li_2048, li_2049, li_2050, li_2054, li_2056, li_4096, li_6000, li_163840, li_409600, li_819200, nI_add, pk_mul, pk_sub, nI_leI, nI_ltI, nI_eq, nI_clamp, vin_t, forall_eq, true_and, and_true, forall_const, implies_true, c1, c7]
  have f1 : MFr m σ (wI_ σ (m + 14) p (sb_b (ev (33 + id.length)))) P14 N0 := by (repeat' first | with_reducible exact MFr.refl | with_reducible assumption | with_reducible apply MFr.wI' | with_reducible apply MFr.wL' | with_reducible apply MFr.sI' | omega | trivial | exact ⟨by omega, by omega⟩ | exact rfl)
  have L := L52 _ _ f1 (PL_w h) (fun σ' a b => kk σ' a (by rw [rec_ov hz] at b; exact b))
  unfold rSec at L
  refine ⟨fun e => ?_, fun e => ?_⟩
  · rw [if_neg (by omega)] at L; exact L
  · rw [if_pos (by omega)] at L
    rw [(hA k (hkd (by omega))).1]
    exact L
end
