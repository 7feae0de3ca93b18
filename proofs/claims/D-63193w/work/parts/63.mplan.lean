/-! bytes of numbers; the reference writes its plan -/
theorem shB {a : Nat} (ha : a < 2 ^ 32) : ∀ k, k < 4 → (nI a >>> (nI (8 * k) &&& 31)).toInt8.toInt32 = sb_b (a / 256 ^ k % 256) := by
  intro k hk
  rw [byt_b]
  congr 1
  unfold byt
  have key : ∀ n, n ≤ 24 → ((BitVec.ofNat 32 a).sshiftRight n).toNat % 256 = a / 2 ^ n % 256 := by
    intro n hn
    have h1 : ((BitVec.ofNat 32 a).sshiftRight n).toNat % 256 = (((BitVec.ofNat 32 a).sshiftRight n).setWidth 8).toNat := by simp
    have h2 : a / 2 ^ n % 256 = (BitVec.ofNat 8 (a / 2 ^ n)).toNat := by simp
    rw [h1, h2]
    congr 1
    apply BitVec.eq_of_getLsbD_eq
    intro i hi
    rw [BitVec.getLsbD_setWidth, BitVec.getLsbD_sshiftRight, BitVec.getLsbD_ofNat]
    rw [if_pos (by omega), BitVec.getLsbD_ofNat, Nat.testBit_div_two_pow]
    have : n + i < 32 := by omega
    simp [hi, this, Nat.add_comm]
    omega
  have e : k = 0 ∨ k = 1 ∨ k = 2 ∨ k = 3 := by omega
  have hb : ∀ s : Int32, (nI a >>> s).toBitVec = (BitVec.ofNat 32 a).sshiftRight (s.toBitVec.smod 32).toNat := fun s => by rw [Int32.toBitVec_shiftRight]; rfl
  rcases e with e | e | e | e <;> subst e
  · rw [hb, show ((nI (8 * 0) &&& 31 : Int32).toBitVec.smod 32).toNat = 0 by decide, key 0 (by omega)]
  · rw [hb, show ((nI (8 * 1) &&& 31 : Int32).toBitVec.smod 32).toNat = 8 by decide, key 8 (by omega)]
  · rw [hb, show ((nI (8 * 2) &&& 31 : Int32).toBitVec.smod 32).toNat = 16 by decide, key 16 (by omega)]
  · rw [hb, show ((nI (8 * 3) &&& 31 : Int32).toBitVec.smod 32).toNat = 24 by decide, key 24 (by omega)]
theorem nar_b (c : Nat) : vp_nar .byte (sb_b c) = sb_b c := by
  unfold sb_b
  exact pk_vb _
theorem nI_b {c : Nat} (h : c < 256) : (nI c).toInt8.toInt32 = sb_b c := rfl
theorem ov_gap' {f : Nat → Nat} {p q g : Nat} {a b : List Nat} (h : q = p + a.length + g) (hz : ∀ i, p + a.length ≤ i → i < q → f i = 0) : ov (ov f p a) q b = ov f p (a ++ (List.replicate g 0 ++ b)) := by
  rw [← ov_app (q := p + a.length) rfl, ← ov_app (q := q) (by rw [List.length_replicate]; omega)]
  rw [ov_z (p := p + a.length)]
  intro i h1 h2
  rw [ov_out (by omega)]
  exact hz i h1 (by omega)
theorem ov_pad {f : Nat → Nat} {p g : Nat} {a : List Nat} (hz : ∀ i, p + a.length ≤ i → i < p + a.length + g → f i = 0) : ov f p a = ov f p (a ++ List.replicate g 0) := by
  rw [← ov_app (q := p + a.length) rfl, ov_z (p := p + a.length)]
  intro i h1 h2
  rw [ov_out (by omega)]
  exact hz i h1 h2
theorem recP_len (id : List Nat) (s z fl : Nat) : (recP id s z fl).length = ev (33 + id.length) := by
  unfold recP ev
  simp [lowB_len, highB_len]
  omega
/-- a record's writes, one behind the other -/
theorem rec_ov {f : Nat → Nat} {p sc sz fl : Nat} {id : List Nat} (hz : ∀ i, p ≤ i → i < p + ev (33 + id.length) → f i = 0) :
    ov (ov (ov (ov (ov (ov (ov (ov (ov (ov f p [ev (33 + id.length)]) (p + 2) (lowB 4 sc)) (p + 6) (highB 4 sc)) (p + 10) (lowB 4 sz)) (p + 14) (highB 4 sz)) (p + 25) [fl]) (p + 28) (lowB 2 1)) (p + 30) (highB 2 1)) (p + 32) [id.length]) (p + 33) id = ov f p (recP id sc sz fl) := by
  have hev : 33 + id.length ≤ ev (33 + id.length) ∧ ev (33 + id.length) = 33 + id.length + (33 + id.length) % 2 := by unfold ev; omega
  have z : ∀ (A : List Nat) (q : Nat), q ≤ p + (33 + id.length) → ∀ i, p + A.length ≤ i → i < q → f i = 0 := fun A q hq i h1 h2 => hz i (by omega) (by omega)
  rw [ov_gap' (f := f) (p := p) (q := p + 2) (g := 1) (a := [ev (33 + id.length)]) (b := lowB 4 sc) (by simp) (z _ _ (by omega))]
  obtain ⟨A1, h1⟩ : ∃ A, A = [ev (33 + id.length)] ++ (List.replicate 1 0 ++ lowB 4 sc) := ⟨_, rfl⟩
  have l1 : A1.length = 6 := by rw [h1]; simp [lowB_len]
  rw [← h1, ov_app (f := f) (p := p) (q := p + 6) (a := A1) (b := highB 4 sc) (by omega)]
  obtain ⟨A2, h2⟩ : ∃ A, A = A1 ++ highB 4 sc := ⟨_, rfl⟩
  have l2 : A2.length = 10 := by rw [h2]; simp [highB_len, l1]
  rw [← h2, ov_app (f := f) (p := p) (q := p + 10) (a := A2) (b := lowB 4 sz) (by omega)]
  obtain ⟨A3, h3⟩ : ∃ A, A = A2 ++ lowB 4 sz := ⟨_, rfl⟩
  have l3 : A3.length = 14 := by rw [h3]; simp [lowB_len, l2]
  rw [← h3, ov_app (f := f) (p := p) (q := p + 14) (a := A3) (b := highB 4 sz) (by omega)]
  obtain ⟨A4, h4⟩ : ∃ A, A = A3 ++ highB 4 sz := ⟨_, rfl⟩
  have l4 : A4.length = 18 := by rw [h4]; simp [highB_len, l3]
  rw [← h4, ov_gap' (f := f) (p := p) (q := p + 25) (g := 7) (a := A4) (b := [fl]) (by omega) (z _ _ (by omega))]
  obtain ⟨A5, h5⟩ : ∃ A, A = A4 ++ (List.replicate 7 0 ++ [fl]) := ⟨_, rfl⟩
  have l5 : A5.length = 26 := by rw [h5]; simp [l4]
  rw [← h5, ov_gap' (f := f) (p := p) (q := p + 28) (g := 2) (a := A5) (b := lowB 2 1) (by omega) (z _ _ (by omega))]
  obtain ⟨A6, h6⟩ : ∃ A, A = A5 ++ (List.replicate 2 0 ++ lowB 2 1) := ⟨_, rfl⟩
  have l6 : A6.length = 30 := by rw [h6]; simp [l5, lowB_len]
  rw [← h6, ov_app (f := f) (p := p) (q := p + 30) (a := A6) (b := highB 2 1) (by omega)]
  obtain ⟨A7, h7⟩ : ∃ A, A = A6 ++ highB 2 1 := ⟨_, rfl⟩
  have l7 : A7.length = 32 := by rw [h7]; simp [l6, highB_len]
  rw [← h7, ov_app (f := f) (p := p) (q := p + 32) (a := A7) (b := [id.length]) (by omega)]
  obtain ⟨A8, h8⟩ : ∃ A, A = A7 ++ [id.length] := ⟨_, rfl⟩
  have l8 : A8.length = 33 := by rw [h8]; simp [l7]
  rw [← h8, ov_app (f := f) (p := p) (q := p + 33) (a := A8) (b := id) (by omega)]
  rw [ov_pad (f := f) (p := p) (g := (33 + id.length) % 2) (a := A8 ++ id) (fun i g1 g2 => hz i (by rw [List.length_append] at g1; omega) (by rw [List.length_append] at g2; omega))]
  congr 1
  rw [h8, h7, h6, h5, h4, h3, h2, h1]
  unfold recP
  rw [show lowB 2 1 = [1, 0] from rfl, show highB 2 1 = [0, 1] from rfl]
  simp only [List.append_assoc, List.cons_append, List.nil_append, List.replicate_succ, List.replicate_zero, Nat.mul_zero, Nat.zero_add]
section
variable {σ : Hp} {m n : Nat} {t : TT}
/-- the plan's bytes, where they are known -/
def PL (σ : Hp) (m : Nat) (f : Nat → Nat) : Prop := ∀ i, i < 163840 → f i < 256 → aI_ σ (m + 14) i = sb_b (f i)
theorem PL_0 : PL σ m (fun _ => 256) := fun _ _ h => absurd h (Nat.lt_irrefl 256)
def P14 : Nat → Nat → Prop := fun j _ => j = 14
theorem PL_w {f : Nat → Nat} {p c : Nat} (h : PL σ m f) : PL (wI_ σ (m + 14) p (sb_b c)) m (ov f p [c]) := by
  intro i hi hlt
  rw [aaI_wI]
  by_cases e : i = p
  · subst e
    rw [u2_e]
    have := ov_in (f := f) (p := i) (i := 0) (l := [c]) (by simp)
    rw [Nat.add_zero] at this
    rw [this]; rfl
  · rw [ov_out (by simp; omega)] at hlt
    rw [u2_i e, ov_out (by simp; omega)]
    exact h i hi hlt
theorem m_low (hw : MW σ m) {f : Nat → Nat} (h : PL σ m f) {p k a : Nat} (hk : k ≤ 4) (hp : p + k ≤ 163840) (ha : a < 2 ^ 32) {post : Hp → Prop} (kk : ∀ σ', MFr m σ σ' P14 N0 → PL σ' m (ov f p (lowB k a)) → post σ') : wX9_low m (nI p) (nI k) (nI a) σ post := by
  unfold wX9_low wX9_low_L3
  refine lpG2 (B := fun R x τ => wX9_low_B3 post R m (nI p) (nI k) (nI a) x τ) (fun j x τ => j ≤ k ∧ x = nI (k - j) ∧ MFr m σ τ P14 N0 ∧ PL τ m (ov f p ((lowB k a).take (k - j)))) k ⟨Nat.le_refl _, by simp [nI_0], MFr.refl, by simpa [ov_nil] using h⟩ ?_
  rintro j x τ R ⟨h1, rfl, h3, h4⟩ hR
  have hw := h3.mw hw
  unfold wX9_low_B3
  simp (disch := omega) only [atg_sI, afI_sI, afL_sI, afR_sI, aln_sI, aaI_sI, aaL_sI, aaR_sI, anx_sI, abc_sI, abs_sI, alo_sI, atg_wI, afI_wI, afL_wI, afR_wI, aln_wI, aaI_wI, aaL_wI, aaR_wI, anx_wI, abc_wI, abs_wI, alo_wI, atg_wL, afI_wL, afL_wL, afR_wL, aln_wL, aaI_wL, aaL_wL, aaR_wL, anx_wL, abc_wL, abs_wL, alo_wL, u2_e, u2_r, u2_i, u3_e, u3_k, u3_c, u3_r, mw_tag hw, mw_lo hw, mw_loa hw, mf_3 hw, mt_3 hw, ml_3 hw, mf_4 hw, mt_4 hw, ml_4 hw, mf_5 hw, mt_5 hw, ml_5 hw, mf_9 hw, mt_9 hw, ml_9 hw, mf_11 hw, mt_11 hw, ml_11 hw, mf_12 hw, mt_12 hw, ml_12 hw, mf_13 hw, mt_13 hw, ml_13 hw, mf_14 hw, mt_14 hw, ml_14 hw, mf_15 hw, mt_15 hw, ml_15 hw, mf_16 hw, mt_16 hw, ml_16 hw, mf_17 hw, mt_17 hw, ml_17 hw, mf_18 hw, mt_18 hw, ml_18 hw, mf_19 hw, mt_19 hw, ml_19 hw, mf_21 hw, mt_21 hw, ml_21 hw, mf_24 hw, mt_24 hw, ml_24 hw, mf_25 hw, mt_25 hw, ml_25 hw, mf_26 hw, mt_26 hw, ml_26 hw, mf_29 hw, mt_29 hw, ml_29 hw, mf_30 hw, mt_30 hw, ml_30 hw, mf_31 hw, mt_31 hw, ml_31 hw, mf_32 hw, mt_32 hw, ml_32 hw, mf_33 hw, mt_33 hw, ml_33 hw, mf_34 hw, mt_34 hw, ml_34 hw, mf_36 hw, mt_36 hw, ml_36 hw, mf_37 hw, mt_37 hw, ml_37 hw, mf_38 hw, mt_38 hw, ml_38 hw, mf_39 hw, mt_39 hw, ml_39 hw, mf_40 hw, mt_40 hw, ml_40 hw, li_0, li_1, li_2, li_3, li_4, li_5, li_6, li_7, li_8, li_9, li_10, li_12, li_14, li_16, li_17, li_18, li_19, li_20, li_25, li_28, li_30, li_31, li_32, li_33, li_34, li_40, li_46, li_48, li_49, li_57, li_59, li_65, li_67, li_68, li_75, li_77, li_80, li_82, li_90, li_95, li_100, li_128, li_130, li_132, li_136, li_140, li_148, li_156, li_200, li_255, li_256, li_400, li_700, li_2047, li_2048, li_2049, li_2050, li_2054, li_2056, li_4096, li_6000, li_163840, li_409600, li_819200, nI_add, pk_mul, pk_sub, nI_leI, nI_ltI, nI_eq, nI_clamp, vin_t, forall_eq, true_and, and_true, forall_const, implies_true]
  refine ⟨fun q => kk τ h3 ?_, fun q => ?_⟩
  · rw [show k - j = k by omega, List.take_of_length_le (by rw [lowB_len]; omega)] at h4
    exact h4
  · rw [show (nI 31) = (31 : Int32) from rfl, shB ha _ (by omega), nar_b]
    have hi : k - j < (lowB k a).length := by rw [lowB_len]; omega
    refine ⟨(vin_ (by omega)).mpr (by omega), hR (j - 1) _ _ (by omega) ⟨by omega, by congr 1; omega, by (repeat' first | with_reducible exact MFr.refl | with_reducible assumption | with_reducible apply MFr.wI' | with_reducible apply MFr.wL' | with_reducible apply MFr.sI' | omega | trivial | exact ⟨by omega, by omega⟩ | exact rfl), ?_⟩⟩
    have h5 := PL_w (p := p + (k - j)) (c := a / 256 ^ (k - j) % 256) h4
    rw [ov_app (by simp [lowB_len])] at h5
    rw [show k - (j - 1) = k - j + 1 by omega, List.take_succ_eq_append_getElem hi]
    simpa [lowB] using h5
theorem m_high (hw : MW σ m) {f : Nat → Nat} (h : PL σ m f) {p k a : Nat} (hk : k ≤ 4) (hp : p + k ≤ 163840) (ha : a < 2 ^ 32) {post : Hp → Prop} (kk : ∀ σ', MFr m σ σ' P14 N0 → PL σ' m (ov f p (highB k a)) → post σ') : wX9_high m (nI p) (nI k) (nI a) σ post := by
  unfold wX9_high wX9_high_L3
  refine lpG2 (B := fun R x τ => wX9_high_B3 post R m (nI p) (nI k) (nI a) x τ) (fun j x τ => j ≤ k ∧ x = nI (k - j) ∧ MFr m σ τ P14 N0 ∧ PL τ m (ov f p ((highB k a).take (k - j)))) k ⟨Nat.le_refl _, by simp [nI_0], MFr.refl, by simpa [ov_nil] using h⟩ ?_
  rintro j x τ R ⟨h1, rfl, h3, h4⟩ hR
  have hw := h3.mw hw
  unfold wX9_high_B3
  simp (disch := omega) only [atg_sI, afI_sI, afL_sI, afR_sI, aln_sI, aaI_sI, aaL_sI, aaR_sI, anx_sI, abc_sI, abs_sI, alo_sI, atg_wI, afI_wI, afL_wI, afR_wI, aln_wI, aaI_wI, aaL_wI, aaR_wI, anx_wI, abc_wI, abs_wI, alo_wI, atg_wL, afI_wL, afL_wL, afR_wL, aln_wL, aaI_wL, aaL_wL, aaR_wL, anx_wL, abc_wL, abs_wL, alo_wL, u2_e, u2_r, u2_i, u3_e, u3_k, u3_c, u3_r, mw_tag hw, mw_lo hw, mw_loa hw, mf_3 hw, mt_3 hw, ml_3 hw, mf_4 hw, mt_4 hw, ml_4 hw, mf_5 hw, mt_5 hw, ml_5 hw, mf_9 hw, mt_9 hw, ml_9 hw, mf_11 hw, mt_11 hw, ml_11 hw, mf_12 hw, mt_12 hw, ml_12 hw, mf_13 hw, mt_13 hw, ml_13 hw, mf_14 hw, mt_14 hw, ml_14 hw, mf_15 hw, mt_15 hw, ml_15 hw, mf_16 hw, mt_16 hw, ml_16 hw, mf_17 hw, mt_17 hw, ml_17 hw, mf_18 hw, mt_18 hw, ml_18 hw, mf_19 hw, mt_19 hw, ml_19 hw, mf_21 hw, mt_21 hw, ml_21 hw, mf_24 hw, mt_24 hw, ml_24 hw, mf_25 hw, mt_25 hw, ml_25 hw, mf_26 hw, mt_26 hw, ml_26 hw, mf_29 hw, mt_29 hw, ml_29 hw, mf_30 hw, mt_30 hw, ml_30 hw, mf_31 hw, mt_31 hw, ml_31 hw, mf_32 hw, mt_32 hw, ml_32 hw, mf_33 hw, mt_33 hw, ml_33 hw, mf_34 hw, mt_34 hw, ml_34 hw, mf_36 hw, mt_36 hw, ml_36 hw, mf_37 hw, mt_37 hw, ml_37 hw, mf_38 hw, mt_38 hw, ml_38 hw, mf_39 hw, mt_39 hw, ml_39 hw, mf_40 hw, mt_40 hw, ml_40 hw, li_0, li_1, li_2, li_3, li_4, li_5, li_6, li_7, li_8, li_9, li_10, li_12, li_14, li_16, li_17, li_18, li_19, li_20, li_25, li_28, li_30, li_31, li_32, li_33, li_34, li_40, li_46, li_48, li_49, li_57, li_59, li_65, li_67, li_68, li_75, li_77, li_80, li_82, li_90, li_95, li_100, li_128, li_130, li_132, li_136, li_140, li_148, li_156, li_200, li_255, li_256, li_400, li_700, li_2047, li_2048, li_2049, li_2050, li_2054, li_2056, li_4096, li_6000, li_163840, li_409600, li_819200, nI_add, pk_mul, pk_sub, nI_leI, nI_ltI, nI_eq, nI_clamp, vin_t, forall_eq, true_and, and_true, forall_const, implies_true]
  refine ⟨fun q => kk τ h3 ?_, fun q => ?_⟩
  · rw [show k - j = k by omega, List.take_of_length_le (by rw [highB_len]; omega)] at h4
    exact h4
  · rw [pk_sub (by omega), pk_sub (by omega), pk_mul, show (nI 31) = (31 : Int32) from rfl, shB ha _ (by omega), nar_b]
    have hi : k - j < (highB k a).length := by rw [highB_len]; omega
    refine ⟨(vin_ (by omega)).mpr (by omega), hR (j - 1) _ _ (by omega) ⟨by omega, by congr 1; omega, by (repeat' first | with_reducible exact MFr.refl | with_reducible assumption | with_reducible apply MFr.wI' | with_reducible apply MFr.wL' | with_reducible apply MFr.sI' | omega | trivial | exact ⟨by omega, by omega⟩ | exact rfl), ?_⟩⟩
    have h5 := PL_w (p := p + (k - j)) (c := a / 256 ^ (k - 1 - (k - j)) % 256) h4
    rw [ov_app (by simp [highB_len])] at h5
    rw [show k - (j - 1) = k - j + 1 by omega, List.take_succ_eq_append_getElem hi]
    simpa [highB] using h5
theorem m_both (hw : MW σ m) {f : Nat → Nat} (h : PL σ m f) {p k a : Nat} (hk : k ≤ 4) (hp : p + 2 * k ≤ 163840) (ha : a < 2 ^ 32) {post : Hp → Prop} (kk : ∀ σ', MFr m σ σ' P14 N0 → PL σ' m (ov (ov f p (lowB k a)) (p + k) (highB k a)) → post σ') : wX9_both m (nI p) (nI k) (nI a) σ post := by
  unfold wX9_both
  rw [nI_add]
  exact ⟨mw_tag hw, m_low hw h hk (by omega) ha (fun σ1 a1 b1 => ⟨mw_tag (a1.mw hw), m_high (a1.mw hw) b1 hk (by omega) ha (fun σ2 a2 b2 => kk σ2 (a1.trans a2) b2)⟩)⟩
theorem MT0.f14 {σ' : Hp} (h : MT0 σ m t) (f : MFr m σ σ' P14 N0) : MT0 σ' m t := h.fr f (fun z => z) (fun j i a b q => by unfold P14 at q; omega)
theorem m_recordId (hw : MW σ m) (hT : MT0 σ m t) (ok : TOK n t) {s k : Nat} (hs : s ≤ 2) (hk : k < tN t) (hkt : tT t k = true) {post : Int32 → Prop} (kk : post (nI (if s < 2 then [s] else tI t k).length)) : wX9_recordId m (nI s) (nI k) σ post := by
  have hN := ok.1.2.1
  obtain ⟨c1, c2, c3, -⟩ := hT.2.2 k hk hkt
  obtain ⟨n1, n2⟩ := nm_b ok hk hkt
  have hd := root_D ok hk hkt
  unfold wX9_recordId wX9_idSize
  simp (disch := omega) only [atg_sI, afI_sI, afL_sI, afR_sI, aln_sI, aaI_sI, aaL_sI, aaR_sI, anx_sI, abc_sI, abs_sI, alo_sI, atg_wI, afI_wI, afL_wI, afR_wI, aln_wI, aaI_wI, aaL_wI, aaR_wI, anx_wI, abc_wI, abs_wI, alo_wI, atg_wL, afI_wL, afL_wL, afR_wL, aln_wL, aaI_wL, aaL_wL, aaR_wL, anx_wL, abc_wL, abs_wL, alo_wL, u2_e, u2_r, u2_i, u3_e, u3_k, u3_c, u3_r, mw_tag hw, mw_lo hw, mw_loa hw, mf_3 hw, mt_3 hw, ml_3 hw, mf_4 hw, mt_4 hw, ml_4 hw, mf_5 hw, mt_5 hw, ml_5 hw, mf_9 hw, mt_9 hw, ml_9 hw, mf_11 hw, mt_11 hw, ml_11 hw, mf_12 hw, mt_12 hw, ml_12 hw, mf_13 hw, mt_13 hw, ml_13 hw, mf_14 hw, mt_14 hw, ml_14 hw, mf_15 hw, mt_15 hw, ml_15 hw, mf_16 hw, mt_16 hw, ml_16 hw, mf_17 hw, mt_17 hw, ml_17 hw, mf_18 hw, mt_18 hw, ml_18 hw, mf_19 hw, mt_19 hw, ml_19 hw, mf_21 hw, mt_21 hw, ml_21 hw, mf_24 hw, mt_24 hw, ml_24 hw, mf_25 hw, mt_25 hw, ml_25 hw, mf_26 hw, mt_26 hw, ml_26 hw, mf_29 hw, mt_29 hw, ml_29 hw, mf_30 hw, mt_30 hw, ml_30 hw, mf_31 hw, mt_31 hw, ml_31 hw, mf_32 hw, mt_32 hw, ml_32 hw, mf_33 hw, mt_33 hw, ml_33 hw, mf_34 hw, mt_34 hw, ml_34 hw, mf_36 hw, mt_36 hw, ml_36 hw, mf_37 hw, mt_37 hw, ml_37 hw, mf_38 hw, mt_38 hw, ml_38 hw, mf_39 hw, mt_39 hw, ml_39 hw, mf_40 hw, mt_40 hw, ml_40 hw, li_0, li_1, li_2, li_3, li_4, li_5, li_6, li_7, li_8, li_9, li_10, li_12, li_14, li_16, li_17, li_18, li_19, li_20, li_25, li_28, li_30, li_31, li_32, li_33, li_34, li_40, li_46, li_48, li_49, li_57, li_59, li_65, li_67, li_68, li_75, li_77, li_80, li_82, li_90, li_95, li_100, li_128, li_130, li_132, li_136, li_140, li_148, li_156, li_200, li_255, li_256, li_400, li_700, li_2047, li_2048, li_2049, li_2050, li_2054, li_2056, li_4096, li_6000, li_163840, li_409600, li_819200, nI_add, pk_mul, pk_sub, nI_leI, nI_ltI, nI_eq, nI_clamp, vin_t, forall_eq, true_and, and_true, forall_const, implies_true, c1, c3]
  refine ⟨fun q => ⟨fun q2 => m_lettersOf n1 n2 ?_, fun q2 => m_lettersOf n1 n2 ?_⟩, fun q => ?_⟩
  · rw [if_neg (by omega)] at kk
    unfold tI at kk
    rw [idb_len, if_neg (by omega)] at kk
    try rw [nI_add]
    exact kk
  · rw [if_neg (by omega)] at kk
    unfold tI at kk
    rw [idb_len, if_pos (by omega)] at kk
    exact kk
  · rw [if_pos (by omega)] at kk
    exact kk
theorem m_rec141 (hw : MW σ m) (hT : MT0 σ m t) (ok : TOK n t) {f : Nat → Nat} (h : PL σ m f) {p s k : Nat} {id : List Nat} (hs : s ≤ 2) (hk : k < tN t) (hkt : tT t k = true) (hid : id = if s < 2 then [s] else tI t k) (hp : p + 50 ≤ 163840) {post : Hp → Prop} (kk : ∀ σ', MFr m σ σ' P14 N0 → PL σ' m (ov f (p + 33) id) → post σ') : wX9_record_L141 post m (nI p) (nI s) (nI k) (nI id.length) 0 σ := by
  have hN := ok.1.2.1
  obtain ⟨n1, n2⟩ := nm_b ok hk hkt
  have hd := root_D ok hk hkt
  have hlen : id.length ≤ 11 := by
    rw [hid]; split
    · simp
    · exact idb_len12 n1
  unfold wX9_record_L141
  refine lpG2 (B := fun R x τ => wX9_record_B141 post R m (nI p) (nI s) (nI k) (nI id.length) x τ) (fun j x τ => j ≤ id.length ∧ x = nI (id.length - j) ∧ MFr m σ τ P14 N0 ∧ PL τ m (ov f (p + 33) (id.take (id.length - j)))) id.length ⟨Nat.le_refl _, by simp [nI_0], MFr.refl, by simpa [ov_nil] using h⟩ ?_
  rintro j x τ R ⟨h1, rfl, h3, h4⟩ hR
  have hw := h3.mw hw
  obtain ⟨c1, c2, c3, -⟩ := (hT.f14 h3).2.2 k hk hkt
  unfold wX9_record_B141 wX9_record_L185
  simp (disch := omega) only [atg_sI, afI_sI, afL_sI, afR_sI, aln_sI, aaI_sI, aaL_sI, aaR_sI, anx_sI, abc_sI, abs_sI, alo_sI, atg_wI, afI_wI, afL_wI, afR_wI, aln_wI, aaI_wI, aaL_wI, aaR_wI, anx_wI, abc_wI, abs_wI, alo_wI, atg_wL, afI_wL, afL_wL, afR_wL, aln_wL, aaI_wL, aaL_wL, aaR_wL, anx_wL, abc_wL, abs_wL, alo_wL, u2_e, u2_r, u2_i, u3_e, u3_k, u3_c, u3_r, mw_tag hw, mw_lo hw, mw_loa hw, mf_3 hw, mt_3 hw, ml_3 hw, mf_4 hw, mt_4 hw, ml_4 hw, mf_5 hw, mt_5 hw, ml_5 hw, mf_9 hw, mt_9 hw, ml_9 hw, mf_11 hw, mt_11 hw, ml_11 hw, mf_12 hw, mt_12 hw, ml_12 hw, mf_13 hw, mt_13 hw, ml_13 hw, mf_14 hw, mt_14 hw, ml_14 hw, mf_15 hw, mt_15 hw, ml_15 hw, mf_16 hw, mt_16 hw, ml_16 hw, mf_17 hw, mt_17 hw, ml_17 hw, mf_18 hw, mt_18 hw, ml_18 hw, mf_19 hw, mt_19 hw, ml_19 hw, mf_21 hw, mt_21 hw, ml_21 hw, mf_24 hw, mt_24 hw, ml_24 hw, mf_25 hw, mt_25 hw, ml_25 hw, mf_26 hw, mt_26 hw, ml_26 hw, mf_29 hw, mt_29 hw, ml_29 hw, mf_30 hw, mt_30 hw, ml_30 hw, mf_31 hw, mt_31 hw, ml_31 hw, mf_32 hw, mt_32 hw, ml_32 hw, mf_33 hw, mt_33 hw, ml_33 hw, mf_34 hw, mt_34 hw, ml_34 hw, mf_36 hw, mt_36 hw, ml_36 hw, mf_37 hw, mt_37 hw, ml_37 hw, mf_38 hw, mt_38 hw, ml_38 hw, mf_39 hw, mt_39 hw, ml_39 hw, mf_40 hw, mt_40 hw, ml_40 hw, li_0, li_1, li_2, li_3, li_4, li_5, li_6, li_7, li_8, li_9, li_10, li_12, li_14, li_16, li_17, li_18, li_19, li_20, li_25, li_28, li_30, li_31, li_32, li_33, li_34, li_40, li_46, li_48, li_49, li_57, li_59, li_65, li_67, li_68, li_75, li_77, li_80, li_82, li_90, li_95, li_100, li_128, li_130, li_132, li_136, li_140, li_148, li_156, li_200, li_255, li_256, li_400, li_700, li_2047, li_2048, li_2049, li_2050, li_2054, li_2056, li_4096, li_6000, li_163840, li_409600, li_819200, nI_add, pk_mul, pk_sub, nI_leI, nI_ltI, nI_eq, nI_clamp, vin_t, forall_eq, true_and, and_true, forall_const, implies_true, c1, c3]
  refine ⟨fun q => kk τ h3 ?_, fun q => ?_⟩
  · rw [show id.length - j = id.length by omega, List.take_length] at h4
    exact h4
  · have hi : id.length - j < id.length := by omega
    have step : ∀ c, c = id.getD (id.length - j) 0 → R (nI (id.length - j + 1)) (wI_ τ (m + 14) (p + 33 + (id.length - j)) (sb_b c)) := by
      intro c hc
      refine hR (j - 1) _ _ (by omega) ⟨by omega, by congr 1; omega, by (repeat' first | with_reducible exact MFr.refl | with_reducible assumption | with_reducible apply MFr.wI' | with_reducible apply MFr.wL' | with_reducible apply MFr.sI' | omega | trivial | exact ⟨by omega, by omega⟩ | exact rfl), ?_⟩
      have hc' : c = id[id.length - j] := by rw [hc, List.getD_eq_getElem?_getD, List.getElem?_eq_getElem hi]; rfl
      subst hc'
      have h5 := PL_w (p := p + 33 + (id.length - j)) (c := id[id.length - j]) h4
      rw [ov_app (by simp)] at h5
      rw [show id.length - (j - 1) = id.length - j + 1 by omega, List.take_succ_eq_append_getElem hi]
      exact h5
    refine ⟨fun q2 => m_idByte n1 n2 (by omega) (by omega) ?_, fun q2 => ?_⟩
    · rw [if_neg (by omega)] at hid
      have e : idb (tM t k) (tD t k) = id := hid.symm
      rw [e]
      rw [show (nI (id.getD (id.length - j) 0)).toInt8.toInt32 = sb_b (id.getD (id.length - j) 0) from rfl, nar_b]
      exact step _ rfl
    · rw [if_pos (by omega)] at hid
      rw [show (nI s).toInt8.toInt32 = sb_b s from rfl, nar_b]
      refine step s ?_
      have hl1 : id.length = 1 := by rw [hid]; rfl
      rw [show id.length - j = 0 by omega, hid]; rfl
end
