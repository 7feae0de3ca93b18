/-! the reference's frame: which of its arrays' places and fields may have changed -/
def MFr (m : Nat) (σ σ' : Hp) (P : Nat → Nat → Prop) (Q : Nat → Prop) : Prop := (tg_ σ' = tg_ σ ∧ ln_ σ' = ln_ σ ∧ fR_ σ' = fR_ σ ∧ fL_ σ' = fL_ σ ∧ aR_ σ' = aR_ σ ∧ nx_ σ' = nx_ σ ∧ bc_ σ' = bc_ σ ∧ bs_ σ' = bs_ σ ∧ lo_ σ' = lo_ σ) ∧
  (∀ c k r, ¬ (c = 8 ∧ r = m ∧ Q k) → fI_ σ' c k r = fI_ σ c k r) ∧ (∀ r i, ¬ (∃ j, r = m + j ∧ 1 ≤ j ∧ j ≤ 28 ∧ P j i) → aI_ σ' r i = aI_ σ r i ∧ aL_ σ' r i = aL_ σ r i)
section
variable {m : Nat} {σ σ' σ'' : Hp} {P P' : Nat → Nat → Prop} {Q Q' : Nat → Prop}
theorem MFr.refl : MFr m σ σ P Q := ⟨⟨rfl, rfl, rfl, rfl, rfl, rfl, rfl, rfl, rfl⟩, fun _ _ _ _ => rfl, fun _ _ _ => ⟨rfl, rfl⟩⟩
theorem MFr.mono (h : MFr m σ σ' P Q) (hP : ∀ j i, P j i → P' j i) (hQ : ∀ k, Q k → Q' k) : MFr m σ σ' P' Q' :=
  ⟨h.1, fun c k r q => h.2.1 c k r (fun z => q ⟨z.1, z.2.1, hQ k z.2.2⟩), fun r i q => h.2.2 r i (fun ⟨j, a, b, c, d⟩ => q ⟨j, a, b, c, hP j i d⟩)⟩
theorem MFr.trans (h : MFr m σ σ' P Q) (g : MFr m σ' σ'' P Q) : MFr m σ σ'' P Q := by
  obtain ⟨⟨a1, a2, a3, a4, a5, a6, a7, a8, a9⟩, h2, h3⟩ := h
  obtain ⟨⟨b1, b2, b3, b4, b5, b6, b7, b8, b9⟩, g2, g3⟩ := g
  exact ⟨⟨b1.trans a1, b2.trans a2, b3.trans a3, b4.trans a4, b5.trans a5, b6.trans a6, b7.trans a7, b8.trans a8, b9.trans a9⟩, fun c k r q => (g2 c k r q).trans (h2 c k r q), fun r i q => ⟨(g3 r i q).1.trans (h3 r i q).1, (g3 r i q).2.trans (h3 r i q).2⟩⟩
theorem MFr.sI {k : Nat} {v : Int32} (h : Q k) : MFr m σ (sI_ σ 8 k m v) P Q := by
  refine ⟨⟨rfl, rfl, rfl, rfl, rfl, rfl, rfl, rfl, rfl⟩, fun c k' r q => ?_, fun _ _ _ => ⟨rfl, rfl⟩⟩
  show u3_ (fI_ σ) 8 k m v c k' r = _
  unfold u3_
  rw [if_neg]
  rintro ⟨rfl, rfl, rfl⟩
  exact q ⟨rfl, rfl, h⟩
theorem MFr.wI {j i : Nat} {v : Int32} (h1 : 1 ≤ j) (h2 : j ≤ 28) (h : P j i) : MFr m σ (wI_ σ (m + j) i v) P Q := by
  refine ⟨⟨rfl, rfl, rfl, rfl, rfl, rfl, rfl, rfl, rfl⟩, fun _ _ _ _ => rfl, fun r i' q => ⟨?_, rfl⟩⟩
  show u2_ (aI_ σ) (m + j) i v r i' = _
  unfold u2_
  rw [if_neg]
  rintro ⟨rfl, rfl⟩
  exact q ⟨j, rfl, h1, h2, h⟩
theorem MFr.wL {j i : Nat} {v : Int64} (h1 : 1 ≤ j) (h2 : j ≤ 28) (h : P j i) : MFr m σ (wL_ σ (m + j) i v) P Q := by
  refine ⟨⟨rfl, rfl, rfl, rfl, rfl, rfl, rfl, rfl, rfl⟩, fun _ _ _ _ => rfl, fun r i' q => ⟨rfl, ?_⟩⟩
  show u2_ (aL_ σ) (m + j) i v r i' = _
  unfold u2_
  rw [if_neg]
  rintro ⟨rfl, rfl⟩
  exact q ⟨j, rfl, h1, h2, h⟩
theorem MFr.mw (h : MFr m σ σ' P Q) (hw : MW σ m) : MW σ' m := hw.to h.1.1 h.1.2.2.1 h.1.2.1 h.1.2.2.2.2.2.2.2.2
theorem MFr.f (h : MFr m σ σ' P Q) {k : Nat} (q : ¬ Q k) : fI_ σ' 8 k m = fI_ σ 8 k m := h.2.1 8 k m (fun z => q z.2.2)
theorem MFr.a (h : MFr m σ σ' P Q) {j i : Nat} (q : ¬ P j i) : aI_ σ' (m + j) i = aI_ σ (m + j) i := (h.2.2 (m + j) i (fun ⟨j', a, _, _, d⟩ => q (by rw [show j = j' by omega]; exact d))).1
theorem MFr.l (h : MFr m σ σ' P Q) {j i : Nat} (q : ¬ P j i) : aL_ σ' (m + j) i = aL_ σ (m + j) i := (h.2.2 (m + j) i (fun ⟨j', a, _, _, d⟩ => q (by rw [show j = j' by omega]; exact d))).2
theorem MFr.med (h : MFr m σ σ' P Q) {n sd : Nat} {B St : Nat → Nat} (hm : MedM σ m n sd B St) (q1 : ¬ Q 1) (q2 : ¬ Q 2) (p1 : ∀ i, ¬ P 1 i) (p2 : ∀ i, ¬ P 2 i) : MedM σ' m n sd B St := by
  obtain ⟨a, b, c, d, e, f, g⟩ := hm
  exact ⟨h.mw a, b, by rw [h.f q1]; exact c, by rw [h.f q2]; exact d, e, fun p hp => by rw [h.a (p1 _)]; exact f p hp, fun s hs => by rw [h.a (p2 _)]; exact g s hs⟩
theorem MedM.w {n sd : Nat} {B St : Nat → Nat} (hm : MedM σ m n sd B St) {j i : Nat} {v : Int32} (h1 : 3 ≤ j) (h2 : j ≤ 28) : MedM (wI_ σ (m + j) i v) m n sd B St :=
  (MFr.wI (P := fun j _ => 3 ≤ j) (Q := fun _ => False) (by omega) h2 h1).med hm (fun q => q) (fun q => q) (fun _ q => by omega) (fun _ q => by omega)
theorem MedM.wl {n sd : Nat} {B St : Nat → Nat} (hm : MedM σ m n sd B St) {j i : Nat} {v : Int64} (h1 : 3 ≤ j) (h2 : j ≤ 28) : MedM (wL_ σ (m + j) i v) m n sd B St :=
  (MFr.wL (P := fun j _ => 3 ≤ j) (Q := fun _ => False) (by omega) h2 h1).med hm (fun q => q) (fun q => q) (fun _ q => by omega) (fun _ q => by omega)
theorem MedM.s {n sd : Nat} {B St : Nat → Nat} (hm : MedM σ m n sd B St) {k : Nat} {v : Int32} (h1 : 3 ≤ k) : MedM (sI_ σ 8 k m v) m n sd B St :=
  (MFr.sI (P := fun _ _ => False) (Q := fun k => 3 ≤ k) h1).med hm (fun q => by omega) (fun q => by omega) (fun _ q => q) (fun _ q => q)
end
/-! found nodes in the reference -/
def SFd (σ : Hp) (m k : Nat) (f : FT) : Prop := aI_ σ (m + 18) k = nI (fa_ f) ∧ aI_ σ (m + 19) k = nI (fd_ f) ∧ aI_ σ (m + 20) k = nI (fs_ f) ∧ aI_ σ (m + 21) k = nI (fx_ f) ∧ aL_ σ (m + 22) k = lN (wd (fn_ f)) ∧ aI_ σ (m + 23) k = nI (fp_ f)
def SF (σ : Hp) (m : Nat) (F : List FT) : Prop := fI_ σ 8 27 m = nI F.length ∧ ∀ k, k < F.length → SFd σ m k (gF F k)
/-- a found node is sound -/
def FO (n : Nat) (f : FT) : Prop := fd_ f ≤ 1 ∧ fs_ f < 2 ^ 31 ∧ (fd_ f = 1 → 0 < fs_ f ∧ fs_ f % 2048 = 0) ∧ (fs_ f = 0 → fx_ f = 0) ∧ fx_ f + (fs_ f + 2047) / 2048 ≤ n ∧ (fn_ f).length ≤ 8 ∧ (∀ c ∈ fn_ f, isL c)
/-- found nodes are sound -/
def FOK (n : Nat) (F : List FT) : Prop := (1 ≤ F.length ∧ F.length ≤ 30) ∧ (∀ k, k < F.length → FO n (gF F k) ∧ fp_ (gF F k) ≤ 7) ∧ (fd_ (gF F 0) = 1 ∧ fa_ (gF F 0) = 4294967295 ∧ fn_ (gF F 0) = [] ∧ fp_ (gF F 0) = 0) ∧
  (∀ k, 0 < k → k < F.length → NM (fn_ (gF F k)) ∧ fa_ (gF F k) < k ∧ fd_ (gF F (fa_ (gF F k))) = 1 ∧ fp_ (gF F k) = fp_ (gF F (fa_ (gF F k))) + 1 ∧ (fd_ (gF F k) = 1 → fp_ (gF F k) ≤ 6))
theorem FO_b {n : Nat} {f : FT} (h : FO n f) : ∀ c ∈ fn_ f, 0 < c ∧ c < 256 := fun c hc => by have := isL_b (h.2.2.2.2.2.2 c hc); omega
theorem nm_of {B : Nat → Nat} {q k : Nat} (h : nameOK B q k) : NM (ltA B q k) := ⟨by rw [ltA_len]; exact h.1, by rw [ltA_len]; exact h.2.1, fun c hc => by obtain ⟨i, h1, rfl⟩ := ltA_mem hc; exact h.2.2 i h1⟩
theorem rec_mk {n : Nat} {B St : Nat → Nat} {r d : Nat} {F : List FT} (h : recOK n B St r 2) : FO n (mkF B d F r) ∧ NM (fn_ (mkF B d F r)) := by
  obtain ⟨h1, h2, h3, h4, h5, h6⟩ := h
  unfold idOK at h2
  rw [if_neg (by decide)] at h2
  have hx : lowN B (r + 2) 4 + (lowN B (r + 10) 4 + 2047) / 2048 ≤ n := by
    by_cases e : lowN B (r + 10) 4 = 0
    · rw [h5 e, e]; simp
    · exact (h6 e).2.1
  have hn : NM (fn_ (mkF B d F r)) := by
    show NM (ltA B (r + 33) (if B (r + 25) = 2 then B (r + 32) else B (r + 32) - 3))
    by_cases e : B (r + 25) = 2
    · rw [if_pos e]; exact nm_of (h2.1 e)
    · rw [if_neg e]; exact nm_of (h2.2 e).2.1
  refine ⟨⟨?_, h3, fun q => ?_, h5, hx, hn.2.1, hn.2.2⟩, hn⟩
  · show (if B (r + 25) = 2 then 1 else 0) ≤ 1
    split <;> omega
  · apply h4
    have q' : (if B (r + 25) = 2 then 1 else 0) = 1 := q
    split at q'
    · assumption
    · omega
theorem rec_rt {n : Nat} {B St : Nat → Nat} {r : Nat} (h : recOK n B St r 0) : FO n (rtF B r) ∧ fd_ (rtF B r) = 1 := by
  obtain ⟨h1, h2, h3, h4, h5, h6⟩ := h
  unfold idOK at h2
  rw [if_pos (by decide)] at h2
  have hx : lowN B (r + 2) 4 + (lowN B (r + 10) 4 + 2047) / 2048 ≤ n := by
    by_cases e : lowN B (r + 10) 4 = 0
    · rw [h5 e, e]; simp
    · exact (h6 e).2.1
  have e1 : fd_ (rtF B r) = 1 := by
    show (if B (r + 25) = 2 then 1 else 0) = 1
    rw [if_pos h2.1]
  exact ⟨⟨by omega, h3, fun _ => h4 h2.1, h5, hx, by show ([] : List Nat).length ≤ 8; simp, fun c hc => by cases hc⟩, e1⟩
section
variable {σ : Hp} {m n sd : Nat} {B St : Nat → Nat}
theorem SF.fr {σ' : Hp} {F : List FT} {P : Nat → Nat → Prop} {Q : Nat → Prop} (hf : SF σ m F) (h : MFr m σ σ' P Q) (q : ¬ Q 27) (p : ∀ j i, 18 ≤ j → j ≤ 23 → i < F.length → ¬ P j i) : SF σ' m F := by
  refine ⟨by rw [h.f q]; exact hf.1, fun k hk => ?_⟩
  obtain ⟨a, b, c, d, e, f⟩ := hf.2 k hk
  have hp := fun j h1 h2 => p j k h1 h2 hk
  exact ⟨by rw [h.a (hp _ (by omega) (by omega))]; exact a, by rw [h.a (hp _ (by omega) (by omega))]; exact b, by rw [h.a (hp _ (by omega) (by omega))]; exact c, by rw [h.a (hp _ (by omega) (by omega))]; exact d, by rw [h.l (hp _ (by omega) (by omega))]; exact e, by rw [h.a (hp _ (by omega) (by omega))]; exact f⟩
/-- the name's letters -/
theorem m_beginL (h : MedM σ m n sd B St) {k r K : Nat} (hk : k < 31) (hK : K ≤ 8) (hr : r + 33 + K ≤ 2048 * n) (h0 : aL_ σ (m + 22) k = lN 0) {post : Hp → Prop}
    (kk : ∀ σ', MFr m σ σ' (fun j i => j = 22 ∧ i = k) (fun _ => False) → aL_ σ' (m + 22) k = lN (wd (ltA B (r + 33) K)) → post σ') : wX9_begin_L132 post m (nI k) (nI r) (nI K) 0 σ := by
  have hn := h.2.1.2.1
  have hB := h.2.1.2.2.1
  unfold wX9_begin_L132
  refine lpG2 (B := fun R x6 τ => wX9_begin_B132 post R m (nI k) (nI r) (nI K) x6 τ) (fun j x6 τ => j ≤ K ∧ x6 = nI (K - j) ∧ MFr m σ τ (fun j i => j = 22 ∧ i = k) (fun _ => False) ∧ aL_ τ (m + 22) k = lN (wd (ltA B (r + 33) (K - j)))) K ⟨Nat.le_refl _, by simp [nI_0], MFr.refl, by rw [Nat.sub_self]; exact h0⟩ ?_
  rintro j x6 τ R ⟨h1, rfl, h3, h4⟩ hR
  have hm : MedM τ m n sd B St := h3.med h (fun q => q) (fun q => q) (fun i q => by omega) (fun i q => by omega)
  have hw := hm.1
  unfold wX9_begin_B132
  simp (disch := omega) only [atg_sI, afI_sI, afL_sI, afR_sI, aln_sI, aaI_sI, aaL_sI, aaR_sI, anx_sI, abc_sI, abs_sI, alo_sI, atg_wI, afI_wI, afL_wI, afR_wI, aln_wI, aaI_wI, aaL_wI, aaR_wI, anx_wI, abc_wI, abs_wI, alo_wI, atg_wL, afI_wL, afL_wL, afR_wL, aln_wL, aaI_wL, aaL_wL, aaR_wL, anx_wL, abc_wL, abs_wL, alo_wL, u2_e, u2_r, u2_i, u3_e, u3_k, u3_c, u3_r, mw_tag hw, mw_lo hw, mw_loa hw, mf_3 hw, mt_3 hw, ml_3 hw, mf_4 hw, mt_4 hw, ml_4 hw, mf_5 hw, mt_5 hw, ml_5 hw, mf_9 hw, mt_9 hw, ml_9 hw, mf_11 hw, mt_11 hw, ml_11 hw, mf_12 hw, mt_12 hw, ml_12 hw, mf_13 hw, mt_13 hw, ml_13 hw, mf_14 hw, mt_14 hw, ml_14 hw, mf_15 hw, mt_15 hw, ml_15 hw, mf_16 hw, mt_16 hw, ml_16 hw, mf_17 hw, mt_17 hw, ml_17 hw, mf_18 hw, mt_18 hw, ml_18 hw, mf_19 hw, mt_19 hw, ml_19 hw, mf_21 hw, mt_21 hw, ml_21 hw, mf_24 hw, mt_24 hw, ml_24 hw, mf_25 hw, mt_25 hw, ml_25 hw, mf_26 hw, mt_26 hw, ml_26 hw, mf_29 hw, mt_29 hw, ml_29 hw, mf_30 hw, mt_30 hw, ml_30 hw, mf_31 hw, mt_31 hw, ml_31 hw, mf_32 hw, mt_32 hw, ml_32 hw, mf_33 hw, mt_33 hw, ml_33 hw, mf_34 hw, mt_34 hw, ml_34 hw, mf_36 hw, mt_36 hw, ml_36 hw, mf_37 hw, mt_37 hw, ml_37 hw, mf_38 hw, mt_38 hw, ml_38 hw, mf_39 hw, mt_39 hw, ml_39 hw, mf_40 hw, mt_40 hw, ml_40 hw, li_0, li_1, li_2, li_3, li_4, li_5, li_6, li_7, li_8, li_9, li_10, li_12, li_14, li_16, li_17, li_18, li_19, li_20, li_25, li_28, li_30, li_31, li_32, li_33, li_34, li_40, li_46, li_48, li_49, li_57, li_59, li_65, li_67, li_68, li_75, li_77, li_80, li_82, li_90, li_95, li_100, li_128, li_130, li_132, li_136, li_140, li_148, li_156, li_200, li_255, li_256, li_400, li_700, li_2047, li_2048, li_2049, li_2050, li_2054, li_2056, li_4096, li_6000, li_163840, li_409600, li_819200, nI_add, pk_mul, pk_sub, nI_leI, nI_ltI, nI_eq, nI_clamp, vin_, forall_eq, true_and, and_true, forall_const, implies_true]
  refine ⟨fun q => kk τ h3 (by rw [h4, show K - j = K by omega]), fun q => ⟨by omega, ?_⟩⟩
  refine m_get hm (by omega) ?_
  have hb := hB (r + 33 + (K - j))
  have hwd : wd (ltA B (r + 33) (K - j + 1)) < 2 ^ 64 := wd64 (by rw [ltA_len]; omega) (fun c hc => by obtain ⟨i, _, rfl⟩ := ltA_mem hc; exact hB _)
  rw [ltA_succ, wd_snoc] at hwd
  refine ⟨by omega, hR (j - 1) _ _ (by omega) ⟨by omega, by congr 1; omega, h3.trans (MFr.wL (by omega) (by omega) ⟨rfl, rfl⟩), ?_⟩⟩
  rw [aaL_wL, u2_e, h4, show (nI 8).toInt64 = (8 : Int32).toInt64 from rfl, show (nI (B (r + 33 + (K - j)))).toInt64 = lN (B (r + 33 + (K - j))) from nI_l (by omega), sh8L hb hwd, ← wd_snoc, ← ltA_succ, show K - j + 1 = K - (j - 1) by omega]
end
