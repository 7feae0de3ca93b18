/-! burning: pure laws; the reference burns a page -/
theorem frt_s (St : Nat → Nat) (f : Nat) : frt St (f + 1) = if St f = 0 then frt St f else f + 1 := rfl
theorem frt_hi {St : Nat → Nat} : ∀ {n s : Nat}, frt St n ≤ s → s < n → St s = 0
  | 0, s, _, h => by omega
  | n + 1, s, h1, h2 => by
    unfold frt at h1
    split at h1
    · rename_i e
      by_cases q : s = n
      · rw [q]; exact e
      · exact frt_hi h1 (by omega)
    · omega
theorem frt_ge {St : Nat → Nat} : ∀ {n s : Nat}, St s ≠ 0 → s < n → s + 1 ≤ frt St n
  | 0, s, _, h => by omega
  | n + 1, s, h1, h2 => by
    unfold frt
    split
    · rename_i e
      have : s ≠ n := by intro q; rw [q] at h1; exact h1 e
      exact frt_ge h1 (by omega)
    · omega
theorem up1_e {f : Nat → Nat} {k v : Nat} : up1 f k v k = v := by simp [up1]
theorem up1_n {f : Nat → Nat} {k v j : Nat} (h : j ≠ k) : up1 f k v j = f j := by simp [up1, h]
theorem burn1_st (Df : Nat → Bool) (s : Nat) (g : Nat → Nat) (b : BS) : (∀ s', s' ≠ s → bSt (burn1 Df s g b).2 s' = bSt b s') ∧ (bSt (burn1 Df s g b).2 s = 1 ∨ bSt (burn1 Df s g b).2 s = 2) ∧ ((burn1 Df s g b).1 = 1 → bSt (burn1 Df s g b).2 s = 2) ∧ ((burn1 Df s g b).1 ≤ 2) ∧ ((burn1 Df s g b).1 ≠ 2 → bLo (burn1 Df s g b).2 = bLo b) := by
  unfold burn1
  split
  · exact ⟨fun s' h => up1_n h, Or.inr up1_e, fun h => absurd h (by simp), by simp, fun h => absurd rfl h⟩
  · split
    · exact ⟨fun s' h => up1_n h, Or.inr up1_e, fun _ => up1_e, by simp, fun _ => rfl⟩
    · exact ⟨fun s' h => up1_n h, Or.inl up1_e, fun h => absurd h (by simp), by simp, fun _ => rfl⟩
theorem burn1_med {n : Nat} (Df : Nat → Bool) (s : Nat) {g : Nat → Nat} {b : BS} (hg : ∀ i, g i < 256) (h : Med n (bB b) (bSt b)) : Med n (bB (burn1 Df s g b).2) (bSt (burn1 Df s g b).2) := by
  obtain ⟨h1, h2, h3, h4⟩ := h
  refine ⟨h1, h2, fun q => ?_, fun q => ?_⟩
  · unfold burn1
    split
    · exact h3 q
    · split
      · exact h3 q
      · show ovP (bB b) s g q < 256
        unfold ovP
        split
        · exact hg _
        · exact h3 q
  · by_cases e : q = s
    · rw [e]
      rcases (burn1_st Df s g b).2.1 with z | z <;> omega
    · rw [(burn1_st Df s g b).1 q e]; exact h4 q
theorem burnS_st (Df : Nat → Bool) (f : Nat) (g : Nat → Nat → Nat) : ∀ (r i : Nat) (b : BS), (∀ s, s < f + i ∨ f + i + r ≤ s → bSt (burnS Df f g r i b).2 s = bSt b s) ∧ ((burnS Df f g r i b).1 = 1 → ∃ s, f + i ≤ s ∧ s < f + i + r ∧ bSt (burnS Df f g r i b).2 s = 2) ∧ ((burnS Df f g r i b).1 ≤ 2) ∧ ((burnS Df f g r i b).1 ≠ 2 → bLo (burnS Df f g r i b).2 = bLo b)
  | 0, i, b => by
    unfold burnS
    exact ⟨fun _ _ => rfl, fun h => absurd h (by simp), by simp, fun _ => rfl⟩
  | r + 1, i, b => by
    obtain ⟨a1, a2, a3, a4, a5⟩ := burn1_st Df (f + i) (g i) b
    unfold burnS
    split
    · rename_i e
      obtain ⟨c1, c2, c3, c4⟩ := burnS_st Df f g r (i + 1) (burn1 Df (f + i) (g i) b).2
      refine ⟨fun s hs => ?_, fun h => ?_, c3, fun h => ?_⟩
      · rw [c1 s (by omega), a1 s (by omega)]
      · obtain ⟨s, q1, q2, q3⟩ := c2 h
        exact ⟨s, by omega, by omega, q3⟩
      · rw [c4 h, a5 (by rw [e]; decide)]
    · exact ⟨fun s hs => a1 s (by omega), fun h => ⟨f + i, by omega, by omega, a3 h⟩, a4, a5⟩
theorem burnS_med {n : Nat} (Df : Nat → Bool) (f : Nat) {g : Nat → Nat → Nat} (hg : ∀ j i, g j i < 256) : ∀ (r i : Nat) (b : BS), Med n (bB b) (bSt b) → Med n (bB (burnS Df f g r i b).2) (bSt (burnS Df f g r i b).2)
  | 0, i, b, h => h
  | r + 1, i, b, h => by
    unfold burnS
    split
    · exact burnS_med Df f hg r (i + 1) _ (burn1_med Df _ (hg i) h)
    · exact burn1_med Df _ (hg i) h
section
variable {σ : Hp} {m n sd fs : Nat} {b : BS} {Df : Nat → Bool}
/-- the reference burns a medium that begins at fs -/
def BMd (σ : Hp) (m n sd fs : Nat) (b : BS) (Df : Nat → Bool) : Prop := MW σ m ∧ Med n (bB b) (bSt b) ∧ fI_ σ 8 1 m = nI n ∧ fI_ σ 8 2 m = nI sd ∧ (fs = 0 ∨ fs = 200) ∧ (sd = 0 ∨ sd = 200) ∧ (∀ p, p < 2048 * n → aI_ σ (m + 1) (2048 * fs + p) = sb_b (bB b p)) ∧ (∀ s, s < n → aI_ σ (m + 2) (fs + s) = nI (bSt b s)) ∧
  fI_ σ 8 6 m = b2 (bLo b) ∧ (bLo b = false → fI_ σ 8 7 m = bL b) ∧ fI_ σ 8 8 m = bWr b ∧ (fs = sd → ∀ s, s < n → bSt b s = 0 → aI_ σ (m + 3) s = b2 (Df s)) ∧ (fs ≠ sd → ∀ s, Df s = false)
def PBn (fs : Nat) : Nat → Nat → Prop := fun j i => (j = 1 ∧ 2048 * fs ≤ i ∧ i < 2048 * fs + 409600) ∨ (j = 2 ∧ fs ≤ i ∧ i < fs + 200)
def QB : Nat → Prop := fun k => k = 6 ∨ k = 7 ∨ k = 8
theorem BMd.fr {σ' : Hp} {P : Nat → Nat → Prop} {Q : Nat → Prop} (h : BMd σ m n sd fs b Df) (f : MFr m σ σ' P Q) (q : ∀ k, k = 1 ∨ k = 2 ∨ k = 6 ∨ k = 7 ∨ k = 8 → ¬ Q k) (p : ∀ j i, j ≤ 3 → ¬ P j i) : BMd σ' m n sd fs b Df := by
  obtain ⟨h1, h2, h3, h4, h5, h6, h7, h8, h9, h10, h11, h12, h13⟩ := h
  exact ⟨f.mw h1, h2, by rw [f.f (q _ (by omega))]; exact h3, by rw [f.f (q _ (by omega))]; exact h4, h5, h6, fun p' hp => by rw [f.a (p _ _ (by omega))]; exact h7 p' hp, fun s hs => by rw [f.a (p _ _ (by omega))]; exact h8 s hs, by rw [f.f (q _ (by omega))]; exact h9, by rw [f.f (q _ (by omega))]; exact h10, by rw [f.f (q _ (by omega))]; exact h11, fun e s a b => by rw [f.a (p _ _ (by omega))]; exact h12 e s a b, h13⟩
theorem m_front (h : BMd σ m n sd fs b Df) {post : Int32 → Prop} (k : post (nI (frt (bSt b) n))) : wX9_frontOf m (nI fs) σ post := by
  obtain ⟨hw, ⟨hn1, hn2, hB, hSt⟩, h3, h4, h5, h6, h7, h8, -⟩ := h
  unfold wX9_frontOf
  refine ⟨mw_tag hw, fun y hy => ?_⟩
  rw [hy, h3]
  unfold wX9_frontOf_L5
  refine lpG1 (B := fun R x => wX9_frontOf_B5 post R m (nI fs) x σ) (fun j x => j ≤ n ∧ x = nI j ∧ frt (bSt b) j = frt (bSt b) n) n ⟨Nat.le_refl _, rfl, rfl⟩ ?_
  rintro j x R ⟨h1, rfl, hf⟩ hR
  unfold wX9_frontOf_B5
  cases j with
  | zero => exact ⟨fun _ => by rw [← hf] at k; exact k, fun z => absurd (by decide) z⟩
  | succ j =>
    have hst := hSt j
    simp (disch := omega) only [atg_sI, afI_sI, afL_sI, afR_sI, aln_sI, aaI_sI, aaL_sI, aaR_sI, anx_sI, abc_sI, abs_sI, alo_sI, atg_wI, afI_wI, afL_wI, afR_wI, aln_wI, aaI_wI, aaL_wI, aaR_wI, anx_wI, abc_wI, abs_wI, alo_wI, atg_wL, afI_wL, afL_wL, afR_wL, aln_wL, aaI_wL, aaL_wL, aaR_wL, anx_wL, abc_wL, abs_wL, alo_wL, u2_e, u2_r, u2_i, u3_e, u3_k, u3_c, u3_r, mw_tag hw, mw_lo hw, mw_loa hw, mf_3 hw, mt_3 hw, ml_3 hw, mf_4 hw, mt_4 hw, ml_4 hw, mf_5 hw, mt_5 hw, ml_5 hw, mf_9 hw, mt_9 hw, ml_9 hw, mf_11 hw, mt_11 hw, ml_11 hw, mf_12 hw, mt_12 hw, ml_12 hw, mf_13 hw, mt_13 hw, ml_13 hw, mf_14 hw, mt_14 hw, ml_14 hw, mf_15 hw, mt_15 hw, ml_15 hw, mf_16 hw, mt_16 hw, ml_16 hw, mf_17 hw, mt_17 hw, ml_17 hw, mf_18 hw, mt_18 hw, ml_18 hw, mf_19 hw, mt_19 hw, ml_19 hw, mf_21 hw, mt_21 hw, ml_21 hw, mf_24 hw, mt_24 hw, ml_24 hw, mf_25 hw, mt_25 hw, ml_25 hw, mf_26 hw, mt_26 hw, ml_26 hw, mf_29 hw, mt_29 hw, ml_29 hw, mf_30 hw, mt_30 hw, ml_30 hw, mf_31 hw, mt_31 hw, ml_31 hw, mf_32 hw, mt_32 hw, ml_32 hw, mf_33 hw, mt_33 hw, ml_33 hw, mf_34 hw, mt_34 hw, ml_34 hw, mf_36 hw, mt_36 hw, ml_36 hw, mf_37 hw, mt_37 hw, ml_37 hw, mf_38 hw, mt_38 hw, ml_38 hw, mf_39 hw, mt_39 hw, ml_39 hw, mf_40 hw, mt_40 hw, ml_40 hw, li_0, li_1, li_2, li_3, li_4, li_5, li_6, li_7, li_8, li_9, li_10, li_12, li_14, li_16, li_17, li_18, li_19, li_20, li_25, li_28, li_30, li_31, li_32, li_33, li_34, li_40, li_46, li_48, li_49, li_57, li_59, li_65, li_67, li_68, li_75, li_77, li_80, li_82, li_90, li_95, li_100, li_128, li_130, li_132, li_136, li_140, li_148, li_156, li_200, li_255, li_256, li_400, li_700, li_2047, li_2048, li_2049, li_2050, li_2054, li_2056, li_4096, li_6000, li_163840, li_409600, li_819200, nI_add, pk_mul, pk_sub, nI_leI, nI_ltI, nI_eq, nI_clamp, vin_t, forall_eq, true_and, and_true, forall_const, implies_true, h8 j (by omega), show fs + (j + 1) - 1 = fs + j by omega]
    rw [frt_s (bSt b) j] at hf
    refine ⟨fun z => by omega, fun _ => ⟨fun z => ?_, fun z => ?_⟩⟩
    · rw [if_neg z] at hf
      rw [← hf] at k; exact k
    · rw [if_pos z] at hf
      refine hR j _ (by omega) ⟨by omega, ?_, hf⟩
      exact pk_m1 j
/-- the page -/
def PG (σ : Hp) (m : Nat) (g : Nat → Nat) : Prop := ∀ i, i < 2048 → aI_ σ (m + 4) i = sb_b (g i)
theorem m_burn89 {B0 : Nat → Nat} (hw : MW σ m) (hfs : fs = 0 ∨ fs = 200) {s : Nat} (hs : s < 200) {g : Nat → Nat} (hg : PG σ m g) (hB : ∀ p, p < 2048 * n → aI_ σ (m + 1) (2048 * fs + p) = sb_b (B0 p)) {post : Int32 → Hp → Prop}
    (k : ∀ σ', MFr m σ σ' (PBn fs) N0 → (∀ i, aI_ σ' (m + 2) i = aI_ σ (m + 2) i) → (∀ p, p < 2048 * n → aI_ σ' (m + 1) (2048 * fs + p) = sb_b (ovP B0 s g p)) → post 0 σ') : wX9_burn_L89 post m (nI fs) (nI s) 0 σ := by
  unfold wX9_burn_L89
  refine lpG2 (B := fun R x τ => wX9_burn_B89 post R m (nI fs) (nI s) x τ) (fun j x τ => ∃ i, i + j = 2048 ∧ x = nI i ∧ MFr m σ τ (PBn fs) N0 ∧ (∀ i, aI_ τ (m + 2) i = aI_ σ (m + 2) i) ∧ ∀ p, p < 2048 * n → aI_ τ (m + 1) (2048 * fs + p) = sb_b (if 2048 * s ≤ p ∧ p < 2048 * s + i then g (p - 2048 * s) else B0 p)) 2048 ⟨0, by omega, rfl, MFr.refl, fun _ => rfl, fun p hp => by rw [if_neg (by omega)]; exact hB p hp⟩ ?_
  rintro j x τ R ⟨i, h1, rfl, h3, h4, h5⟩ hR
  have hw := h3.mw hw
  unfold wX9_burn_B89
  simp (disch := omega) only [atg_sI, afI_sI, afL_sI, afR_sI, aln_sI, aaI_sI, aaL_sI, aaR_sI, anx_sI, abc_sI, abs_sI, alo_sI, atg_wI, afI_wI, afL_wI, afR_wI, aln_wI, aaI_wI, aaL_wI, aaR_wI, anx_wI, abc_wI, abs_wI, alo_wI, atg_wL, afI_wL, afL_wL, afR_wL, aln_wL, aaI_wL, aaL_wL, aaR_wL, anx_wL, abc_wL, abs_wL, alo_wL, u2_e, u2_r, u2_i, u3_e, u3_k, u3_c, u3_r, mw_tag hw, mw_lo hw, mw_loa hw, mf_3 hw, mt_3 hw, ml_3 hw, mf_4 hw, mt_4 hw, ml_4 hw, mf_5 hw, mt_5 hw, ml_5 hw, mf_9 hw, mt_9 hw, ml_9 hw, mf_11 hw, mt_11 hw, ml_11 hw, mf_12 hw, mt_12 hw, ml_12 hw, mf_13 hw, mt_13 hw, ml_13 hw, mf_14 hw, mt_14 hw, ml_14 hw, mf_15 hw, mt_15 hw, ml_15 hw, mf_16 hw, mt_16 hw, ml_16 hw, mf_17 hw, mt_17 hw, ml_17 hw, mf_18 hw, mt_18 hw, ml_18 hw, mf_19 hw, mt_19 hw, ml_19 hw, mf_21 hw, mt_21 hw, ml_21 hw, mf_24 hw, mt_24 hw, ml_24 hw, mf_25 hw, mt_25 hw, ml_25 hw, mf_26 hw, mt_26 hw, ml_26 hw, mf_29 hw, mt_29 hw, ml_29 hw, mf_30 hw, mt_30 hw, ml_30 hw, mf_31 hw, mt_31 hw, ml_31 hw, mf_32 hw, mt_32 hw, ml_32 hw, mf_33 hw, mt_33 hw, ml_33 hw, mf_34 hw, mt_34 hw, ml_34 hw, mf_36 hw, mt_36 hw, ml_36 hw, mf_37 hw, mt_37 hw, ml_37 hw, mf_38 hw, mt_38 hw, ml_38 hw, mf_39 hw, mt_39 hw, ml_39 hw, mf_40 hw, mt_40 hw, ml_40 hw, li_0, li_1, li_2, li_3, li_4, li_5, li_6, li_7, li_8, li_9, li_10, li_12, li_14, li_16, li_17, li_18, li_19, li_20, li_25, li_28, li_30, li_31, li_32, li_33, li_34, li_40, li_46, li_48, li_49, li_57, li_59, li_65, li_67, li_68, li_75, li_77, li_80, li_82, li_90, li_95, li_100, li_128, li_130, li_132, li_136, li_140, li_148, li_156, li_200, li_255, li_256, li_400, li_700, li_2047, li_2048, li_2049, li_2050, li_2054, li_2056, li_4096, li_6000, li_163840, li_409600, li_819200, nI_add, pk_mul, pk_sub, nI_leI, nI_ltI, nI_eq, nI_clamp, vin_t, forall_eq, true_and, and_true, forall_const, implies_true]
  refine ⟨fun q => k τ h3 h4 (fun p hp => ?_), fun q => ?_⟩
  · have := h5 p hp
    rw [show i = 2048 by omega] at this
    exact this
  · rw [h3.a (by unfold PBn; omega), hg i (by omega), nar_b]
    have fr : MFr m σ (wI_ τ (m + 1) (2048 * (fs + s) + i) (sb_b (g i))) (PBn fs) N0 := by
      refine MFr.wI' h3 (by omega) (by omega) ?_
      unfold PBn
      omega
    simp only [vin_t (show i < 2048 by omega) (by omega), true_and]
    refine ⟨(vin_ (by omega)).mpr (by omega), hR (j - 1) _ _ (by omega) ⟨i + 1, by omega, rfl, fr, fun x => ?_, fun p hp => ?_⟩⟩
    · simp (disch := omega) only [atg_sI, afI_sI, afL_sI, afR_sI, aln_sI, aaI_sI, aaL_sI, aaR_sI, anx_sI, abc_sI, abs_sI, alo_sI, atg_wI, afI_wI, afL_wI, afR_wI, aln_wI, aaI_wI, aaL_wI, aaR_wI, anx_wI, abc_wI, abs_wI, alo_wI, atg_wL, afI_wL, afL_wL, afR_wL, aln_wL, aaI_wL, aaL_wL, aaR_wL, anx_wL, abc_wL, abs_wL, alo_wL, u2_e, u2_r, u2_i, u3_e, u3_k, u3_c, u3_r]
      exact h4 x
    · rw [aaI_wI]
      by_cases e : p = 2048 * s + i
      · subst e
        rw [show 2048 * fs + (2048 * s + i) = 2048 * (fs + s) + i by omega, u2_e, if_pos (by omega), show 2048 * s + i - 2048 * s = i by omega]
      · rw [u2_i (by omega), h5 p hp]
        by_cases e2 : 2048 * s ≤ p ∧ p < 2048 * s + i
        · rw [if_pos e2, if_pos (by omega)]
        · rw [if_neg e2, if_neg (by omega)]
theorem m_burn (h : BMd σ m n sd fs b Df) (hlo : bLo b = false) {s : Nat} (hs : s < n) (hbl : bSt b s = 0) {g : Nat → Nat} (hg : PG σ m g) (hg2 : ∀ i, g i < 256) {post : Int32 → Hp → Prop}
    (k : ∀ σ', MFr m σ σ' (PBn fs) QB → BMd σ' m n sd fs (burn1 Df s g b).2 Df → post (nI (burn1 Df s g b).1) σ') : wX9_burn m (nI fs) (nI s) σ post := by
  obtain ⟨hw, hmed, h3, h4, h5, h6, h7, h8, h9, h10, h11, h12, h13⟩ := id h
  have hn2 := hmed.2.1
  have hmed' := burn1_med Df s hg2 hmed
  obtain ⟨st1, st2, st3, st4, st5⟩ := burn1_st Df s g b
  have e7 := h10 hlo
  -- defects stay
  have hdf : fs = sd → ∀ σ' : Hp, (∀ i, aI_ σ' (m + 3) i = aI_ σ (m + 3) i) → ∀ s', s' < n → bSt (burn1 Df s g b).2 s' = 0 → aI_ σ' (m + 3) s' = b2 (Df s') := by
    intro e σ' z s' a1 a2
    have hne : s' ≠ s := by
      intro q
      rw [q] at a2
      rcases st2 with y | y <;> omega
    rw [z s']
    exact h12 e s' a1 (by rw [← st1 s' hne]; exact a2)
  unfold wX9_burn
  refine ⟨mw_tag hw, fun σ1 e1 => ?_⟩
  have f1 : MFr m σ σ1 (PBn fs) QB := by rw [e1]; exact MFr.sI (Or.inr (Or.inr rfl))
  have g7 : fI_ σ1 8 7 m = bL b := by rw [e1]; simp (disch := omega) only [atg_sI, afI_sI, afL_sI, afR_sI, aln_sI, aaI_sI, aaL_sI, aaR_sI, anx_sI, abc_sI, abs_sI, alo_sI, atg_wI, afI_wI, afL_wI, afR_wI, aln_wI, aaI_wI, aaL_wI, aaR_wI, anx_wI, abc_wI, abs_wI, alo_wI, atg_wL, afI_wL, afL_wL, afR_wL, aln_wL, aaI_wL, aaL_wL, aaR_wL, anx_wL, abc_wL, abs_wL, alo_wL, u2_e, u2_r, u2_i, u3_e, u3_k, u3_c, u3_r]; exact e7
  have g8 : fI_ σ1 8 8 m = bWr b + 1 := by rw [e1]; simp (disch := omega) only [atg_sI, afI_sI, afL_sI, afR_sI, aln_sI, aaI_sI, aaL_sI, aaR_sI, anx_sI, abc_sI, abs_sI, alo_sI, atg_wI, afI_wI, afL_wI, afR_wI, aln_wI, aaI_wI, aaL_wI, aaR_wI, anx_wI, abc_wI, abs_wI, alo_wI, atg_wL, afI_wL, afL_wL, afR_wL, aln_wL, aaI_wL, aaL_wL, aaR_wL, anx_wL, abc_wL, abs_wL, alo_wL, u2_e, u2_r, u2_i, u3_e, u3_k, u3_c, u3_r]; rw [h11]
  have g6 : fI_ σ1 8 6 m = b2 (bLo b) := by rw [e1]; simp (disch := omega) only [atg_sI, afI_sI, afL_sI, afR_sI, aln_sI, aaI_sI, aaL_sI, aaR_sI, anx_sI, abc_sI, abs_sI, alo_sI, atg_wI, afI_wI, afL_wI, afR_wI, aln_wI, aaI_wI, aaL_wI, aaR_wI, anx_wI, abc_wI, abs_wI, alo_wI, atg_wL, afI_wL, afL_wL, afR_wL, aln_wL, aaI_wL, aaL_wL, aaR_wL, anx_wL, abc_wL, abs_wL, alo_wL, u2_e, u2_r, u2_i, u3_e, u3_k, u3_c, u3_r]; exact h9
  have hw1 := f1.mw hw
  -- the sector goes bad or well
  have L50 : ∀ σ2, MFr m σ σ2 (fun _ _ => False) QB → bL b ≠ 0 → fI_ σ2 8 7 m = (if bL b ≤ 0 then bL b else bL b - 1) → fI_ σ2 8 8 m = bWr b + 1 → fI_ σ2 8 6 m = b2 (bLo b) → wX9_burn_L50 post m (nI fs) (nI s) σ2 := by
    intro σ2 f2 hL k7 k8 k6
    have hw := f2.mw hw
    have e2 : fI_ σ2 8 2 m = nI sd := by rw [f2.f (by unfold QB; omega)]; exact h4
    have e1' : fI_ σ2 8 1 m = nI n := by rw [f2.f (by unfold QB; omega)]; exact h3
    have hst2 : ∀ s, s < n → aI_ σ2 (m + 2) (fs + s) = nI (bSt b s) := fun s hs => by rw [f2.a (fun z => z)]; exact h8 s hs
    have L78 : Df s = false → wX9_burn_L78 post m (nI fs) (nI s) σ2 := by
      intro hd
      have eb : burn1 Df s g b = (0, (ovP (bB b) s g, up1 (bSt b) s 1, (if bL b ≤ 0 then bL b else bL b - 1), bWr b + 1, bLo b)) := by
        unfold burn1; rw [if_neg hL, hd]; rfl
      unfold wX9_burn_L78
      simp (disch := omega) only [atg_sI, afI_sI, afL_sI, afR_sI, aln_sI, aaI_sI, aaL_sI, aaR_sI, anx_sI, abc_sI, abs_sI, alo_sI, atg_wI, afI_wI, afL_wI, afR_wI, aln_wI, aaI_wI, aaL_wI, aaR_wI, anx_wI, abc_wI, abs_wI, alo_wI, atg_wL, afI_wL, afL_wL, afR_wL, aln_wL, aaI_wL, aaL_wL, aaR_wL, anx_wL, abc_wL, abs_wL, alo_wL, u2_e, u2_r, u2_i, u3_e, u3_k, u3_c, u3_r, mw_tag hw, mw_lo hw, mw_loa hw, mf_3 hw, mt_3 hw, ml_3 hw, mf_4 hw, mt_4 hw, ml_4 hw, mf_5 hw, mt_5 hw, ml_5 hw, mf_9 hw, mt_9 hw, ml_9 hw, mf_11 hw, mt_11 hw, ml_11 hw, mf_12 hw, mt_12 hw, ml_12 hw, mf_13 hw, mt_13 hw, ml_13 hw, mf_14 hw, mt_14 hw, ml_14 hw, mf_15 hw, mt_15 hw, ml_15 hw, mf_16 hw, mt_16 hw, ml_16 hw, mf_17 hw, mt_17 hw, ml_17 hw, mf_18 hw, mt_18 hw, ml_18 hw, mf_19 hw, mt_19 hw, ml_19 hw, mf_21 hw, mt_21 hw, ml_21 hw, mf_24 hw, mt_24 hw, ml_24 hw, mf_25 hw, mt_25 hw, ml_25 hw, mf_26 hw, mt_26 hw, ml_26 hw, mf_29 hw, mt_29 hw, ml_29 hw, mf_30 hw, mt_30 hw, ml_30 hw, mf_31 hw, mt_31 hw, ml_31 hw, mf_32 hw, mt_32 hw, ml_32 hw, mf_33 hw, mt_33 hw, ml_33 hw, mf_34 hw, mt_34 hw, ml_34 hw, mf_36 hw, mt_36 hw, ml_36 hw, mf_37 hw, mt_37 hw, ml_37 hw, mf_38 hw, mt_38 hw, ml_38 hw, mf_39 hw, mt_39 hw, ml_39 hw, mf_40 hw, mt_40 hw, ml_40 hw, li_0, li_1, li_2, li_3, li_4, li_5, li_6, li_7, li_8, li_9, li_10, li_12, li_14, li_16, li_17, li_18, li_19, li_20, li_25, li_28, li_30, li_31, li_32, li_33, li_34, li_40, li_46, li_48, li_49, li_57, li_59, li_65, li_67, li_68, li_75, li_77, li_80, li_82, li_90, li_95, li_100, li_128, li_130, li_132, li_136, li_140, li_148, li_156, li_200, li_255, li_256, li_400, li_700, li_2047, li_2048, li_2049, li_2050, li_2054, li_2056, li_4096, li_6000, li_163840, li_409600, li_819200, nI_add, pk_mul, pk_sub, nI_leI, nI_ltI, nI_eq, nI_clamp, vin_t, forall_eq, true_and, and_true, forall_const, implies_true]
      have f3 : MFr m σ2 (wI_ σ2 (m + 2) (fs + s) (vp_nar .byte (nI 1))) (PBn fs) QB := MFr.wI (by omega) (by omega) (by unfold PBn; omega)
      refine m_burn89 (n := n) (B0 := bB b) (g := g) (f3.mw hw) h5 (by omega) (fun i hi => ?_) (fun p hp => ?_) (fun σ4 f4 q1 q2 => ?_)
      · simp (disch := omega) only [atg_sI, afI_sI, afL_sI, afR_sI, aln_sI, aaI_sI, aaL_sI, aaR_sI, anx_sI, abc_sI, abs_sI, alo_sI, atg_wI, afI_wI, afL_wI, afR_wI, aln_wI, aaI_wI, aaL_wI, aaR_wI, anx_wI, abc_wI, abs_wI, alo_wI, atg_wL, afI_wL, afL_wL, afR_wL, aln_wL, aaI_wL, aaL_wL, aaR_wL, anx_wL, abc_wL, abs_wL, alo_wL, u2_e, u2_r, u2_i, u3_e, u3_k, u3_c, u3_r]
        rw [f2.a (fun z => z)]; exact hg i hi
      · simp (disch := omega) only [atg_sI, afI_sI, afL_sI, afR_sI, aln_sI, aaI_sI, aaL_sI, aaR_sI, anx_sI, abc_sI, abs_sI, alo_sI, atg_wI, afI_wI, afL_wI, afR_wI, aln_wI, aaI_wI, aaL_wI, aaR_wI, anx_wI, abc_wI, abs_wI, alo_wI, atg_wL, afI_wL, afL_wL, afR_wL, aln_wL, aaI_wL, aaL_wL, aaR_wL, anx_wL, abc_wL, abs_wL, alo_wL, u2_e, u2_r, u2_i, u3_e, u3_k, u3_c, u3_r]
        rw [f2.a (fun z => z)]; exact h7 p hp
      · have f24 : MFr m σ2 σ4 (PBn fs) QB := f3.trans (f4.mono (fun _ _ z => z) (fun _ z => z.elim))
        have fa : MFr m σ σ4 (PBn fs) QB := (f2.mono (fun _ _ z => z.elim) (fun _ z => z)).trans f24
        have q4 : ∀ k, k = 6 ∨ k = 7 ∨ k = 8 → fI_ σ4 8 k m = fI_ σ2 8 k m := fun k hk => by
          rw [f4.f (fun z => z)]; rfl
        have := k σ4 fa ⟨fa.mw (h.1), hmed', by rw [fa.f (by unfold QB; omega)]; exact h3, by rw [fa.f (by unfold QB; omega)]; exact h4, h5, h6, fun p hp => by rw [q2 p hp, eb]; rfl, fun s' hs' => ?_, by rw [q4 6 (by omega), k6, eb]; rfl, fun _ => by rw [q4 7 (by omega), k7, eb]; rfl, by rw [q4 8 (by omega), k8, eb]; rfl, fun e => hdf e σ4 (fun i => fa.a (by unfold PBn; omega)), h13⟩
        · rw [eb] at this; exact this
        · rw [q1, aaI_wI, eb]
          show _ = nI (up1 (bSt b) s 1 s')
          by_cases e : s' = s
          · subst e
            rw [u2_e, up1_e]; rfl
          · rw [u2_i (by omega), up1_n e]; exact hst2 s' hs'
    have bad : Df s = true → post 1 (wI_ σ2 (m + 2) (fs + s) (vp_nar .byte (nI 2))) := by
      intro hd
      have eb : burn1 Df s g b = (1, (bB b, up1 (bSt b) s 2, (if bL b ≤ 0 then bL b else bL b - 1), bWr b + 1, bLo b)) := by
        unfold burn1; rw [if_neg hL, hd]; rfl
      have f3 : MFr m σ2 (wI_ σ2 (m + 2) (fs + s) (vp_nar .byte (nI 2))) (PBn fs) QB := MFr.wI (by omega) (by omega) (by unfold PBn; omega)
      have fa : MFr m σ (wI_ σ2 (m + 2) (fs + s) (vp_nar .byte (nI 2))) (PBn fs) QB := (f2.mono (fun _ _ z => z.elim) (fun _ z => z)).trans f3
      have := k _ fa ⟨fa.mw (h.1), hmed', by rw [fa.f (by unfold QB; omega)]; exact h3, by rw [fa.f (by unfold QB; omega)]; exact h4, h5, h6, fun p hp => ?_, fun s' hs' => ?_, by rw [eb]; exact k6, fun _ => by rw [eb]; exact k7, by rw [eb]; exact k8, fun e => hdf e _ (fun i => fa.a (by unfold PBn; omega)), h13⟩
      · rw [eb] at this; exact this
      · simp (disch := omega) only [atg_sI, afI_sI, afL_sI, afR_sI, aln_sI, aaI_sI, aaL_sI, aaR_sI, anx_sI, abc_sI, abs_sI, alo_sI, atg_wI, afI_wI, afL_wI, afR_wI, aln_wI, aaI_wI, aaL_wI, aaR_wI, anx_wI, abc_wI, abs_wI, alo_wI, atg_wL, afI_wL, afL_wL, afR_wL, aln_wL, aaI_wL, aaL_wL, aaR_wL, anx_wL, abc_wL, abs_wL, alo_wL, u2_e, u2_r, u2_i, u3_e, u3_k, u3_c, u3_r]
        rw [f2.a (fun z => z), eb]; exact h7 p hp
      · rw [aaI_wI, eb]
        show _ = nI (up1 (bSt b) s 2 s')
        by_cases e : s' = s
        · subst e
          rw [u2_e, up1_e]; rfl
        · rw [u2_i (by omega), up1_n e]; exact hst2 s' hs'
    unfold wX9_burn_L50
    simp (disch := omega) only [atg_sI, afI_sI, afL_sI, afR_sI, aln_sI, aaI_sI, aaL_sI, aaR_sI, anx_sI, abc_sI, abs_sI, alo_sI, atg_wI, afI_wI, afL_wI, afR_wI, aln_wI, aaI_wI, aaL_wI, aaR_wI, anx_wI, abc_wI, abs_wI, alo_wI, atg_wL, afI_wL, afL_wL, afR_wL, aln_wL, aaI_wL, aaL_wL, aaR_wL, anx_wL, abc_wL, abs_wL, alo_wL, u2_e, u2_r, u2_i, u3_e, u3_k, u3_c, u3_r, mw_tag hw, mw_lo hw, mw_loa hw, mf_3 hw, mt_3 hw, ml_3 hw, mf_4 hw, mt_4 hw, ml_4 hw, mf_5 hw, mt_5 hw, ml_5 hw, mf_9 hw, mt_9 hw, ml_9 hw, mf_11 hw, mt_11 hw, ml_11 hw, mf_12 hw, mt_12 hw, ml_12 hw, mf_13 hw, mt_13 hw, ml_13 hw, mf_14 hw, mt_14 hw, ml_14 hw, mf_15 hw, mt_15 hw, ml_15 hw, mf_16 hw, mt_16 hw, ml_16 hw, mf_17 hw, mt_17 hw, ml_17 hw, mf_18 hw, mt_18 hw, ml_18 hw, mf_19 hw, mt_19 hw, ml_19 hw, mf_21 hw, mt_21 hw, ml_21 hw, mf_24 hw, mt_24 hw, ml_24 hw, mf_25 hw, mt_25 hw, ml_25 hw, mf_26 hw, mt_26 hw, ml_26 hw, mf_29 hw, mt_29 hw, ml_29 hw, mf_30 hw, mt_30 hw, ml_30 hw, mf_31 hw, mt_31 hw, ml_31 hw, mf_32 hw, mt_32 hw, ml_32 hw, mf_33 hw, mt_33 hw, ml_33 hw, mf_34 hw, mt_34 hw, ml_34 hw, mf_36 hw, mt_36 hw, ml_36 hw, mf_37 hw, mt_37 hw, ml_37 hw, mf_38 hw, mt_38 hw, ml_38 hw, mf_39 hw, mt_39 hw, ml_39 hw, mf_40 hw, mt_40 hw, ml_40 hw, li_0, li_1, li_2, li_3, li_4, li_5, li_6, li_7, li_8, li_9, li_10, li_12, li_14, li_16, li_17, li_18, li_19, li_20, li_25, li_28, li_30, li_31, li_32, li_33, li_34, li_40, li_46, li_48, li_49, li_57, li_59, li_65, li_67, li_68, li_75, li_77, li_80, li_82, li_90, li_95, li_100, li_128, li_130, li_132, li_136, li_140, li_148, li_156, li_200, li_255, li_256, li_400, li_700, li_2047, li_2048, li_2049, li_2050, li_2054, li_2056, li_4096, li_6000, li_163840, li_409600, li_819200, nI_add, pk_mul, pk_sub, nI_leI, nI_ltI, nI_eq, nI_clamp, vin_t, forall_eq, true_and, and_true, forall_const, implies_true, e2]
    refine ⟨fun e => L78 (h13 e s), fun e => ?_⟩
    rw [f2.a (fun z => z), h12 e s hs hbl]
    cases hd : Df s with
    | true => exact ⟨fun z => absurd z (by decide), fun _ => bad hd⟩
    | false => exact ⟨fun _ => L78 hd, fun z => absurd rfl z⟩
  have f1' : MFr m σ σ1 (fun _ _ => False) QB := by rw [e1]; exact MFr.sI (Or.inr (Or.inr rfl))
  rw [g7]
  refine ⟨fun hL => ⟨fun z => L50 σ1 f1' hL (by rw [g7, if_pos z]) g8 g6, fun z σ2 e2 => L50 σ2 ?_ hL ?_ ?_ ?_⟩, fun hL => ?_⟩
  · rw [e2]; exact f1'.trans (MFr.sI (Or.inr (Or.inl rfl)))
  · rw [e2, afI_sI, u3_e, if_neg z]
  · rw [e2]; simp (disch := omega) only [atg_sI, afI_sI, afL_sI, afR_sI, aln_sI, aaI_sI, aaL_sI, aaR_sI, anx_sI, abc_sI, abs_sI, alo_sI, atg_wI, afI_wI, afL_wI, afR_wI, aln_wI, aaI_wI, aaL_wI, aaR_wI, anx_wI, abc_wI, abs_wI, alo_wI, atg_wL, afI_wL, afL_wL, afR_wL, aln_wL, aaI_wL, aaL_wL, aaR_wL, anx_wL, abc_wL, abs_wL, alo_wL, u2_e, u2_r, u2_i, u3_e, u3_k, u3_c, u3_r]; exact g8
  · rw [e2]; simp (disch := omega) only [atg_sI, afI_sI, afL_sI, afR_sI, aln_sI, aaI_sI, aaL_sI, aaR_sI, anx_sI, abc_sI, abs_sI, alo_sI, atg_wI, afI_wI, afL_wI, afR_wI, aln_wI, aaI_wI, aaL_wI, aaR_wI, anx_wI, abc_wI, abs_wI, alo_wI, atg_wL, afI_wL, afL_wL, afR_wL, aln_wL, aaI_wL, aaL_wL, aaR_wL, anx_wL, abc_wL, abs_wL, alo_wL, u2_e, u2_r, u2_i, u3_e, u3_k, u3_c, u3_r]; exact g6
  · have eb : burn1 Df s g b = (2, (bB b, up1 (bSt b) s 2, bL b, bWr b + 1, true)) := by unfold burn1; rw [if_pos hL]
    have hw := hw1
    simp (disch := omega) only [atg_sI, afI_sI, afL_sI, afR_sI, aln_sI, aaI_sI, aaL_sI, aaR_sI, anx_sI, abc_sI, abs_sI, alo_sI, atg_wI, afI_wI, afL_wI, afR_wI, aln_wI, aaI_wI, aaL_wI, aaR_wI, anx_wI, abc_wI, abs_wI, alo_wI, atg_wL, afI_wL, afL_wL, afR_wL, aln_wL, aaI_wL, aaL_wL, aaR_wL, anx_wL, abc_wL, abs_wL, alo_wL, u2_e, u2_r, u2_i, u3_e, u3_k, u3_c, u3_r, mw_tag hw, mw_lo hw, mw_loa hw, mf_3 hw, mt_3 hw, ml_3 hw, mf_4 hw, mt_4 hw, ml_4 hw, mf_5 hw, mt_5 hw, ml_5 hw, mf_9 hw, mt_9 hw, ml_9 hw, mf_11 hw, mt_11 hw, ml_11 hw, mf_12 hw, mt_12 hw, ml_12 hw, mf_13 hw, mt_13 hw, ml_13 hw, mf_14 hw, mt_14 hw, ml_14 hw, mf_15 hw, mt_15 hw, ml_15 hw, mf_16 hw, mt_16 hw, ml_16 hw, mf_17 hw, mt_17 hw, ml_17 hw, mf_18 hw, mt_18 hw, ml_18 hw, mf_19 hw, mt_19 hw, ml_19 hw, mf_21 hw, mt_21 hw, ml_21 hw, mf_24 hw, mt_24 hw, ml_24 hw, mf_25 hw, mt_25 hw, ml_25 hw, mf_26 hw, mt_26 hw, ml_26 hw, mf_29 hw, mt_29 hw, ml_29 hw, mf_30 hw, mt_30 hw, ml_30 hw, mf_31 hw, mt_31 hw, ml_31 hw, mf_32 hw, mt_32 hw, ml_32 hw, mf_33 hw, mt_33 hw, ml_33 hw, mf_34 hw, mt_34 hw, ml_34 hw, mf_36 hw, mt_36 hw, ml_36 hw, mf_37 hw, mt_37 hw, ml_37 hw, mf_38 hw, mt_38 hw, ml_38 hw, mf_39 hw, mt_39 hw, ml_39 hw, mf_40 hw, mt_40 hw, ml_40 hw, li_0, li_1, li_2, li_3, li_4, li_5, li_6, li_7, li_8, li_9, li_10, li_12, li_14, li_16, li_17, li_18, li_19, li_20, li_25, li_28, li_30, li_31, li_32, li_33, li_34, li_40, li_46, li_48, li_49, li_57, li_59, li_65, li_67, li_68, li_75, li_77, li_80, li_82, li_90, li_95, li_100, li_128, li_130, li_132, li_136, li_140, li_148, li_156, li_200, li_255, li_256, li_400, li_700, li_2047, li_2048, li_2049, li_2050, li_2054, li_2056, li_4096, li_6000, li_163840, li_409600, li_819200, nI_add, pk_mul, pk_sub, nI_leI, nI_ltI, nI_eq, nI_clamp, vin_t, forall_eq, true_and, and_true, forall_const, implies_true]
    have f3 : MFr m σ1 (sI_ (wI_ σ1 (m + 2) (fs + s) (vp_nar .byte (nI 2))) 8 6 m (nI 1)) (PBn fs) QB := (MFr.wI (by omega) (by omega) (by unfold PBn; omega)).trans (MFr.sI (Or.inl rfl))
    have fa := f1.trans f3
    have := k _ fa ⟨fa.mw (h.1), hmed', by rw [fa.f (by unfold QB; omega)]; exact h3, by rw [fa.f (by unfold QB; omega)]; exact h4, h5, h6, fun p hp => ?_, fun s' hs' => ?_, ?_, fun z => ?_, ?_, fun e => hdf e _ (fun i => fa.a (by unfold PBn; omega)), h13⟩
    · rw [eb] at this; exact this
    · simp (disch := omega) only [atg_sI, afI_sI, afL_sI, afR_sI, aln_sI, aaI_sI, aaL_sI, aaR_sI, anx_sI, abc_sI, abs_sI, alo_sI, atg_wI, afI_wI, afL_wI, afR_wI, aln_wI, aaI_wI, aaL_wI, aaR_wI, anx_wI, abc_wI, abs_wI, alo_wI, atg_wL, afI_wL, afL_wL, afR_wL, aln_wL, aaI_wL, aaL_wL, aaR_wL, anx_wL, abc_wL, abs_wL, alo_wL, u2_e, u2_r, u2_i, u3_e, u3_k, u3_c, u3_r]
      rw [f1'.a (fun z => z), eb]; exact h7 p hp
    · rw [aaI_sI, aaI_wI, eb]
      show _ = nI (up1 (bSt b) s 2 s')
      by_cases e : s' = s
      · subst e
        rw [u2_e, up1_e]; rfl
      · rw [u2_i (by omega), up1_n e, f1'.a (fun z => z)]; exact h8 s' hs'
    · rw [afI_sI, u3_e, eb]; rfl
    · rw [eb] at z; cases z
    · simp (disch := omega) only [atg_sI, afI_sI, afL_sI, afR_sI, aln_sI, aaI_sI, aaL_sI, aaR_sI, anx_sI, abc_sI, abs_sI, alo_sI, atg_wI, afI_wI, afL_wI, afR_wI, aln_wI, aaI_wI, aaL_wI, aaR_wI, anx_wI, abc_wI, abs_wI, alo_wI, atg_wL, afI_wL, afL_wL, afR_wL, aln_wL, aaI_wL, aaL_wL, aaR_wL, anx_wL, abc_wL, abs_wL, alo_wL, u2_e, u2_r, u2_i, u3_e, u3_k, u3_c, u3_r]
      rw [eb]; exact g8
end
