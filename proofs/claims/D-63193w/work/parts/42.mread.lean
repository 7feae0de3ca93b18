/-! the reference reads its medium: single bytes, numbers, names, written sectors -/
/-- a medium: n sectors, bytes B, states St -/
def Med (n : Nat) (B St : Nat → Nat) : Prop := 40 ≤ n ∧ n ≤ 200 ∧ (∀ q, B q < 256) ∧ (∀ q, St q < 3)
/-- the reference m holds it at side sd -/
def MedM (σ : Hp) (m n sd : Nat) (B St : Nat → Nat) : Prop := MW σ m ∧ Med n B St ∧ fI_ σ 8 1 m = nI n ∧ fI_ σ 8 2 m = nI sd ∧ (sd = 0 ∨ sd = 200) ∧ (∀ p, p < 2048 * n → aI_ σ (m + 1) (2048 * sd + p) = sb_b (B p)) ∧ (∀ s, s < n → aI_ σ (m + 2) (sd + s) = nI (St s))
section
variable {σ : Hp} {m n sd : Nat} {B St : Nat → Nat}
theorem m_get (h : MedM σ m n sd B St) {p : Nat} (hp : p < 2048 * n) {post : Int32 → Prop} (k : post (nI (B p))) : wX9_get m (nI p) σ post := by
  obtain ⟨hw, ⟨hn1, hn2, hB, -⟩, h1, h2, h3, h4, h5⟩ := h
  have hs : sd ≤ 200 := by omega
  unfold wX9_get
  simp (disch := omega) only [mf_3 hw, h2, mw_tag hw, mt_3 hw, ml_3 hw, li_0, li_1, li_2, li_3, li_4, li_5, li_6, li_7, li_8, li_9, li_10, li_12, li_14, li_16, li_17, li_18, li_19, li_20, li_25, li_28, li_30, li_31, li_32, li_33, li_34, li_40, li_46, li_48, li_49, li_57, li_59, li_65, li_67, li_68, li_75, li_77, li_80, li_82, li_90, li_95, li_100, li_128, li_130, li_132, li_136, li_140, li_148, li_156, li_200, li_255, li_256, li_400, li_700, li_2047, li_2048, li_2049, li_2050, li_2054, li_2056, li_4096, li_6000, li_163840, li_409600, li_819200, nI_add, pk_mul, pk_sub, nI_leI, nI_ltI, nI_eq, nI_clamp, vin_, h4, sb_and (hB p), true_and]
  exact ⟨by omega, k⟩
theorem m_in {x a b : Int32} {post : Int32 → Prop} (k1 : ¬ x < a → ¬ b < x → post 1) (k0 : x < a ∨ b < x → post 0) : wX9_in x a b σ post := by
  unfold wX9_in
  exact ⟨fun h => k0 (Or.inl h), fun h => ⟨fun h2 => k0 (Or.inr h2), fun h2 => k1 h h2⟩⟩
theorem m_isW (h : MedM σ m n sd B St) {s : Nat} (hs : s < 100000) {post : Int32 → Prop} (k1 : s < n → St s = 1 → post 1) (k0 : ¬ (s < n ∧ St s = 1) → post 0) : wX9_isWrittenSector m (nI s) σ post := by
  obtain ⟨hw, ⟨hn1, hn2, hB, hSt⟩, h1, h2, h3, h4, h5⟩ := h
  unfold wX9_isWrittenSector
  refine ⟨mw_tag hw, ?_⟩
  rw [h1]
  refine m_in (fun a b => ?_) (fun q => ?_)
  · simp (disch := omega) only [li_0, li_1, li_2, li_3, li_4, li_5, li_6, li_7, li_8, li_9, li_10, li_12, li_14, li_16, li_17, li_18, li_19, li_20, li_25, li_28, li_30, li_31, li_32, li_33, li_34, li_40, li_46, li_48, li_49, li_57, li_59, li_65, li_67, li_68, li_75, li_77, li_80, li_82, li_90, li_95, li_100, li_128, li_130, li_132, li_136, li_140, li_148, li_156, li_200, li_255, li_256, li_400, li_700, li_2047, li_2048, li_2049, li_2050, li_2054, li_2056, li_4096, li_6000, li_163840, li_409600, li_819200, nI_add, pk_mul, pk_sub, nI_leI, nI_ltI, nI_eq, nI_clamp, vin_] at a b
    refine ⟨fun q => absurd q (by decide), fun _ => ?_⟩
    have := hSt s
    simp (disch := omega) only [mf_4 hw, h2, mw_tag hw, mt_4 hw, ml_4 hw, li_0, li_1, li_2, li_3, li_4, li_5, li_6, li_7, li_8, li_9, li_10, li_12, li_14, li_16, li_17, li_18, li_19, li_20, li_25, li_28, li_30, li_31, li_32, li_33, li_34, li_40, li_46, li_48, li_49, li_57, li_59, li_65, li_67, li_68, li_75, li_77, li_80, li_82, li_90, li_95, li_100, li_128, li_130, li_132, li_136, li_140, li_148, li_156, li_200, li_255, li_256, li_400, li_700, li_2047, li_2048, li_2049, li_2050, li_2054, li_2056, li_4096, li_6000, li_163840, li_409600, li_819200, nI_add, pk_mul, pk_sub, nI_leI, nI_ltI, nI_eq, nI_clamp, vin_, h5, true_and]
    exact ⟨by omega, fun q => k0 (fun z => q z.2), fun q => k1 (by omega) q⟩
  · simp (disch := omega) only [li_0, li_1, li_2, li_3, li_4, li_5, li_6, li_7, li_8, li_9, li_10, li_12, li_14, li_16, li_17, li_18, li_19, li_20, li_25, li_28, li_30, li_31, li_32, li_33, li_34, li_40, li_46, li_48, li_49, li_57, li_59, li_65, li_67, li_68, li_75, li_77, li_80, li_82, li_90, li_95, li_100, li_128, li_130, li_132, li_136, li_140, li_148, li_156, li_200, li_255, li_256, li_400, li_700, li_2047, li_2048, li_2049, li_2050, li_2054, li_2056, li_4096, li_6000, li_163840, li_409600, li_819200, nI_add, pk_mul, pk_sub, nI_leI, nI_ltI, nI_eq, nI_clamp, vin_] at q
    exact ⟨fun _ => k0 (by omega), fun z => absurd rfl z⟩
theorem m_lowAt (h : MedM σ m n sd B St) {p k : Nat} (hk : k ≤ 4) (hp : p + k ≤ 2048 * n) {post : Int32 → Prop} (kk : post (nI (lowN B p k))) : wX9_lowAt m (nI p) (nI k) σ post := by
  have hn := h.2.1.2.1
  have hB := h.2.1.2.2.1
  unfold wX9_lowAt wX9_lowAt_L7
  intro y hy
  refine lpG2 (B := fun R x3 x4 => wX9_lowAt_B7 post R m (nI p) x3 x4 σ) (fun j x3 x4 => j ≤ k ∧ x3 = nI (lowN B (p + j) (k - j)) ∧ x4 = nI j + (-1)) k ⟨Nat.le_refl _, by simp [lowN, nI_0], ?_⟩ ?_
  · rw [hy]
    cases k with
    | zero => decide
    | succ k => rw [nI_dec (by omega), li_1, pk_sub (by omega)]
  · rintro j x3 x4 R ⟨h1, rfl, rfl⟩ hR
    unfold wX9_lowAt_B7
    cases j with
    | zero =>
      refine ⟨fun _ => ?_, fun q => absurd (by decide) q⟩
      simpa using kk
    | succ j =>
      have e : nI (j + 1) + (-1) = nI j := by rw [nI_dec (by omega)]; rfl
      rw [e]
      refine ⟨fun q => absurd q (nI_pos (by omega)), fun _ => ⟨mw_tag h.1, ?_⟩⟩
      rw [nI_add]
      refine m_get h (by omega) ?_
      intro y4 h4 y5 h5
      refine hR j y4 y5 (by omega) ⟨by omega, ?_, h5⟩
      rw [h4, li_8, sh8_ _ (hB _)]
      congr 1
      rw [show k - j = (k - (j + 1)) + 1 by omega, lowN]
      rw [show p + j + 1 = p + (j + 1) by omega]
      omega
theorem m_highAt (h : MedM σ m n sd B St) {p k : Nat} (hk : k ≤ 4) (hp : p + k ≤ 2048 * n) {post : Int32 → Prop} (kk : post (nI (highN B p k))) : wX9_highAt m (nI p) (nI k) σ post := by
  have hn := h.2.1.2.1
  have hB := h.2.1.2.2.1
  unfold wX9_highAt wX9_highAt_L5
  refine lpG2 (B := fun R x3 x4 => wX9_highAt_B5 post R m (nI p) (nI k) x3 x4 σ) (fun j x3 x4 => j ≤ k ∧ x3 = nI (highN B p (k - j)) ∧ x4 = nI (k - j)) k ⟨Nat.le_refl _, by simp [highN, nI_0], by simp [nI_0]⟩ ?_
  rintro j x3 x4 R ⟨h1, rfl, rfl⟩ hR
  unfold wX9_highAt_B5
  cases j with
  | zero => exact ⟨fun _ => by simpa using kk, fun q => absurd (nI_le (by omega) (by omega)) q⟩
  | succ j =>
    refine ⟨fun q => ?_, fun _ => ⟨mw_tag h.1, ?_⟩⟩
    · simp (disch := omega) only [nI_add, pk_mul, pk_sub, nI_leI, nI_ltI, nI_eq, nI_clamp, vin_] at q
      omega
    · rw [nI_add]
      refine m_get h (by omega) ?_
      intro y4 h4 y5 h5
      refine hR j y4 y5 (by omega) ⟨by omega, ?_, ?_⟩
      · rw [h4, li_8, sh8_ _ (hB _)]
        rw [show k - j = (k - (j + 1)) + 1 by omega, highN]
      · rw [h5, li_1, nI_add]
        congr 1
        omega
end
