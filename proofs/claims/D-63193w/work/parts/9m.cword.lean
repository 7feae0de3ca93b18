/-! the reader: a name as a word; which identifier comes first -/
theorem ltA_cons (B : Nat → Nat) (q k : Nat) : ltA B q (k + 1) = B q :: ltA B (q + 1) k := by
  unfold ltA
  rw [List.range_succ_eq_map, List.map_cons, List.map_map]
  congr 1
  apply List.map_congr_left
  intro i _
  show B (q + (i + 1)) = B (q + 1 + i)
  congr 1; omega
theorem ltA_app (B : Nat → Nat) (q j : Nat) : ∀ k, ltA B q (j + k) = ltA B q j ++ ltA B (q + j) k
  | 0 => by simp [ltA]
  | k + 1 => by
    rw [← Nat.add_assoc, ltA_succ, ltA_app B q j k, ltA_succ, List.append_assoc, Nat.add_assoc]
/-- what a record's identifier says -/
theorem id_eq {n : Nat} {B St : Nat → Nat} {p d : Nat} {F : List FT} (h : recOK n B St p 2) : ltA B (p + 33) (B (p + 32)) = idb (fn_ (mkF B d F p)) (fd_ (mkF B d F p)) := by
  have h2 := h.2.1
  unfold idOK at h2
  rw [if_neg (by decide)] at h2
  show _ = idb (ltA B (p + 33) (if B (p + 25) = 2 then B (p + 32) else B (p + 32) - 3)) (if B (p + 25) = 2 then 1 else 0)
  by_cases e : B (p + 25) = 2
  · rw [if_pos e, if_pos e]
    unfold idb
    rw [if_pos rfl]
  · rw [if_neg e, if_neg e]
    unfold idb
    rw [if_neg (by decide)]
    obtain ⟨w1, w2, w3, w4, w5⟩ := h2.2 e
    have e3 : B (p + 32) = (B (p + 32) - 3) + 3 := by omega
    rw [e3, ltA_app, Nat.add_sub_cancel]
    congr 1
    have q1 : p + 33 + (B (p + 32) - 3) = p + 30 + B (p + 32) := by omega
    rw [q1, ltA_cons, ltA_cons, ltA_cons, w3, show p + 30 + B (p + 32) + 1 = p + 31 + B (p + 32) by omega, w4, show p + 31 + B (p + 32) + 1 = p + 32 + B (p + 32) by omega, w5]
    rfl
section
variable {D n : Nat} {σ : Hp} {r md p L : Nat} {B St : Nat → Nat} {Df : Nat → Bool}
theorem c_word (h : RdC σ r md) (hm : MdA D σ md n B St Df) (hi : RdI σ r p L) {m : Nat} (hm2 : m ≤ 8) (hp : p + m ≤ 2048 * n) {post : Int64 → Prop} (k : post (lN (wd (ltA B p m)))) : wX8_word r (nI m) σ post := by
  have hB := hm.med.2.2.1
  unfold wX8_word wX8_word_L5
  refine lpG2 (B := fun R y z => wX8_word_B5 post R r (nI m) y z σ) (fun j y z => j ≤ m ∧ z = nI (m - j) ∧ y = lN (wd (ltA B p (m - j)))) m ⟨Nat.le_refl _, by simp [nI_0], by simp [ltA, wd]; rfl⟩ ?_
  rintro j y z R ⟨g1, rfl, rfl⟩ hR
  unfold wX8_word_B5
  rw [nI_leI (by omega) (by omega)]
  refine ⟨fun z => ?_, fun z => ⟨h.1, c_letter h hm hi (by omega) (fun y4 h4 y5 h5 => hR (j - 1) y4 y5 (by omega) ⟨by omega, by rw [h5, li_1, nI_add]; congr 1; omega, ?_⟩)⟩⟩
  · rw [show m - j = m by omega]; exact k
  · have hb := hB (p + (m - j))
    have hw := wd64 (l := ltA B p (m - j + 1)) (by rw [ltA_len]; omega) (fun c hc => by obtain ⟨i, _, rfl⟩ := ltA_mem hc; exact hB _)
    rw [ltA_succ, wd_snoc] at hw
    rw [h4, nI_l (by omega), sh8L hb hw, ← wd_snoc, ← ltA_succ, show m - j + 1 = m - (j - 1) by omega]
theorem c_rises (h : RdC σ r md) (hm : MdA D σ md n B St Df) (hi : RdI σ r p L) {q K : Nat} (hq : fL_ σ 7 5 r = lN q) (hK : fI_ σ 7 7 r = nI K) (hL2 : L < 256) (hK2 : K < 256) (hp : p + L ≤ 2048 * n) (hqn : q + K ≤ 2048 * n) {post : Int32 → Prop}
    (k1 : lx (ltA B q K) (ltA B p L) = true → post 1) (k0 : lx (ltA B q K) (ltA B p L) = false → post 0) : wX8_rises r σ post := by
  have hB := hm.med.2.2.1
  have hn := hm.med.2.1
  unfold wX8_rises wX8_rises_L2
  refine lpG1 (B := fun R y => wX8_rises_B2 post R r y σ) (fun j y => ∃ i, i + j = L ∧ i ≤ K ∧ y = nI i ∧ lx (ltA B (q + i) (K - i)) (ltA B (p + i) (L - i)) = lx (ltA B q K) (ltA B p L)) L ⟨0, by omega, by omega, rfl, rfl⟩ ?_
  rintro j y R ⟨i, g1, g2, rfl, g4⟩ hR
  have L63 : i = L ∨ i = K → wX8_rises_L63 post r σ := by
    intro z
    unfold wX8_rises_L63
    rw [hi.2, hK, nI_leI (by omega) (by omega)]
    refine ⟨h.1, fun w => k0 ?_, fun w => k1 ?_⟩
    · rw [← g4]
      have : L - i = 0 := by omega
      rw [this]
      cases e : K - i with
      | zero => rfl
      | succ m => rw [ltA_cons]; rfl
    · rw [← g4]
      have : K - i = 0 := by omega
      rw [this]
      obtain ⟨m, hm⟩ : ∃ m, L - i = m + 1 := ⟨L - i - 1, by omega⟩
      rw [hm, ltA_cons]; rfl
  unfold wX8_rises_B2
  rw [hi.2, hK, h.2.2.2.1, hq, nI_leI (by omega) (by omega), nI_leI (by omega) (by omega)]
  refine ⟨h.1, fun z => L63 (Or.inl (by omega)), fun z => ⟨fun w => L63 (Or.inr (by omega)), fun w => ⟨hm.tag, ?_⟩⟩⟩
  rw [nI_l (by omega), lN_add]
  have b1 := hB (q + i)
  have b2 := hB (p + i)
  refine c_at hm (by omega) (c_letter h hm hi (by omega) ?_)
  rw [nI_eq (by omega) (by omega)]
  obtain ⟨m1, e1⟩ : ∃ m, K - i = m + 1 := ⟨K - i - 1, by omega⟩
  obtain ⟨m2, e2⟩ : ∃ m, L - i = m + 1 := ⟨L - i - 1, by omega⟩
  rw [e1, e2, ltA_cons, ltA_cons, lx_cc] at g4
  refine ⟨fun v y hy => hR (j - 1) y (by omega) ⟨i + 1, by omega, by omega, by rw [hy, li_1, nI_add], ?_⟩, fun v => c_letter h hm hi (by omega) ?_⟩
  · rw [if_pos v] at g4
    rw [show K - (i + 1) = m1 by omega, show L - (i + 1) = m2 by omega]
    exact g4
  · rw [if_neg v] at g4
    rw [nI_leI (by omega) (by omega)]
    exact ⟨fun u => k0 (by rw [← g4]; simp; omega), fun u => k1 (by rw [← g4]; simp; omega)⟩
end
