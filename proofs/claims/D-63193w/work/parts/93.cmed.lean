/-! a medium of the class -/
def MdA (D : Nat) (σ : Hp) (m n : Nat) (B St : Nat → Nat) (Df : Nat → Bool) : Prop := (tg_ σ m = 7 ∧ fI_ σ 6 0 m = nI n ∧ fR_ σ 6 1 m = m + 1 ∧ fR_ σ 6 2 m = m + 2 ∧ fR_ σ 6 3 m = m + 3) ∧ (tg_ σ (m + 1) = 100 ∧ tg_ σ (m + 2) = 102 ∧ tg_ σ (m + 3) = 101) ∧ (ln_ σ (m + 1) = 2048 * n ∧ ln_ σ (m + 2) = n ∧ ln_ σ (m + 3) = n) ∧ (lo_ σ < m ∧ m + 3 ≤ D) ∧ Med n B St ∧ (∀ i, i < 2048 * n → aI_ σ (m + 1) i = sb_b (B i)) ∧ (∀ i, i < n → aI_ σ (m + 2) i = nI (St i)) ∧ (∀ i, i < n → aI_ σ (m + 3) i = b2 (Df i))
theorem both_iff {B : Nat → Nat} (hB : ∀ q, B q < 256) : ∀ (k p : Nat), lowN B p k = highN B (p + k) k ↔ ∀ i, i < k → B (p + i) = B (p + 2 * k - 1 - i)
  | 0, p => by simp [lowN, highN]
  | k + 1, p => by
    have ih := both_iff hB k (p + 1)
    have h1 := hB p
    have h2 := hB (p + (k + 1) + k)
    unfold lowN highN
    constructor
    · intro h i hi
      have e1 : B p = B (p + (k + 1) + k) := by omega
      have e2 : lowN B (p + 1) k = highN B (p + 1 + k) k := by
        rw [show p + 1 + k = p + (k + 1) by omega]; omega
      cases i with
      | zero => rw [Nat.add_zero, e1]; congr 1; omega
      | succ i =>
        have := ih.mp e2 i (by omega)
        rw [show p + (i + 1) = p + 1 + i by omega, this]; congr 1; omega
    · intro h
      have e1 : B p = B (p + (k + 1) + k) := by
        have := h 0 (by omega)
        rw [Nat.add_zero] at this
        rw [this]; congr 1; omega
      have e2 : lowN B (p + 1) k = highN B (p + 1 + k) k := ih.mpr (fun i hi => by
        have := h (i + 1) (by omega)
        rw [show p + 1 + i = p + (i + 1) by omega, this]; congr 1; omega)
      rw [show p + 1 + k = p + (k + 1) by omega] at e2
      omega
section
variable {S : Prop} {W : Nat → Prop} {D n : Nat} {σ σ' τ : Hp} {m : Nat} {B St : Nat → Nat} {Df : Nat → Bool}
theorem MdA.med (h : MdA D σ m n B St Df) : Med n B St := h.2.2.2.2.1
theorem MdA.tag (h : MdA D σ m n B St Df) : tg_ σ m = 7 := h.1.1
theorem MdA.kp (h : MdA D σ m n B St Df) (hf : WF D σ) (k : Kp S W σ τ) (h0 : ¬ W m) (h1 : ¬ W (m + 1)) (h2 : ¬ W (m + 2)) (h3 : ¬ W (m + 3)) : MdA D τ m n B St Df := by
  obtain ⟨⟨a1, a2, a3, a4, a5⟩, ⟨b1, b2, b3⟩, ⟨c1, c2, c3⟩, d, e, f1, f2, f3⟩ := h
  have l0 := hf.lt a1
  have l1 := hf.lt b1
  have l2 := hf.lt b2
  have l3 := hf.lt b3
  exact ⟨⟨by rw [k.t l0]; exact a1, by rw [k.i l0 h0 (by omega)]; exact a2, by rw [k.r l0 h0]; exact a3, by rw [k.r l0 h0]; exact a4, by rw [k.r l0 h0]; exact a5⟩, ⟨by rw [k.t l1]; exact b1, by rw [k.t l2]; exact b2, by rw [k.t l3]; exact b3⟩, ⟨by rw [k.n l1]; exact c1, by rw [k.n l2]; exact c2, by rw [k.n l3]; exact c3⟩, by rw [k.1]; exact d, e, fun i hi => by rw [k.a l1 h1]; exact f1 i hi, fun i hi => by rw [k.a l2 h2]; exact f2 i hi, fun i hi => by rw [k.a l3 h3]; exact f3 i hi⟩
theorem c_at (h : MdA D σ m n B St Df) {p : Nat} (hp : p < 2048 * n) {post : Int32 → Prop} (k : post (nI (B p))) : wX7_at m (lN p) σ post := by
  obtain ⟨⟨a1, a2, a3, a4, a5⟩, ⟨b1, b2, b3⟩, ⟨c1, c2, c3⟩, d, e, f1, f2, f3⟩ := h
  have hn := e.2.1
  unfold wX7_at
  rw [a3, lN_i, c1, nI_clamp (by omega), f1 p hp, li_255, sb_and (e.2.2.1 p)]
  exact ⟨a1, b1, (vin_ (by omega)).mpr hp, k⟩
theorem c_mlow (h : MdA D σ m n B St Df) {p k : Nat} (hk : k ≤ 4) (hp : p + k ≤ 2048 * n) {post : Int32 → Prop} (kk : post (nI (lowN B p k))) : wX7_low m (lN p) (nI k) σ post := by
  have hn := h.med.2.1
  have hB := h.med.2.2.1
  unfold wX7_low wX7_low_L8
  intro y hy
  refine lpG2 (B := fun R x3 x4 => wX7_low_B8 post R m (lN p) x3 x4 σ) (fun j x3 x4 => j ≤ k ∧ x3 = nI (lowN B (p + j) (k - j)) ∧ x4 = nI j + (-1)) k ⟨Nat.le_refl _, by simp [lowN, nI_0], ?_⟩ ?_
  · rw [hy]
    cases k with
    | zero => decide
    | succ k => rw [nI_dec (by omega), li_1, pk_sub (by omega)]
  · rintro j x3 x4 R ⟨h1, rfl, rfl⟩ hR
    unfold wX7_low_B8
    cases j with
    | zero =>
      refine ⟨fun _ => ?_, fun q => absurd (by decide) q⟩
      simpa using kk
    | succ j =>
      have e : nI (j + 1) + (-1) = nI j := by rw [nI_dec (by omega)]; rfl
      rw [e, nI_l (by omega), lN_add]
      refine ⟨fun q => absurd q (nI_pos (by omega)), fun _ => ⟨h.tag, c_at h (by omega) (fun y4 h4 y5 h5 => hR j y4 y5 (by omega) ⟨by omega, ?_, h5⟩)⟩⟩
      rw [h4, li_8, sh8_ _ (hB _)]
      congr 1
      rw [show k - j = (k - (j + 1)) + 1 by omega, lowN]
      rw [show p + j + 1 = p + (j + 1) by omega]
      omega
theorem c_says (h : MdA D σ m n B St Df) {p r : Nat} {l : List Nat} (hs : Str D σ r l) (hp : p + l.length ≤ 2048 * n) {post : Int32 → Prop} (k1 : (∀ i, i < l.length → B (p + i) = l.getD i 0) → post 1) (k0 : (¬ ∀ i, i < l.length → B (p + i) = l.getD i 0) → post 0) : wX7_says m (lN p) r σ post := by
  have hn := h.med.2.1
  have hB := h.med.2.2.1
  have hl := hs.2.2.2.2.2.2.2
  unfold wX7_says wX7_says_L6
  refine lpG2 (B := fun R x y => wX7_says_B6 post R m (lN p) r x y σ) (fun j x y => j ≤ l.length ∧ y = nI (l.length - j) ∧ ((x = 1 ∧ ∀ i, i < l.length - j → B (p + i) = l.getD i 0) ∨ (x = 0 ∧ ¬ ∀ i, i < l.length → B (p + i) = l.getD i 0))) l.length ⟨Nat.le_refl _, by simp [nI_0], Or.inl ⟨rfl, fun i hi => by omega⟩⟩ ?_
  rintro j x y R ⟨h1, rfl, h3⟩ hR
  unfold wX7_says_B6 wX7_says_L43
  have e : ∀ y : Int32, y = nI (l.length - j) + 1 → 1 ≤ j → y = nI (l.length - (j - 1)) := fun y hy hj => by rw [hy, li_1, nI_add]; congr 1; omega
  have nr : nr_ .boolean x := nr_b (by rcases h3 with z | z; exact Or.inr z.1; exact Or.inl z.1)
  refine ⟨hs.1, s_length hs ?_⟩
  rw [nI_leI (by omega) (by omega)]
  refine ⟨fun z => ⟨nr, ?_⟩, fun z => ⟨fun w => ⟨nr, ?_⟩, fun w => ?_⟩⟩
  · rcases h3 with ⟨v, v2⟩ | ⟨v, v2⟩
    · rw [v]; exact k1 (fun i hi => v2 i (by omega))
    · rw [v]; exact k0 v2
  · rcases h3 with ⟨v, v2⟩ | ⟨v, v2⟩
    · rw [v] at w; exact absurd w (by decide)
    · rw [v]; exact k0 v2
  · rcases h3 with ⟨v, v2⟩ | ⟨v, v2⟩
    · refine ⟨h.tag, ?_⟩
      rw [nI_l (by omega), lN_add]
      refine c_at h (by omega) (s_char hs (by omega) ?_)
      have c1 := hB (p + (l.length - j))
      have c2 : l.getD (l.length - j) 0 < 256 := hs.2.2.2.2.2.1 _ (getD_mem (by omega))
      rw [nI_eq (by omega) (by omega)]
      refine ⟨fun z y hy => hR (j - 1) 0 y (by omega) ⟨by omega, e y hy (by omega), Or.inr ⟨rfl, fun q => z (q _ (by omega))⟩⟩, fun z y hy => hR (j - 1) 1 y (by omega) ⟨by omega, e y hy (by omega), Or.inl ⟨rfl, fun i hi => ?_⟩⟩⟩
      by_cases e : i < l.length - j
      · exact v2 i e
      · rw [show i = l.length - j by omega]; exact z
    · exact absurd v w
theorem c_isBoth (h : MdA D σ m n B St Df) {p k : Nat} (hk : k ≤ 4) (hp : p + 2 * k ≤ 2048 * n) {post : Int32 → Prop} (k1 : lowN B p k = highN B (p + k) k → post 1) (k0 : lowN B p k ≠ highN B (p + k) k → post 0) : wX7_isBoth m (lN p) (nI k) σ post := by
  have hn := h.med.2.1
  have hB := h.med.2.2.1
  rw [both_iff hB] at k1
  rw [Ne, both_iff hB] at k0
  unfold wX7_isBoth wX7_isBoth_L6
  refine lpG2 (B := fun R x y => wX7_isBoth_B6 post R m (lN p) (nI k) x y σ) (fun j x y => j ≤ k ∧ y = nI (k - j) ∧ ((x = 1 ∧ ∀ i, i < k - j → B (p + i) = B (p + 2 * k - 1 - i)) ∨ (x = 0 ∧ ¬ ∀ i, i < k → B (p + i) = B (p + 2 * k - 1 - i)))) k ⟨Nat.le_refl _, by simp [nI_0], Or.inl ⟨rfl, fun i hi => by omega⟩⟩ ?_
  rintro j x y R ⟨h1, rfl, h3⟩ hR
  unfold wX7_isBoth_B6 wX7_isBoth_L49 wX7_isBoth_L50
  have e : ∀ y : Int32, y = nI (k - j) + 1 → 1 ≤ j → y = nI (k - (j - 1)) := fun y hy hj => by rw [hy, li_1, nI_add]; congr 1; omega
  have nr : nr_ .boolean x := nr_b (by rcases h3 with z | z; exact Or.inr z.1; exact Or.inl z.1)
  rw [nI_leI (by omega) (by omega)]
  refine ⟨fun z => ⟨nr, ?_⟩, fun z => ⟨fun w y hy => ?_, fun w => ?_⟩⟩
  · rcases h3 with ⟨v, v2⟩ | ⟨v, v2⟩
    · rw [v]; exact k1 (fun i hi => v2 i (by omega))
    · rw [v]; exact k0 v2
  · rcases h3 with ⟨v, v2⟩ | ⟨v, v2⟩
    · rw [v] at w; exact absurd w (by decide)
    · exact hR (j - 1) 0 y (by omega) ⟨by omega, e y hy (by omega), Or.inr ⟨rfl, v2⟩⟩
  · rcases h3 with ⟨v, v2⟩ | ⟨v, v2⟩
    · refine ⟨h.tag, ?_⟩
      rw [nI_l (by omega), lN_add]
      refine c_at h (by omega) ?_
      have e2 : lN p + (((2 : Int32) * nI k)).toInt64 - (1 : Int64) - lN (k - j) = lN (p + 2 * k - 1 - (k - j)) := by
        rw [li_2, pk_mul, nI_l (by omega), lN_add, show (1 : Int64) = lN 1 from rfl, lN_sub (by omega), lN_sub (by omega)]
      rw [e2]
      refine c_at h (by omega) ?_
      have c1 := hB (p + (k - j))
      have c2 := hB (p + 2 * k - 1 - (k - j))
      rw [nI_eq (by omega) (by omega)]
      refine ⟨fun z y hy => hR (j - 1) 0 y (by omega) ⟨by omega, e y hy (by omega), Or.inr ⟨rfl, fun q => z (q _ (by omega))⟩⟩, fun z y hy => hR (j - 1) 1 y (by omega) ⟨by omega, e y hy (by omega), Or.inl ⟨rfl, fun i hi => ?_⟩⟩⟩
      by_cases e : i < k - j
      · exact v2 i e
      · rw [show i = k - j by omega]; exact z
    · exact absurd v w
theorem frt_S (St : Nat → Nat) (f : Nat) : frt St (f + 1) = if St f = 0 then frt St f else f + 1 := rfl
theorem c_front (h : MdA D σ m n B St Df) {post : Int32 → Prop} (k : post (nI (frt St n))) : wX7_front m σ post := by
  obtain ⟨⟨a1, a2, a3, a4, a5⟩, ⟨b1, b2, b3⟩, ⟨c1, c2, c3⟩, d, e, f1, f2, f3⟩ := h
  have hn := e.2.1
  unfold wX7_front
  rw [a2]
  refine ⟨a1, fun y hy => ?_⟩
  subst hy
  unfold wX7_front_L5
  refine lpG1 (B := fun R x => wX7_front_B5 post R m x σ) (fun j x => j ≤ n ∧ x = nI j ∧ frt St j = frt St n) n ⟨Nat.le_refl _, rfl, rfl⟩ ?_
  rintro j x R ⟨h1, rfl, h3⟩ hR
  unfold wX7_front_B5
  rw [li_0, nI_leI (by omega) (by decide)]
  refine ⟨fun z => ?_, fun z => ?_⟩
  · have : j = 0 := by omega
    subst this
    rw [← h3] at k; exact k
  · obtain ⟨i, rfl⟩ : ∃ i, j = i + 1 := ⟨j - 1, by omega⟩
    have hs := e.2.2.2 i
    rw [a4, c2, li_1, pk_sub (by omega), Nat.add_sub_cancel, nI_clamp (by omega), f2 i (by omega), nI_eq (by omega) (by decide)]
    rw [frt_S] at h3
    refine ⟨a1, b2, (vin_ (by omega)).mpr (by omega), fun z => ?_, fun z y hy => hR i y (by omega) ⟨by omega, ?_, ?_⟩⟩
    · rw [if_neg z] at h3
      rw [h3]; exact k
    · rw [hy, ← li_1, nI_dec (by omega)]; rfl
    · rw [if_pos z] at h3; exact h3
theorem c_hasW (h : MdA D σ m n B St Df) {a b : Nat} (ha : a < 2 ^ 31) (hb : b < 2 ^ 31) {post : Int32 → Prop} (k1 : a + b ≤ n → (∀ i, i < b → St (a + i) = 1) → post 1) (k0 : ¬ (a + b ≤ n ∧ ∀ i, i < b → St (a + i) = 1) → post 0) : wX7_hasWritten m (lN a) (lN b) σ post := by
  obtain ⟨⟨a1, a2, a3, a4, a5⟩, ⟨b1, b2, b3⟩, ⟨c1, c2, c3⟩, d, e, f1, f2, f3⟩ := id h
  have hn := e.2.1
  unfold wX7_hasWritten
  rw [a2, nI_l (by omega), lN_add, lg_cmp_lt, lg_cmp_gt, lg_cmp_le, show (0 : Int64) = lN 0 from rfl, lN_lt ha (by decide), lN_lt (by omega) hb]
  refine ⟨fun z => by omega, fun _ => ⟨a1, fun z => k0 (by omega), fun z => ?_⟩⟩
  have hle : lN (a + b) ≤ lN n ↔ a + b ≤ n := by
    rw [Int64.le_iff_toInt_le, lN_toInt (show n < 2 ^ 31 by omega)]
    unfold lN
    rw [lg_ofNat_toInt (by omega)]
    omega
  rw [hle]
  refine ⟨fun z2 => ?_, fun z2 => k0 (by omega)⟩
  unfold wX7_hasWritten_L36
  refine lpG2 (B := fun R x y => wX7_hasWritten_B36 post R m (lN a) (lN b) x y σ) (fun j x y => j ≤ b ∧ y = nI (b - j) ∧ ((x = 1 ∧ ∀ i, i < b - j → St (a + i) = 1) ∨ (x = 0 ∧ ¬ ∀ i, i < b → St (a + i) = 1))) b ⟨Nat.le_refl _, by simp [nI_0], Or.inl ⟨rfl, fun i hi => by omega⟩⟩ ?_
  rintro j x y R ⟨h1, rfl, h3⟩ hR
  unfold wX7_hasWritten_B36 wX7_hasWritten_L67 wX7_hasWritten_L68
  have e1 : ∀ y : Int32, y = nI (b - j) + 1 → 1 ≤ j → y = nI (b - (j - 1)) := fun y hy hj => by rw [hy, li_1, nI_add]; congr 1; omega
  have nr : nr_ .boolean x := nr_b (by rcases h3 with z | z; exact Or.inr z.1; exact Or.inl z.1)
  rw [lg_cmp_ge, nI_l (by omega), lN_le (by omega) (by omega)]
  refine ⟨fun z => ⟨nr, ?_⟩, fun z => ⟨fun w y hy => ?_, fun w => ?_⟩⟩
  · rcases h3 with ⟨v, v2⟩ | ⟨v, v2⟩
    · rw [v]; exact k1 z2 (fun i hi => v2 i (by omega))
    · rw [v]; exact k0 (fun q => v2 q.2)
  · rcases h3 with ⟨v, v2⟩ | ⟨v, v2⟩
    · rw [v] at w; exact absurd w (by decide)
    · exact hR (j - 1) 0 y (by omega) ⟨by omega, e1 y hy (by omega), Or.inr ⟨rfl, v2⟩⟩
  · rcases h3 with ⟨v, v2⟩ | ⟨v, v2⟩
    · have hs := e.2.2.2 (a + (b - j))
      rw [a4, c2, lN_i, nI_add, nI_clamp (by omega), f2 _ (by omega), li_1, nI_eq (by omega) (by decide)]
      refine ⟨a1, b2, (vin_ (by omega)).mpr (by omega), fun z y hy => hR (j - 1) 0 y (by omega) ⟨by omega, e1 y hy (by omega), Or.inr ⟨rfl, fun q => z (q _ (by omega))⟩⟩, fun z y hy => hR (j - 1) 1 y (by omega) ⟨by omega, e1 y hy (by omega), Or.inl ⟨rfl, fun i hi => ?_⟩⟩⟩
      by_cases e : i < b - j
      · exact v2 i e
      · rw [show i = b - j by omega]; exact z
    · exact absurd v w
theorem c_hasWn {a : Nat} (ha : 2 ^ 31 ≤ a) (ha2 : a < 2 ^ 32) {x : Int64} {post : Int32 → Prop} (k0 : post 0) : wX7_hasWritten m (nI a).toInt64 x σ post := by
  have hneg : lg_cmp (nI a).toInt64 0 < 0 := by
    rw [lg_cmp_lt, Int64.lt_iff_toInt_lt, Int32.toInt_toInt64]
    have e0 : (0 : Int64).toInt = 0 := by decide
    have : (nI a).toInt = (a : Int) - 4294967296 := by
      unfold nI
      rw [Int32.toInt_ofNat', Int.bmod_def]
      have : Int32.size = 4294967296 := rfl
      rw [this]
      omega
    omega
  unfold wX7_hasWritten
  exact ⟨fun _ => k0, fun z => absurd hneg z⟩
end
