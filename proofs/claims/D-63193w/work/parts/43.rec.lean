/-! what a record is, on bytes; the reference's isRecord -/
def isL (c : Nat) : Prop := (65 ≤ c ∧ c ≤ 90) ∨ (48 ≤ c ∧ c ≤ 57) ∨ c = 95
def nameOK (B : Nat → Nat) (q k : Nat) : Prop := 1 ≤ k ∧ k ≤ 8 ∧ ∀ i, i < k → isL (B (q + i))
def wrOK (n : Nat) (St : Nat → Nat) (f k : Nat) : Prop := f < 2 ^ 31 ∧ f + k ≤ n ∧ ∀ i, i < k → St (f + i) = 1
/-- the identifier of a record of sort s (0 itself, 1 parent, 2 a node) -/
def idOK (B : Nat → Nat) (p s : Nat) : Prop := if s < 2 then B (p + 25) = 2 ∧ B (p + 32) = 1 ∧ B (p + 33) = s else
  (B (p + 25) = 2 → nameOK B (p + 33) (B (p + 32))) ∧ (B (p + 25) ≠ 2 → 3 < B (p + 32) ∧ nameOK B (p + 33) (B (p + 32) - 3) ∧ B (p + 30 + B (p + 32)) = 46 ∧ B (p + 31 + B (p + 32)) = 59 ∧ B (p + 32 + B (p + 32)) = 49)
def szOK (n : Nat) (B St : Nat → Nat) (p : Nat) : Prop := lowN B (p + 10) 4 < 2 ^ 31 ∧ (B (p + 25) = 2 → 0 < lowN B (p + 10) 4 ∧ lowN B (p + 10) 4 % 2048 = 0) ∧ (lowN B (p + 10) 4 = 0 → lowN B (p + 2) 4 = 0) ∧ (lowN B (p + 10) 4 ≠ 0 → wrOK n St (lowN B (p + 2) 4) ((lowN B (p + 10) 4 + 2047) / 2048))
/-- the record's frame: its length, its padding, the numbers written both ways, its flag -/
def frOK (B : Nat → Nat) (p : Nat) : Prop := 34 ≤ B p ∧ p % 2048 + B p ≤ 2048 ∧ B p = 33 + B (p + 32) + (33 + B (p + 32)) % 2 ∧ (B (p + 32) % 2 = 1 ∨ B (p + 33 + B (p + 32)) = 0) ∧
  lowN B (p + 2) 4 = highN B (p + 6) 4 ∧ lowN B (p + 10) 4 = highN B (p + 14) 4 ∧ lowN B (p + 28) 2 = highN B (p + 30) 2 ∧ (B (p + 25) = 0 ∨ B (p + 25) = 2)
def recOK (n : Nat) (B St : Nat → Nat) (p s : Nat) : Prop := frOK B p ∧ idOK B p s ∧ szOK n B St p
theorem nI_eq32 {a b : Nat} (ha : a < 2 ^ 32) (hb : b < 2 ^ 32) : nI a = nI b ↔ a = b := by
  constructor
  · intro h
    have := congrArg (fun x : Int32 => x.toBitVec.toNat) h
    simpa [pk_tn ha, pk_tn hb] using this
  · intro h; rw [h]
theorem nI_neg {a : Nat} (ha : a < 2 ^ 32) : nI a < nI 0 ↔ 2 ^ 31 ≤ a := by
  rw [Int32.lt_iff_toInt_lt, nI_toInt (by decide : (0 : Nat) < 2 ^ 31)]
  by_cases h : a < 2 ^ 31
  · rw [nI_toInt h]; omega
  · have e : (nI a).toInt = (a : Int) - 2 ^ 32 := by
      unfold nI
      rw [Int32.toInt_ofNat']
      simp [Int.bmod]
      omega
    rw [e]; omega
theorem nI_neg' {a : Nat} (ha : a < 2 ^ 32) : nI a < 0 ↔ 2 ^ 31 ≤ a := nI_neg ha
section
variable {σ : Hp} {m n sd : Nat} {B St : Nat → Nat}
theorem m_isLetter {c : Nat} (hc : c < 256) {post : Int32 → Prop} (k1 : isL c → post 1) (k0 : ¬ isL c → post 0) : wX9_isLetter (nI c) σ post := by
  unfold isL at k1 k0
  unfold wX9_isLetter wX9_isLetter_L12 wX9_isLetter_L24 wX9_isLetter_L30
  simp (disch := omega) only [li_0, li_1, li_2, li_3, li_4, li_5, li_6, li_7, li_8, li_9, li_10, li_12, li_14, li_16, li_17, li_18, li_19, li_20, li_25, li_28, li_30, li_31, li_32, li_33, li_34, li_40, li_46, li_48, li_49, li_57, li_59, li_65, li_67, li_68, li_75, li_77, li_80, li_82, li_90, li_95, li_100, li_128, li_130, li_132, li_136, li_140, li_148, li_156, li_200, li_255, li_256, li_400, li_700, li_2047, li_2048, li_2049, li_2050, li_2054, li_2056, li_4096, li_6000, li_163840, li_409600, li_819200, nI_add, pk_mul, pk_sub, nI_leI, nI_ltI, nI_eq, nI_clamp, vin_]
  refine ⟨fun a => ⟨fun b => ⟨fun c => ?_, fun c => ?_⟩, fun b => ⟨fun c => ?_, fun c => ⟨fun d => ?_, fun d => ?_⟩⟩⟩, fun a => ⟨fun b => ?_, fun b => ⟨fun c => ⟨fun d => ?_, fun d => ?_⟩, fun c => ⟨fun d => ?_, fun d => ⟨fun e => ?_, fun e => ?_⟩⟩⟩⟩⟩
  all_goals first | exact k1 (by omega) | exact k0 (by omega)
theorem m_isName (h : MedM σ m n sd B St) {p k : Nat} (hk : k < 300) (hp : p + k ≤ 2048 * n) {post : Int32 → Prop} (k1 : nameOK B p k → post 1) (k0 : ¬ nameOK B p k → post 0) : wX9_isName m (nI p) (nI k) σ post := by
  have hn := h.2.1.2.1
  have hB := h.2.1.2.2.1
  unfold wX9_isName
  have loop : ∀ r : Int32, (r = 1 ∧ 1 ≤ k ∧ k ≤ 8) ∨ (r = 0 ∧ ¬ (1 ≤ k ∧ k ≤ 8)) → wX9_isName_L11 post m (nI p) (nI k) r 0 σ := by
    intro r hr
    unfold wX9_isName_L11
    refine lpG2 (B := fun R x3 x4 => wX9_isName_B11 post R m (nI p) (nI k) x3 x4 σ) (fun j x3 x4 => j ≤ k ∧ x4 = nI (k - j) ∧ ((x3 = 1 ∧ 1 ≤ k ∧ k ≤ 8 ∧ ∀ i, i < k - j → isL (B (p + i))) ∨ (x3 = 0 ∧ ¬ nameOK B p k))) k ⟨Nat.le_refl _, by simp [nI_0], ?_⟩ ?_
    · rcases hr with ⟨h1, h2, h3⟩ | ⟨h1, h2⟩
      · exact Or.inl ⟨h1, h2, h3, fun i hi => absurd hi (by omega)⟩
      · exact Or.inr ⟨h1, fun q => h2 ⟨q.1, q.2.1⟩⟩
    · rintro j x3 x4 R ⟨h1, rfl, h3⟩ hR
      unfold wX9_isName_B11
      simp (disch := omega) only [nI_leI]
      refine ⟨fun q => ?_, fun q => ?_⟩
      · rcases h3 with ⟨rfl, h4, h5, h6⟩ | ⟨rfl, h4⟩
        · exact ⟨nr_1, k1 ⟨h4, h5, fun i hi => h6 i (by omega)⟩⟩
        · exact ⟨nr_0, k0 h4⟩
      · rcases h3 with ⟨rfl, h4, h5, h6⟩ | ⟨rfl, h4⟩
        · refine ⟨fun z => absurd z (by decide), fun _ => ⟨mw_tag h.1, ?_⟩⟩
          rw [nI_add]
          refine m_get h (by omega) ?_
          have e : ∀ y : Int32, y = nI (k - j) + 1 → y = nI (k - (j - 1)) := by
            intro y hy
            rw [hy, li_1, nI_add]
            congr 1
            omega
          refine m_isLetter (hB _) (fun hl y hy => hR (j - 1) 1 y (by omega) ⟨by omega, e y hy, Or.inl ⟨rfl, h4, h5, fun i hi => ?_⟩⟩) (fun hl y hy => hR (j - 1) 0 y (by omega) ⟨by omega, e y hy, Or.inr ⟨rfl, fun z => hl (z.2.2 (k - j) (by omega))⟩⟩)
          by_cases hi2 : i < k - j
          · exact h6 i hi2
          · rw [show i = k - j by omega]; exact hl
        · exact ⟨fun _ => ⟨nr_0, k0 h4⟩, fun z => absurd rfl z⟩
  refine m_in (fun a b => loop 1 (Or.inl ⟨rfl, ?_⟩)) (fun q => loop 0 (Or.inr ⟨rfl, ?_⟩))
  · simp (disch := omega) only [li_0, li_1, li_2, li_3, li_4, li_5, li_6, li_7, li_8, li_9, li_10, li_12, li_14, li_16, li_17, li_18, li_19, li_20, li_25, li_28, li_30, li_31, li_32, li_33, li_34, li_40, li_46, li_48, li_49, li_57, li_59, li_65, li_67, li_68, li_75, li_77, li_80, li_82, li_90, li_95, li_100, li_128, li_130, li_132, li_136, li_140, li_148, li_156, li_200, li_255, li_256, li_400, li_700, li_2047, li_2048, li_2049, li_2050, li_2054, li_2056, li_4096, li_6000, li_163840, li_409600, li_819200, nI_add, pk_mul, pk_sub, nI_leI, nI_ltI, nI_eq, nI_clamp, vin_] at a b
    omega
  · simp (disch := omega) only [li_0, li_1, li_2, li_3, li_4, li_5, li_6, li_7, li_8, li_9, li_10, li_12, li_14, li_16, li_17, li_18, li_19, li_20, li_25, li_28, li_30, li_31, li_32, li_33, li_34, li_40, li_46, li_48, li_49, li_57, li_59, li_65, li_67, li_68, li_75, li_77, li_80, li_82, li_90, li_95, li_100, li_128, li_130, li_132, li_136, li_140, li_148, li_156, li_200, li_255, li_256, li_400, li_700, li_2047, li_2048, li_2049, li_2050, li_2054, li_2056, li_4096, li_6000, li_163840, li_409600, li_819200, nI_add, pk_mul, pk_sub, nI_leI, nI_ltI, nI_eq, nI_clamp, vin_] at q
    omega
theorem m_areW (h : MedM σ m n sd B St) {f k : Nat} (hf : f < 2 ^ 32) (hk : k < 2 ^ 31) {post : Int32 → Prop} (k1 : wrOK n St f k → post 1) (k0 : ¬ wrOK n St f k → post 0) : wX9_areWritten m (nI f) (lN k) σ post := by
  have hn := h.2.1.2.1
  unfold wX9_areWritten
  rw [nI_neg' hf]
  refine ⟨fun q => k0 (fun z => by have := z.1; omega), fun q => ⟨mw_tag h.1, ?_⟩⟩
  rw [h.2.2.1, nI_l (by omega), nI_l (by omega), lN_add, lg_cmp_le, pk_lLE (by omega) (by omega)]
  refine ⟨fun q2 => ?_, fun q2 => k0 (fun z => q2 z.2.1)⟩
  unfold wX9_areWritten_L22
  refine lpG1 (B := fun R x4 => wX9_areWritten_B22 post R m (nI f) (lN k) x4 σ) (fun j x4 => j ≤ k ∧ x4 = nI (f + (k - j)) ∧ ∀ i, i < k - j → St (f + i) = 1) k ⟨Nat.le_refl _, by simp, fun i hi => absurd hi (by omega)⟩ ?_
  rintro j x4 R ⟨h1, rfl, h3⟩ hR
  unfold wX9_areWritten_B22
  rw [nI_l (by omega), nI_l (by omega), lN_add, lg_cmp_ge, pk_lLE (by omega) (by omega)]
  refine ⟨fun q3 => k1 ⟨by omega, by omega, fun i hi => h3 i (by omega)⟩, fun q3 => ⟨mw_tag h.1, ?_⟩⟩
  refine m_isW h (by omega) (fun a b => ⟨fun _ y hy => ?_, fun z => absurd z (by decide)⟩) (fun a => ⟨fun z => absurd rfl z, fun _ => k0 (fun z => a ⟨by omega, ?_⟩)⟩)
  · refine hR (j - 1) y (by omega) ⟨by omega, ?_, fun i hi => ?_⟩
    · rw [hy, li_1, nI_add]
      congr 1
      omega
    · by_cases hi2 : i < k - j
      · exact h3 i hi2
      · rw [show i = k - j by omega]; exact b
  · exact z.2.2 (k - j) (by omega)
theorem m_even {a : Nat} (ha : a < 2 ^ 30) {post : Int32 → Prop} (k : post (nI (a + a % 2))) : wX9_even (nI a) σ post := by
  unfold wX9_even
  rw [li_2, pk_rem (by omega) (by decide) (by decide), nI_add]
  exact k
theorem m_no (hw : MW σ m) {x : Int32} {post : Int32 → Hp → Prop} (k : post 0 (sI_ σ 8 28 m x)) : wX9_no m x σ post := by
  unfold wX9_no
  exact ⟨mw_tag hw, fun _ h => by rw [h]; exact k⟩
theorem m_isRecord (h : MedM σ m n sd B St) {p s : Nat} (hs : s ≤ 2) (hp : p < 2048 * n) {post : Int32 → Hp → Prop} (k1 : recOK n B St p s → post 1 σ) (k0 : ¬ recOK n B St p s → post 0 (sI_ σ 8 28 m (nI p))) : wX9_isRecord m (nI p) (nI s) σ post := by
  have hn := h.2.1.2.1
  have hB := h.2.1.2.2.1
  have hw := h.1
  have htag := mw_tag hw
  have b0 := hB p
  have b32 := hB (p + 32)
  have b25 := hB (p + 25)
  have b33 := hB (p + 33)
  have l2 := lowN_lt hB 4 (p + 2)
  have l10 := lowN_lt hB 4 (p + 10)
  have g6 := highN_lt hB (p + 6) 4
  have g14 := highN_lt hB (p + 14) 4
  have l28 := lowN_lt hB 2 (p + 28)
  have g30 := highN_lt hB (p + 30) 2
  have fail : ∀ {c : Prop}, ¬ recOK n B St p s → wX9_no m (nI p) σ (fun r σ' => nr_ .boolean r ∧ post r σ') := fun q => m_no hw ⟨nr_0, k0 q⟩
  -- the written sectors
  have L382 : frOK B p → idOK B p s → lowN B (p + 10) 4 < 2 ^ 31 → (B (p + 25) = 2 → 0 < lowN B (p + 10) 4 ∧ lowN B (p + 10) 4 % 2048 = 0) → wX9_isRecord_L382 post m (nI p) (nI (lowN B (p + 2) 4)) (nI (lowN B (p + 10) 4)) σ := by
    intro h1 h2 h3 h4
    unfold wX9_isRecord_L382 wX9_isRecord_L434 wX9_isRecord_L400
    simp (disch := omega) only [li_0, nI_eq32]
    refine ⟨fun q => ⟨htag, ?_⟩, fun q => ⟨fun q2 => ?_, fun q2 => ⟨htag, m_no hw ⟨fun _ => k0 (fun z => q2 (z.2.2.2.2.1 q)), fun z => absurd rfl z⟩⟩⟩⟩
    · have e : ((nI (lowN B (p + 10) 4)).toInt64 + (2047 : Int64)) / (2048 : Int64) = lN ((lowN B (p + 10) 4 + 2047) / 2048) := by
        rw [nI_l (by omega), show (2047 : Int64) = lN 2047 from rfl, show (2048 : Int64) = lN 2048 from rfl, lN_add, pk_lDiv (by omega) (by omega) (by omega)]
      rw [e]
      refine m_areW h (by omega) (by omega) (fun z => ⟨fun _ => k1 ⟨h1, h2, h3, h4, fun a => absurd a q, fun _ => z⟩, fun a => absurd a (by decide)⟩) (fun z => ⟨fun a => absurd rfl a, fun _ => m_no hw ⟨fun _ => k0 (fun a => z (a.2.2.2.2.2 q)), fun a => absurd rfl a⟩⟩)
    · exact k1 ⟨h1, h2, h3, h4, fun _ => q2, fun a => absurd q a⟩
  -- the identifier is judged: x6
  have L323 : ∀ x6 : Int32, frOK B p → (x6 = 0 → ¬ idOK B p s) → (¬ x6 = 0 → idOK B p s) → ∀ x8 : Int32, (x8 = 0 ↔ ¬ B (p + 25) = 2) → wX9_isRecord_L323 post m (nI p) x6 x8 σ := by
    intro x6 h1 h0 h2 x8 h8
    have hr : p + 34 ≤ 2048 * n := by obtain ⟨a, b, -⟩ := h1; omega
    unfold wX9_isRecord_L323 wX9_isRecord_L376
    simp only [li_2, li_10, li_4, li_2048, nI_add]
    refine ⟨htag, m_lowAt h (by omega) (by omega) (m_lowAt h (by omega) (by omega) ⟨fun q => ⟨htag, fail (c := True) (fun z => h0 q z.2.1)⟩, fun q => ⟨fun q8 => ⟨fun q9 => ?_, fun q9 => ?_⟩, fun q8 => ⟨fun q9 => ?_, fun q9 => ⟨fun q10 => ?_, fun q10 => ?_⟩⟩⟩⟩)⟩
    · have h31 : lowN B (p + 10) 4 < 2 ^ 31 := by
        have := Int32.not_lt.mpr q9
        rw [nI_neg' (by omega)] at this
        omega
      exact L382 h1 (h2 q) h31 (fun z => absurd z (h8.mp q8))
    · refine ⟨htag, fail (c := True) (fun z => ?_)⟩
      have := Int32.not_le.mp q9
      rw [nI_neg' (by omega)] at this
      have := z.2.2.1
      omega
    · refine ⟨htag, fail (c := True) (fun z => ?_)⟩
      have h25 : B (p + 25) = 2 := Classical.byContradiction (fun a => q8 (h8.mpr a))
      have hz := z.2.2.2.1 h25
      have h31 := z.2.2.1
      rw [li_0, nI_leI h31 (by decide)] at q9
      omega
    · have h31 : lowN B (p + 10) 4 < 2 ^ 31 := by
        rcases Nat.lt_or_ge (lowN B (p + 10) 4) (2 ^ 31) with a | a
        · exact a
        · exact absurd (Int32.le_of_lt ((nI_neg' (by omega)).mpr a)) q9
      rw [pk_rem h31 (by decide) (by decide), li_0, nI_eq (by omega) (by decide)] at q10
      rw [li_0, nI_leI h31 (by decide)] at q9
      exact L382 h1 (h2 q) h31 (fun _ => ⟨by omega, q10⟩)
    · refine ⟨htag, fail (c := True) (fun z => ?_)⟩
      have h25 : B (p + 25) = 2 := Classical.byContradiction (fun a => q8 (h8.mpr a))
      have hz := z.2.2.2.1 h25
      have h31 := z.2.2.1
      rw [pk_rem h31 (by decide) (by decide), li_0, nI_eq (by omega) (by decide)] at q10
      exact q10 hz.2
  have L193 : frOK B p → ∀ x8 : Int32, (x8 = 0 ↔ ¬ B (p + 25) = 2) → wX9_isRecord_L193 post m (nI p) (nI s) (nI (B (p + 32))) x8 σ := by
    intro h1 x8 h8
    obtain ⟨r1, r2, r3, -⟩ := id h1
    have hr : p + 33 + B (p + 32) ≤ 2048 * n := by omega
    unfold wX9_isRecord_L193 wX9_isRecord_L320 wX9_isRecord_L321 wX9_isRecord_L227 wX9_isRecord_L228
    rw [li_2, nI_leI (by omega) (by omega)]
    have b30 := hB (p + 30 + B (p + 32))
    have b31 := hB (p + 31 + B (p + 32))
    have b32' := hB (p + 32 + B (p + 32))
    refine ⟨fun hs2 => ⟨fun q8 => ⟨htag, ?_⟩, fun q8 => ⟨htag, ?_⟩⟩, fun hs2 => ⟨fun q8 => ?_, fun q8 => ⟨fun q => ?_, fun q => ⟨htag, ?_⟩⟩⟩⟩
    · -- a file
      have h25 := h8.mp q8
      by_cases h3 : 3 < B (p + 32)
      · simp only [li_33, li_3, li_30, li_31, li_32, li_46, li_59, li_49, nI_add]
        rw [pk_sub (by omega)]
        refine m_isName h (by omega) (by omega) (fun nk => ⟨fun z => absurd z (by decide), fun _ => m_get h (by omega) ?_⟩) (fun nk => ⟨fun _ => ?_, fun z => absurd rfl z⟩)
        · simp (disch := omega) only [nI_eq]
          refine ⟨fun a => ?_, fun a => m_get h (by omega) ?_⟩
          · refine L323 0 h1 (fun _ z => ?_) (fun z => absurd rfl z) x8 h8
            unfold idOK at z; rw [if_neg (Nat.not_lt.mpr hs2)] at z
            exact a (z.2 h25).2.2.1
          · simp (disch := omega) only [nI_eq]
            refine ⟨fun b => ?_, fun b => m_get h (by omega) ?_⟩
            · refine L323 0 h1 (fun _ z => ?_) (fun z => absurd rfl z) x8 h8
              unfold idOK at z; rw [if_neg (Nat.not_lt.mpr hs2)] at z
              exact b (z.2 h25).2.2.2.1
            · simp (disch := omega) only [nI_eq]
              refine ⟨fun c => ?_, fun c => ?_⟩
              · refine L323 0 h1 (fun _ z => ?_) (fun z => absurd rfl z) x8 h8
                unfold idOK at z; rw [if_neg (Nat.not_lt.mpr hs2)] at z
                exact c (z.2 h25).2.2.2.2
              · refine L323 1 h1 (fun z => absurd z (by decide)) (fun _ => ?_) x8 h8
                unfold idOK; rw [if_neg (Nat.not_lt.mpr hs2)]
                exact ⟨fun z => absurd z h25, fun _ => ⟨h3, nk, a, b, c⟩⟩
        · refine L323 0 h1 (fun _ z => ?_) (fun z => absurd rfl z) x8 h8
          unfold idOK at z; rw [if_neg (Nat.not_lt.mpr hs2)] at z
          exact nk (z.2 h25).2.1
      · -- too short
        have hbad : ¬ idOK B p s := by
          intro z
          unfold idOK at z; rw [if_neg (Nat.not_lt.mpr hs2)] at z
          exact h3 (z.2 h25).1
        unfold wX9_isName
        refine m_in (fun a b => ?_) (fun q => ?_)
        · exfalso
          have hc : B (p + 32) = 0 ∨ B (p + 32) = 1 ∨ B (p + 32) = 2 ∨ B (p + 32) = 3 := by omega
          rcases hc with e | e | e | e <;> (rw [e] at a; exact a (by decide))
        · unfold wX9_isName_L11
          refine ⟨fun x3 x4 => x3 = 0, fun _ _ => 0, rfl, fun x3 x4 hx => ?_⟩
          subst hx
          unfold wX9_isName_B11
          refine ⟨fun _ => ⟨nr_0, ?_⟩, fun _ => ⟨fun _ => ⟨nr_0, ?_⟩, fun z => absurd rfl z⟩⟩
          all_goals exact ⟨fun _ => L323 0 h1 (fun _ => hbad) (fun z => absurd rfl z) x8 h8, fun z => absurd rfl z⟩
    · have h25 : B (p + 25) = 2 := Classical.byContradiction (fun a => q8 (h8.mpr a))
      rw [li_33, nI_add]
      refine m_isName h (by omega) (by omega) (fun nk => L323 1 h1 (fun z => absurd z (by decide)) (fun _ => ?_) x8 h8) (fun nk => L323 0 h1 (fun _ z => ?_) (fun z => absurd rfl z) x8 h8)
      · unfold idOK; rw [if_neg (Nat.not_lt.mpr hs2)]
        exact ⟨fun _ => nk, fun z => absurd h25 z⟩
      · unfold idOK at z; rw [if_neg (Nat.not_lt.mpr hs2)] at z
        exact nk (z.1 h25)
    · refine L323 0 h1 (fun _ z => ?_) (fun z => absurd rfl z) x8 h8
      unfold idOK at z; rw [if_pos (by omega)] at z
      exact h8.mp q8 z.1
    · refine L323 0 h1 (fun _ z => ?_) (fun z => absurd rfl z) x8 h8
      unfold idOK at z; rw [if_pos (by omega)] at z
      rw [li_1, nI_eq (by omega) (by decide)] at q
      exact q z.2.1
    · have h25 : B (p + 25) = 2 := Classical.byContradiction (fun a => q8 (h8.mpr a))
      rw [li_1, nI_eq (by omega) (by decide)] at q
      rw [li_33, nI_add]
      refine m_get h (by omega) ?_
      rw [nI_eq (by omega) (by omega)]
      refine ⟨fun a => L323 0 h1 (fun _ z => ?_) (fun z => absurd rfl z) x8 h8, fun a => L323 1 h1 (fun z => absurd z (by decide)) (fun _ => ?_) x8 h8⟩
      · unfold idOK at z; rw [if_pos (by omega)] at z
        exact a z.2.2
      · unfold idOK; rw [if_pos (by omega)]
        exact ⟨h25, q, a⟩
  have L147 : ¬ frOK B p → 34 ≤ B p → p % 2048 + B p ≤ 2048 → wX9_isRecord_L147 post m (nI p) (nI s) (nI (B (p + 32))) σ := by
    intro q r1 r2
    unfold wX9_isRecord_L147 wX9_isRecord_L148 wX9_isRecord_L176
    rw [li_25, nI_add]
    exact ⟨htag, m_get h (by omega) ⟨fun _ => ⟨htag, fail (c := True) (fun z => q z.1)⟩, fun z => absurd rfl z⟩⟩
  have L81 : 34 ≤ B p → p % 2048 + B p ≤ 2048 → B p = 33 + B (p + 32) + (33 + B (p + 32)) % 2 → (B (p + 32) % 2 = 1 ∨ B (p + 33 + B (p + 32)) = 0) → wX9_isRecord_L81 post m (nI p) (nI s) (nI (B (p + 32))) σ := by
    intro r1 r2 r3 r4
    unfold wX9_isRecord_L81
    simp only [li_2, li_6, li_10, li_14, li_28, li_30, li_4, nI_add]
    refine ⟨htag, m_lowAt h (by omega) (by omega) (m_highAt h (by omega) (by omega) ?_)⟩
    simp (disch := omega) only [nI_eq32]
    refine ⟨fun q => L147 (fun z => q z.2.2.2.2.1) r1 r2, fun e1 => m_lowAt h (by omega) (by omega) (m_highAt h (by omega) (by omega) ?_)⟩
    simp (disch := omega) only [nI_eq32]
    refine ⟨fun q => L147 (fun z => q z.2.2.2.2.2.1) r1 r2, fun e2 => m_lowAt h (by omega) (by omega) (m_highAt h (by omega) (by omega) ?_)⟩
    simp (disch := omega) only [nI_eq]
    refine ⟨fun q => L147 (fun z => q z.2.2.2.2.2.2.1) r1 r2, fun e3 => ?_⟩
    unfold wX9_isRecord_L148 wX9_isRecord_L176 wX9_isRecord_L182
    simp only [li_25, nI_add]
    refine ⟨htag, m_get h (by omega) ⟨fun z => absurd z (by decide), fun _ => ⟨fun a => ⟨fun b => ?_, fun b => ?_⟩, fun a => ⟨fun b => ⟨fun c => ?_, fun c => ?_⟩, fun b => ⟨htag, fail (c := True) (fun z => ?_)⟩⟩⟩⟩⟩
    all_goals simp (disch := omega) only [li_0, li_2, nI_eq] at a b
    · exact L193 ⟨r1, r2, r3, r4, e1, e2, e3, Or.inl a⟩ 0 ⟨fun _ => b, fun _ => rfl⟩
    · omega
    · simp (disch := omega) only [li_0, li_2, nI_eq] at c
      omega
    · exact L193 ⟨r1, r2, r3, r4, e1, e2, e3, Or.inr b⟩ 1 ⟨fun z => absurd z (by decide), fun z => absurd b z⟩
    · have := z.1.2.2.2.2.2.2.2
      omega
  unfold wX9_isRecord wX9_isRecord_L30
  intro y hy
  refine ⟨htag, m_get h hp ?_⟩
  have ey : y = nI (2048 - p % 2048) := by
    rw [hy, li_2048, pk_rem (by omega) (by decide) (by decide), pk_sub (by omega)]
  rw [ey]
  simp (disch := omega) only [li_34, li_32, li_33, nI_ltI, nI_leI, nI_add]
  refine ⟨fun a => ⟨htag, fail (c := True) (fun z => by have := z.1.1; omega)⟩, fun a => ⟨fun b => m_get h (by omega) ?_, fun b => ⟨htag, fail (c := True) (fun z => by have := z.1.2.1; omega)⟩⟩⟩
  rw [nI_add]
  refine m_even (by omega) ?_
  rw [nI_eq (by omega) (by omega)]
  refine ⟨fun c => L147 (fun z => c z.2.2.1) (by omega) (by omega), fun c => ?_⟩
  rw [li_2, pk_rem (by omega) (by decide) (by decide), li_1, nI_eq (by omega) (by decide)]
  refine ⟨fun d => L81 (by omega) (by omega) c (Or.inl d), fun d => ?_⟩
  rw [nI_add]
  have b33' := hB (p + 33 + B (p + 32))
  refine m_get h (by omega) ?_
  rw [li_0, nI_eq (by omega) (by decide)]
  exact ⟨fun q => L147 (fun z => by have := z.2.2.2.1; omega) (by omega) (by omega), fun q => L81 (by omega) (by omega) c (Or.inr q)⟩
end
