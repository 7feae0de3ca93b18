/-! PURE LEVEL: numbers -/
theorem li_0 : (0 : Int32) = nI 0 := rfl
theorem li_1 : (1 : Int32) = nI 1 := rfl
theorem li_2 : (2 : Int32) = nI 2 := rfl
theorem li_3 : (3 : Int32) = nI 3 := rfl
theorem li_4 : (4 : Int32) = nI 4 := rfl
theorem li_5 : (5 : Int32) = nI 5 := rfl
theorem li_6 : (6 : Int32) = nI 6 := rfl
theorem li_7 : (7 : Int32) = nI 7 := rfl
theorem li_8 : (8 : Int32) = nI 8 := rfl
theorem li_9 : (9 : Int32) = nI 9 := rfl
theorem li_10 : (10 : Int32) = nI 10 := rfl
theorem li_12 : (12 : Int32) = nI 12 := rfl
theorem li_14 : (14 : Int32) = nI 14 := rfl
theorem li_16 : (16 : Int32) = nI 16 := rfl
theorem li_17 : (17 : Int32) = nI 17 := rfl
theorem li_18 : (18 : Int32) = nI 18 := rfl
theorem li_19 : (19 : Int32) = nI 19 := rfl
theorem li_20 : (20 : Int32) = nI 20 := rfl
theorem li_25 : (25 : Int32) = nI 25 := rfl
theorem li_28 : (28 : Int32) = nI 28 := rfl
theorem li_30 : (30 : Int32) = nI 30 := rfl
theorem li_31 : (31 : Int32) = nI 31 := rfl
theorem li_32 : (32 : Int32) = nI 32 := rfl
theorem li_33 : (33 : Int32) = nI 33 := rfl
theorem li_34 : (34 : Int32) = nI 34 := rfl
theorem li_40 : (40 : Int32) = nI 40 := rfl
theorem li_46 : (46 : Int32) = nI 46 := rfl
theorem li_48 : (48 : Int32) = nI 48 := rfl
theorem li_49 : (49 : Int32) = nI 49 := rfl
theorem li_57 : (57 : Int32) = nI 57 := rfl
theorem li_59 : (59 : Int32) = nI 59 := rfl
theorem li_65 : (65 : Int32) = nI 65 := rfl
theorem li_67 : (67 : Int32) = nI 67 := rfl
theorem li_68 : (68 : Int32) = nI 68 := rfl
theorem li_75 : (75 : Int32) = nI 75 := rfl
theorem li_77 : (77 : Int32) = nI 77 := rfl
theorem li_80 : (80 : Int32) = nI 80 := rfl
theorem li_82 : (82 : Int32) = nI 82 := rfl
theorem li_90 : (90 : Int32) = nI 90 := rfl
theorem li_95 : (95 : Int32) = nI 95 := rfl
theorem li_100 : (100 : Int32) = nI 100 := rfl
theorem li_128 : (128 : Int32) = nI 128 := rfl
theorem li_130 : (130 : Int32) = nI 130 := rfl
theorem li_132 : (132 : Int32) = nI 132 := rfl
theorem li_136 : (136 : Int32) = nI 136 := rfl
theorem li_140 : (140 : Int32) = nI 140 := rfl
theorem li_148 : (148 : Int32) = nI 148 := rfl
theorem li_156 : (156 : Int32) = nI 156 := rfl
theorem li_200 : (200 : Int32) = nI 200 := rfl
theorem li_255 : (255 : Int32) = nI 255 := rfl
theorem li_256 : (256 : Int32) = nI 256 := rfl
theorem li_400 : (400 : Int32) = nI 400 := rfl
theorem li_700 : (700 : Int32) = nI 700 := rfl
theorem li_2047 : (2047 : Int32) = nI 2047 := rfl
theorem li_2048 : (2048 : Int32) = nI 2048 := rfl
theorem li_2049 : (2049 : Int32) = nI 2049 := rfl
theorem li_2050 : (2050 : Int32) = nI 2050 := rfl
theorem li_2054 : (2054 : Int32) = nI 2054 := rfl
theorem li_2056 : (2056 : Int32) = nI 2056 := rfl
theorem li_4096 : (4096 : Int32) = nI 4096 := rfl
theorem li_6000 : (6000 : Int32) = nI 6000 := rfl
theorem li_163840 : (163840 : Int32) = nI 163840 := rfl
theorem li_409600 : (409600 : Int32) = nI 409600 := rfl
theorem li_819200 : (819200 : Int32) = nI 819200 := rfl
theorem vin_ {a N : Nat} (ha : a < 2 ^ 31) : vp_in (nI a) N ↔ a < N := by
  rw [vp_in_iff, nI_toInt ha]
  omega
theorem nI_wrap (a : Nat) : nI a = nI (a % 2 ^ 32) := by
  unfold nI
  apply Int32.toBitVec_inj.mp
  apply BitVec.eq_of_toNat_eq
  simp
theorem m24_ (v : Nat) : v * 256 % 4294967296 = v % 16777216 * 256 := by
  rw [show 4294967296 = 16777216 * 256 from rfl, Nat.mul_mod_mul_right]
/-- v << 8 | b -/
theorem sh8_ (v : Nat) {b : Nat} (hb : b < 256) : (nI v <<< (nI 8 &&& 31)) ||| nI b = nI (v * 256 + b) := by
  have e : (nI 8 &&& 31 : Int32) = 8 := by decide
  rw [e]
  apply Int32.toBitVec_inj.mp
  apply BitVec.eq_of_toNat_eq
  have h8 : (8 : Int32).toBitVec.smod 32 = 8#32 := by decide
  rw [Int32.toBitVec_or, Int32.toBitVec_shiftLeft, h8]
  unfold nI
  simp only [Int32.toBitVec_ofNat', BitVec.toNat_or, BitVec.shiftLeft_eq', BitVec.toNat_shiftLeft, BitVec.toNat_ofNat]
  have h1 : b % 2 ^ 32 = b := Nat.mod_eq_of_lt (by omega)
  rw [h1, Nat.shiftLeft_eq]
  have h2 : v % 2 ^ 32 * 2 ^ 8 % 2 ^ 32 = (v * 256 % 2 ^ 32) := by
    show v % 4294967296 * 256 % 4294967296 = v * 256 % 4294967296
    omega
  have h3 : (8 % 2 ^ 32 : Nat) = 8 := by decide
  simp only [h3]
  rw [h2]
  have h4 : v * 256 % 2 ^ 32 = (v % 16777216) <<< 8 := by
    rw [Nat.shiftLeft_eq]
    exact m24_ v
  rw [h4, ← Nat.shiftLeft_add_eq_or_of_lt (by omega : b < 2 ^ 8), Nat.shiftLeft_eq]
  show v % 16777216 * 256 + b = (v * 256 + b) % 4294967296
  omega
theorem sb_and {c : Nat} (h : c < 256) : sb_b c &&& nI 255 = nI c := (sb_byte c h).1
theorem sb_inj {a b : Nat} (ha : a < 256) (hb : b < 256) (h : sb_b a = sb_b b) : a = b := by
  have h1 := sb_and ha
  rw [h, sb_and hb] at h1
  exact ((nI_eq (by omega) (by omega)).mp h1).symm
/-- a byte stored: (byte) x, as a number below 256 -/
theorem by_of (x : Int32) : ∃ c, c < 256 ∧ x.toInt8.toInt32 = sb_b c := by
  refine ⟨x.toBitVec.toNat % 256, Nat.mod_lt _ (by decide), ?_⟩
  unfold sb_b nI
  congr 1
  apply Int8.toBitVec_inj.mp
  apply BitVec.eq_of_toNat_eq
  simp [BitVec.signExtend_eq_setWidth_of_le]
theorem nI_m1 : (-1 : Int32) = nI 4294967295 := by decide
theorem nI_dec {a : Nat} (h : 0 < a) : nI a + (-1) = nI (a - 1) := sb_m1 h
theorem nI_neg1 {a : Nat} (h : a < 2 ^ 31) : ¬ nI a = -1 := by
  intro q
  have := congrArg Int32.toInt q
  rw [nI_toInt h] at this
  have e : (-1 : Int32).toInt = -1 := by decide
  rw [e] at this
  omega
theorem nI_lt0 {a : Nat} (h : a < 2 ^ 31) : ¬ nI a < nI 0 := by rw [nI_ltI h (by decide)]; omega
theorem m1_lt0 : (-1 : Int32) < nI 0 := by decide
/-- an int in a range of numbers is one -/
theorem nI_rng {x : Int32} {a b : Nat} (hb : b < 2 ^ 31) (h1 : ¬ x < nI a) (h2 : ¬ nI b < x) (ha : a < 2 ^ 31) : ∃ j, a ≤ j ∧ j ≤ b ∧ x = nI j := by
  have h1' : (a : Int) ≤ x.toInt := by
    have := Int32.not_lt.mp h1
    rw [Int32.le_iff_toInt_le, nI_toInt ha] at this
    exact this
  have h2' : x.toInt ≤ b := by
    have := Int32.not_lt.mp h2
    rw [Int32.le_iff_toInt_le, nI_toInt hb] at this
    exact this
  refine ⟨x.toInt.toNat, by omega, by omega, ?_⟩
  apply Int32.toInt_inj.mp
  rw [nI_toInt (by omega)]
  omega
/-- little end first, big end first: the value of k bytes from p on -/
def lowN (B : Nat → Nat) : Nat → Nat → Nat
  | _, 0 => 0
  | p, k + 1 => B p + 256 * lowN B (p + 1) k
def highN (B : Nat → Nat) (p : Nat) : Nat → Nat
  | 0 => 0
  | k + 1 => highN B p k * 256 + B (p + k)
theorem lowN_lt {B : Nat → Nat} (h : ∀ q, B q < 256) : ∀ (k p : Nat), lowN B p k < 256 ^ k
  | 0, p => by simp [lowN]
  | k + 1, p => by
    have := lowN_lt h k (p + 1)
    have := h p
    rw [lowN, Nat.pow_succ]
    omega
theorem highN_lt {B : Nat → Nat} (h : ∀ q, B q < 256) (p : Nat) : ∀ (k : Nat), highN B p k < 256 ^ k
  | 0 => by simp [highN]
  | k + 1 => by
    have := highN_lt h p k
    have := h (p + k)
    rw [highN, Nat.pow_succ]
    omega
/-! loops with a ghost measure -/
theorem lpG1 {A1 : Type} {B : (A1 → Prop) → A1 → Prop} (I : Nat → A1 → Prop) (j0 : Nat) {a1 : A1} (h0 : I j0 a1) (step : ∀ (j : Nat) (b1 : A1) (R : A1 → Prop), I j b1 → (∀ (j' : Nat) (c1 : A1), j' < j → I j' c1 → R c1) → B R b1) :
    ∃ (I : A1 → Prop) (μ : A1 → Nat), I a1 ∧ ∀ (b1 : A1), I b1 → B (fun c1 => I c1 ∧ μ c1 < μ b1) b1 := by
  have key : ∀ (b1 : A1), ∃ n : Nat, (∃ j, I j b1) → I n b1 ∧ ∀ j, I j b1 → n ≤ j := by
    intro b1
    by_cases h : ∃ j, I j b1
    · obtain ⟨n, h1, h2⟩ := pk_least (fun j => I j b1) h
      exact ⟨n, fun _ => ⟨h1, fun j hj => Nat.le_of_not_lt (fun q => h2 j q hj)⟩⟩
    · exact ⟨0, fun q => absurd q h⟩
  refine ⟨fun b1 => ∃ j, I j b1, fun b1 => Classical.choose (key b1), ⟨j0, h0⟩, fun b1 hb => ?_⟩
  obtain ⟨h1, h2⟩ := Classical.choose_spec (key b1) hb
  refine step _ b1 _ h1 (fun j' c1 hlt hc => ⟨⟨j', hc⟩, ?_⟩)
  exact Nat.lt_of_le_of_lt ((Classical.choose_spec (key c1) ⟨j', hc⟩).2 j' hc) hlt
theorem lpG2 {A1 A2 : Type} {B : (A1 → A2 → Prop) → A1 → A2 → Prop} (I : Nat → A1 → A2 → Prop) (j0 : Nat) {a1 : A1} {a2 : A2} (h0 : I j0 a1 a2) (step : ∀ (j : Nat) (b1 : A1) (b2 : A2) (R : A1 → A2 → Prop), I j b1 b2 → (∀ (j' : Nat) (c1 : A1) (c2 : A2), j' < j → I j' c1 c2 → R c1 c2) → B R b1 b2) :
    ∃ (I : A1 → A2 → Prop) (μ : A1 → A2 → Nat), I a1 a2 ∧ ∀ (b1 : A1) (b2 : A2), I b1 b2 → B (fun c1 c2 => I c1 c2 ∧ μ c1 c2 < μ b1 b2) b1 b2 := by
  have key : ∀ (b1 : A1) (b2 : A2), ∃ n : Nat, (∃ j, I j b1 b2) → I n b1 b2 ∧ ∀ j, I j b1 b2 → n ≤ j := by
    intro b1 b2
    by_cases h : ∃ j, I j b1 b2
    · obtain ⟨n, h1, h2⟩ := pk_least (fun j => I j b1 b2) h
      exact ⟨n, fun _ => ⟨h1, fun j hj => Nat.le_of_not_lt (fun q => h2 j q hj)⟩⟩
    · exact ⟨0, fun q => absurd q h⟩
  refine ⟨fun b1 b2 => ∃ j, I j b1 b2, fun b1 b2 => Classical.choose (key b1 b2), ⟨j0, h0⟩, fun b1 b2 hb => ?_⟩
  obtain ⟨h1, h2⟩ := Classical.choose_spec (key b1 b2) hb
  refine step _ b1 b2 _ h1 (fun j' c1 c2 hlt hc => ⟨⟨j', hc⟩, ?_⟩)
  exact Nat.lt_of_le_of_lt ((Classical.choose_spec (key c1 c2) ⟨j', hc⟩).2 j' hc) hlt
theorem lpG3 {A1 A2 A3 : Type} {B : (A1 → A2 → A3 → Prop) → A1 → A2 → A3 → Prop} (I : Nat → A1 → A2 → A3 → Prop) (j0 : Nat) {a1 : A1} {a2 : A2} {a3 : A3} (h0 : I j0 a1 a2 a3) (step : ∀ (j : Nat) (b1 : A1) (b2 : A2) (b3 : A3) (R : A1 → A2 → A3 → Prop), I j b1 b2 b3 → (∀ (j' : Nat) (c1 : A1) (c2 : A2) (c3 : A3), j' < j → I j' c1 c2 c3 → R c1 c2 c3) → B R b1 b2 b3) :
    ∃ (I : A1 → A2 → A3 → Prop) (μ : A1 → A2 → A3 → Nat), I a1 a2 a3 ∧ ∀ (b1 : A1) (b2 : A2) (b3 : A3), I b1 b2 b3 → B (fun c1 c2 c3 => I c1 c2 c3 ∧ μ c1 c2 c3 < μ b1 b2 b3) b1 b2 b3 := by
  have key : ∀ (b1 : A1) (b2 : A2) (b3 : A3), ∃ n : Nat, (∃ j, I j b1 b2 b3) → I n b1 b2 b3 ∧ ∀ j, I j b1 b2 b3 → n ≤ j := by
    intro b1 b2 b3
    by_cases h : ∃ j, I j b1 b2 b3
    · obtain ⟨n, h1, h2⟩ := pk_least (fun j => I j b1 b2 b3) h
      exact ⟨n, fun _ => ⟨h1, fun j hj => Nat.le_of_not_lt (fun q => h2 j q hj)⟩⟩
    · exact ⟨0, fun q => absurd q h⟩
  refine ⟨fun b1 b2 b3 => ∃ j, I j b1 b2 b3, fun b1 b2 b3 => Classical.choose (key b1 b2 b3), ⟨j0, h0⟩, fun b1 b2 b3 hb => ?_⟩
  obtain ⟨h1, h2⟩ := Classical.choose_spec (key b1 b2 b3) hb
  refine step _ b1 b2 b3 _ h1 (fun j' c1 c2 c3 hlt hc => ⟨⟨j', hc⟩, ?_⟩)
  exact Nat.lt_of_le_of_lt ((Classical.choose_spec (key c1 c2 c3) ⟨j', hc⟩).2 j' hc) hlt
theorem lpG4 {A1 A2 A3 A4 : Type} {B : (A1 → A2 → A3 → A4 → Prop) → A1 → A2 → A3 → A4 → Prop} (I : Nat → A1 → A2 → A3 → A4 → Prop) (j0 : Nat) {a1 : A1} {a2 : A2} {a3 : A3} {a4 : A4} (h0 : I j0 a1 a2 a3 a4) (step : ∀ (j : Nat) (b1 : A1) (b2 : A2) (b3 : A3) (b4 : A4) (R : A1 → A2 → A3 → A4 → Prop), I j b1 b2 b3 b4 → (∀ (j' : Nat) (c1 : A1) (c2 : A2) (c3 : A3) (c4 : A4), j' < j → I j' c1 c2 c3 c4 → R c1 c2 c3 c4) → B R b1 b2 b3 b4) :
    ∃ (I : A1 → A2 → A3 → A4 → Prop) (μ : A1 → A2 → A3 → A4 → Nat), I a1 a2 a3 a4 ∧ ∀ (b1 : A1) (b2 : A2) (b3 : A3) (b4 : A4), I b1 b2 b3 b4 → B (fun c1 c2 c3 c4 => I c1 c2 c3 c4 ∧ μ c1 c2 c3 c4 < μ b1 b2 b3 b4) b1 b2 b3 b4 := by
  have key : ∀ (b1 : A1) (b2 : A2) (b3 : A3) (b4 : A4), ∃ n : Nat, (∃ j, I j b1 b2 b3 b4) → I n b1 b2 b3 b4 ∧ ∀ j, I j b1 b2 b3 b4 → n ≤ j := by
    intro b1 b2 b3 b4
    by_cases h : ∃ j, I j b1 b2 b3 b4
    · obtain ⟨n, h1, h2⟩ := pk_least (fun j => I j b1 b2 b3 b4) h
      exact ⟨n, fun _ => ⟨h1, fun j hj => Nat.le_of_not_lt (fun q => h2 j q hj)⟩⟩
    · exact ⟨0, fun q => absurd q h⟩
  refine ⟨fun b1 b2 b3 b4 => ∃ j, I j b1 b2 b3 b4, fun b1 b2 b3 b4 => Classical.choose (key b1 b2 b3 b4), ⟨j0, h0⟩, fun b1 b2 b3 b4 hb => ?_⟩
  obtain ⟨h1, h2⟩ := Classical.choose_spec (key b1 b2 b3 b4) hb
  refine step _ b1 b2 b3 b4 _ h1 (fun j' c1 c2 c3 c4 hlt hc => ⟨⟨j', hc⟩, ?_⟩)
  exact Nat.lt_of_le_of_lt ((Classical.choose_spec (key c1 c2 c3 c4) ⟨j', hc⟩).2 j' hc) hlt
theorem lpG5 {A1 A2 A3 A4 A5 : Type} {B : (A1 → A2 → A3 → A4 → A5 → Prop) → A1 → A2 → A3 → A4 → A5 → Prop} (I : Nat → A1 → A2 → A3 → A4 → A5 → Prop) (j0 : Nat) {a1 : A1} {a2 : A2} {a3 : A3} {a4 : A4} {a5 : A5} (h0 : I j0 a1 a2 a3 a4 a5) (step : ∀ (j : Nat) (b1 : A1) (b2 : A2) (b3 : A3) (b4 : A4) (b5 : A5) (R : A1 → A2 → A3 → A4 → A5 → Prop), I j b1 b2 b3 b4 b5 → (∀ (j' : Nat) (c1 : A1) (c2 : A2) (c3 : A3) (c4 : A4) (c5 : A5), j' < j → I j' c1 c2 c3 c4 c5 → R c1 c2 c3 c4 c5) → B R b1 b2 b3 b4 b5) :
    ∃ (I : A1 → A2 → A3 → A4 → A5 → Prop) (μ : A1 → A2 → A3 → A4 → A5 → Nat), I a1 a2 a3 a4 a5 ∧ ∀ (b1 : A1) (b2 : A2) (b3 : A3) (b4 : A4) (b5 : A5), I b1 b2 b3 b4 b5 → B (fun c1 c2 c3 c4 c5 => I c1 c2 c3 c4 c5 ∧ μ c1 c2 c3 c4 c5 < μ b1 b2 b3 b4 b5) b1 b2 b3 b4 b5 := by
  have key : ∀ (b1 : A1) (b2 : A2) (b3 : A3) (b4 : A4) (b5 : A5), ∃ n : Nat, (∃ j, I j b1 b2 b3 b4 b5) → I n b1 b2 b3 b4 b5 ∧ ∀ j, I j b1 b2 b3 b4 b5 → n ≤ j := by
    intro b1 b2 b3 b4 b5
    by_cases h : ∃ j, I j b1 b2 b3 b4 b5
    · obtain ⟨n, h1, h2⟩ := pk_least (fun j => I j b1 b2 b3 b4 b5) h
      exact ⟨n, fun _ => ⟨h1, fun j hj => Nat.le_of_not_lt (fun q => h2 j q hj)⟩⟩
    · exact ⟨0, fun q => absurd q h⟩
  refine ⟨fun b1 b2 b3 b4 b5 => ∃ j, I j b1 b2 b3 b4 b5, fun b1 b2 b3 b4 b5 => Classical.choose (key b1 b2 b3 b4 b5), ⟨j0, h0⟩, fun b1 b2 b3 b4 b5 hb => ?_⟩
  obtain ⟨h1, h2⟩ := Classical.choose_spec (key b1 b2 b3 b4 b5) hb
  refine step _ b1 b2 b3 b4 b5 _ h1 (fun j' c1 c2 c3 c4 c5 hlt hc => ⟨⟨j', hc⟩, ?_⟩)
  exact Nat.lt_of_le_of_lt ((Classical.choose_spec (key c1 c2 c3 c4 c5) ⟨j', hc⟩).2 j' hc) hlt
theorem lpG6 {A1 A2 A3 A4 A5 A6 : Type} {B : (A1 → A2 → A3 → A4 → A5 → A6 → Prop) → A1 → A2 → A3 → A4 → A5 → A6 → Prop} (I : Nat → A1 → A2 → A3 → A4 → A5 → A6 → Prop) (j0 : Nat) {a1 : A1} {a2 : A2} {a3 : A3} {a4 : A4} {a5 : A5} {a6 : A6} (h0 : I j0 a1 a2 a3 a4 a5 a6) (step : ∀ (j : Nat) (b1 : A1) (b2 : A2) (b3 : A3) (b4 : A4) (b5 : A5) (b6 : A6) (R : A1 → A2 → A3 → A4 → A5 → A6 → Prop), I j b1 b2 b3 b4 b5 b6 → (∀ (j' : Nat) (c1 : A1) (c2 : A2) (c3 : A3) (c4 : A4) (c5 : A5) (c6 : A6), j' < j → I j' c1 c2 c3 c4 c5 c6 → R c1 c2 c3 c4 c5 c6) → B R b1 b2 b3 b4 b5 b6) :
    ∃ (I : A1 → A2 → A3 → A4 → A5 → A6 → Prop) (μ : A1 → A2 → A3 → A4 → A5 → A6 → Nat), I a1 a2 a3 a4 a5 a6 ∧ ∀ (b1 : A1) (b2 : A2) (b3 : A3) (b4 : A4) (b5 : A5) (b6 : A6), I b1 b2 b3 b4 b5 b6 → B (fun c1 c2 c3 c4 c5 c6 => I c1 c2 c3 c4 c5 c6 ∧ μ c1 c2 c3 c4 c5 c6 < μ b1 b2 b3 b4 b5 b6) b1 b2 b3 b4 b5 b6 := by
  have key : ∀ (b1 : A1) (b2 : A2) (b3 : A3) (b4 : A4) (b5 : A5) (b6 : A6), ∃ n : Nat, (∃ j, I j b1 b2 b3 b4 b5 b6) → I n b1 b2 b3 b4 b5 b6 ∧ ∀ j, I j b1 b2 b3 b4 b5 b6 → n ≤ j := by
    intro b1 b2 b3 b4 b5 b6
    by_cases h : ∃ j, I j b1 b2 b3 b4 b5 b6
    · obtain ⟨n, h1, h2⟩ := pk_least (fun j => I j b1 b2 b3 b4 b5 b6) h
      exact ⟨n, fun _ => ⟨h1, fun j hj => Nat.le_of_not_lt (fun q => h2 j q hj)⟩⟩
    · exact ⟨0, fun q => absurd q h⟩
  refine ⟨fun b1 b2 b3 b4 b5 b6 => ∃ j, I j b1 b2 b3 b4 b5 b6, fun b1 b2 b3 b4 b5 b6 => Classical.choose (key b1 b2 b3 b4 b5 b6), ⟨j0, h0⟩, fun b1 b2 b3 b4 b5 b6 hb => ?_⟩
  obtain ⟨h1, h2⟩ := Classical.choose_spec (key b1 b2 b3 b4 b5 b6) hb
  refine step _ b1 b2 b3 b4 b5 b6 _ h1 (fun j' c1 c2 c3 c4 c5 c6 hlt hc => ⟨⟨j', hc⟩, ?_⟩)
  exact Nat.lt_of_le_of_lt ((Classical.choose_spec (key c1 c2 c3 c4 c5 c6) ⟨j', hc⟩).2 j' hc) hlt
theorem lpG7 {A1 A2 A3 A4 A5 A6 A7 : Type} {B : (A1 → A2 → A3 → A4 → A5 → A6 → A7 → Prop) → A1 → A2 → A3 → A4 → A5 → A6 → A7 → Prop} (I : Nat → A1 → A2 → A3 → A4 → A5 → A6 → A7 → Prop) (j0 : Nat) {a1 : A1} {a2 : A2} {a3 : A3} {a4 : A4} {a5 : A5} {a6 : A6} {a7 : A7} (h0 : I j0 a1 a2 a3 a4 a5 a6 a7) (step : ∀ (j : Nat) (b1 : A1) (b2 : A2) (b3 : A3) (b4 : A4) (b5 : A5) (b6 : A6) (b7 : A7) (R : A1 → A2 → A3 → A4 → A5 → A6 → A7 → Prop), I j b1 b2 b3 b4 b5 b6 b7 → (∀ (j' : Nat) (c1 : A1) (c2 : A2) (c3 : A3) (c4 : A4) (c5 : A5) (c6 : A6) (c7 : A7), j' < j → I j' c1 c2 c3 c4 c5 c6 c7 → R c1 c2 c3 c4 c5 c6 c7) → B R b1 b2 b3 b4 b5 b6 b7) :
    ∃ (I : A1 → A2 → A3 → A4 → A5 → A6 → A7 → Prop) (μ : A1 → A2 → A3 → A4 → A5 → A6 → A7 → Nat), I a1 a2 a3 a4 a5 a6 a7 ∧ ∀ (b1 : A1) (b2 : A2) (b3 : A3) (b4 : A4) (b5 : A5) (b6 : A6) (b7 : A7), I b1 b2 b3 b4 b5 b6 b7 → B (fun c1 c2 c3 c4 c5 c6 c7 => I c1 c2 c3 c4 c5 c6 c7 ∧ μ c1 c2 c3 c4 c5 c6 c7 < μ b1 b2 b3 b4 b5 b6 b7) b1 b2 b3 b4 b5 b6 b7 := by
  have key : ∀ (b1 : A1) (b2 : A2) (b3 : A3) (b4 : A4) (b5 : A5) (b6 : A6) (b7 : A7), ∃ n : Nat, (∃ j, I j b1 b2 b3 b4 b5 b6 b7) → I n b1 b2 b3 b4 b5 b6 b7 ∧ ∀ j, I j b1 b2 b3 b4 b5 b6 b7 → n ≤ j := by
    intro b1 b2 b3 b4 b5 b6 b7
    by_cases h : ∃ j, I j b1 b2 b3 b4 b5 b6 b7
    · obtain ⟨n, h1, h2⟩ := pk_least (fun j => I j b1 b2 b3 b4 b5 b6 b7) h
      exact ⟨n, fun _ => ⟨h1, fun j hj => Nat.le_of_not_lt (fun q => h2 j q hj)⟩⟩
    · exact ⟨0, fun q => absurd q h⟩
  refine ⟨fun b1 b2 b3 b4 b5 b6 b7 => ∃ j, I j b1 b2 b3 b4 b5 b6 b7, fun b1 b2 b3 b4 b5 b6 b7 => Classical.choose (key b1 b2 b3 b4 b5 b6 b7), ⟨j0, h0⟩, fun b1 b2 b3 b4 b5 b6 b7 hb => ?_⟩
  obtain ⟨h1, h2⟩ := Classical.choose_spec (key b1 b2 b3 b4 b5 b6 b7) hb
  refine step _ b1 b2 b3 b4 b5 b6 b7 _ h1 (fun j' c1 c2 c3 c4 c5 c6 c7 hlt hc => ⟨⟨j', hc⟩, ?_⟩)
  exact Nat.lt_of_le_of_lt ((Classical.choose_spec (key c1 c2 c3 c4 c5 c6 c7) ⟨j', hc⟩).2 j' hc) hlt
