/-! texts -/
theorem shr0 (n : Nat) : nI n >>> ((0 : Int32) &&& 31) = nI n := by
  have e : ((0 : Int32) &&& 31) = 0 := by decide
  rw [e]
  simp
theorem chr_ {c : Nat} (h : c < 65536) : ((nI c).toUInt32 % 65536).toInt32 = nI c := by
  apply Int32.toBitVec_inj.mp
  apply BitVec.eq_of_toNat_eq
  unfold nI
  simp
  omega
theorem chr16 {c : Nat} (h : c < 65536) : (nI c).toUInt32.toUInt16.toUInt32.toInt32 = nI c := by
  apply Int32.toBitVec_inj.mp
  apply BitVec.eq_of_toNat_eq
  unfold nI
  simp
  omega
theorem drop_cons {l : List Nat} {i : Nat} (h : i < l.length) : l.drop i = l.getD i 0 :: l.drop (i + 1) := by
  rw [List.drop_eq_getElem_cons h, List.getD_eq_getElem?_getD, List.getElem?_eq_getElem h]; rfl
theorem lx_cc (a b : Nat) (l r : List Nat) : lx (a :: l) (b :: r) = if a = b then lx l r else decide (a < b) := rfl
theorem l_ci10 {σ : Hp} {i n r1 : Nat} (h : i < n) (hn : n < 2 ^ 31) {post : Int32 → Prop} (k : post (nI i)) : wJ10_checkIndex (nI i) (nI n) r1 σ post := by
  unfold wJ10_checkIndex
  rw [nI_ltI (by omega) hn]
  exact ⟨fun z => absurd z (nI_pos (by omega)), fun _ => ⟨fun _ => k, fun z => absurd h z⟩⟩
section
variable {S : Prop} {W : Nat → Prop} {D : Nat} {σ τ : Hp} {r r' : Nat} {l l' : List Nat}
theorem s_length (h : Str D σ r l) {post : Int32 → Prop} (k : post (nI l.length)) : wJ5_length r σ post := by
  obtain ⟨a1, a2, a3, a4, a5, a6, a7, a8⟩ := h
  unfold wJ5_length wJ5_coder
  rw [a3, a4]
  refine ⟨a1, a2, fun z => absurd z (by decide), fun _ => ⟨a1, rfl, ?_⟩⟩
  show post (nI l.length >>> ((0 : Int32) &&& 31))
  rw [shr0]; exact k
theorem s_char (h : Str D σ r l) {i : Nat} (hi : i < l.length) {post : Int32 → Prop} (k : post (nI (l.getD i 0))) : wJ5_charAt r (nI i) σ post := by
  obtain ⟨a1, a2, a3, a4, a5, a6, a7, a8⟩ := h
  have hc : l.getD i 0 < 256 := a6 _ (getD_mem hi)
  unfold wJ5_charAt wJ5_isLatin1 wJ11_charAt wJ5_checkIndex
  rw [a3, a4, nI_clamp (by omega), a5 i hi]
  refine ⟨a1, fun z => absurd z (by decide), fun _ => ⟨a1, fun z => absurd rfl z, fun _ => ⟨fun z => absurd z (by decide), fun _ => ⟨a2, fun r1 => l_ci10 hi (by omega) ⟨(vin_ (by omega)).mpr hi, ?_⟩⟩⟩⟩⟩
  rw [li_255, sb_and hc, chr_ (by omega)]
  have e : nr_ .char (nI (l.getD i 0)) := by
    unfold nr_ narrow
    simp only [chr16 (show l.getD i 0 < 65536 by omega)]
  exact ⟨e, e, k⟩
theorem Str.inj (h : Str D σ r l) (h' : Str D σ r l') : l = l' := by
  obtain ⟨a1, a2, a3, a4, a5, a6, a7, a8⟩ := h
  obtain ⟨b1, b2, b3, b4, b5, b6, b7, b8⟩ := h'
  have e : l.length = l'.length := a3.symm.trans b3
  apply List.ext_getElem e
  intro i h1 h2
  have := (a5 i h1).symm.trans (b5 i h2)
  have := sb_inj (a6 _ (getD_mem h1)) (b6 _ (getD_mem h2)) this
  simpa [List.getD_eq_getElem?_getD, h1, h2] using this
theorem s_equals (h : Str D σ r l) (h' : Str D σ r' l') {post : Int32 → Prop} (k1 : l = l' → post 1) (k0 : l ≠ l' → post 0) : wJ5_equals r r' σ post := by
  have hinj : r = r' → l = l' := fun e => by subst e; exact h.inj h'
  obtain ⟨a1, a2, a3, a4, a5, a6, a7, a8⟩ := h
  obtain ⟨b1, b2, b3, b4, b5, b6, b7, b8⟩ := h'
  unfold wJ5_equals
  refine ⟨fun _ => ⟨b1, fun z => absurd z (by decide), fun _ => ⟨fun z => absurd z (by decide), fun _ => ⟨a1, fun z => absurd (by rw [a4, b4]) z, fun _ => ?_⟩⟩⟩, fun z => k1 (hinj z)⟩
  unfold wJ5_equals_L36 wJ11_equals
  rw [a3, b3, nI_eq (by omega) (by omega)]
  refine ⟨a1, b1, a2, b2, fun z => ⟨fun _ => k0 (fun e => z (by rw [e])), fun y => absurd rfl y⟩, fun hl => ?_⟩
  unfold wJ11_equals_L9
  refine lpG1 (B := fun R x => wJ11_equals_B9 _ R (fR_ σ 12 0 r) (fR_ σ 12 0 r') x σ) (fun j x => j ≤ l.length ∧ x = nI (l.length - j) ∧ ∀ t, t < l.length - j → l.getD t 0 = l'.getD t 0) l.length ⟨Nat.le_refl _, by simp [nI_0], fun t ht => by omega⟩ ?_
  rintro j x R ⟨h1, rfl, h3⟩ hR
  unfold wJ11_equals_B9
  rw [a3, b3, nI_leI (by omega) (by omega), nI_clamp (by omega)]
  refine ⟨a2, fun z => ⟨fun y => absurd y (by decide), fun _ => k1 ?_⟩, fun z => ⟨(vin_ (by omega)).mpr (by omega), b2, (vin_ (by omega)).mpr (by omega), ?_⟩⟩
  · apply List.ext_getElem hl
    intro i q1 q2
    have := h3 i (by omega)
    simpa [List.getD_eq_getElem?_getD, q1, q2] using this
  · rw [a5 _ (by omega), b5 _ (by omega)]
    refine ⟨fun z y hy => hR (j - 1) y (by omega) ⟨by omega, ?_, fun t ht => ?_⟩, fun z => ⟨fun _ => k0 (fun e => z (by rw [e])), fun y => absurd rfl y⟩⟩
    · rw [hy, li_1, nI_add]; congr 1; omega
    · by_cases e : t < l.length - j
      · exact h3 t e
      · rw [show t = l.length - j by omega]
        exact sb_inj (a6 _ (getD_mem (by omega))) (b6 _ (getD_mem (by omega))) z
theorem c_isName {c : Nat} (hc : c < 256) {post : Int32 → Prop} (k1 : isL c → post 1) (k0 : ¬ isL c → post 0) : wX1_isName (nI c) σ post := by
  unfold wX1_isName wX1_isName_L12 wX1_isName_L24 wX1_isName_L30
  simp only [li_0, li_1, li_2, li_3, li_4, li_5, li_6, li_7, li_8, li_9, li_10, li_12, li_14, li_16, li_17, li_18, li_19, li_20, li_25, li_28, li_30, li_31, li_32, li_33, li_34, li_40, li_46, li_48, li_49, li_57, li_59, li_65, li_67, li_68, li_75, li_77, li_80, li_82, li_90, li_95, li_100, li_128, li_130, li_132, li_136, li_140, li_148, li_156, li_200, li_255, li_256, li_400, li_700, li_2047, li_2048, li_2049, li_2050, li_2054, li_2056, li_4096, li_6000, li_163840, li_409600, li_819200]
  simp (disch := omega) only [nI_leI, nI_ltI, nI_eq]
  have e1 : isL c → post (nI 1) := k1
  have e0 : ¬ isL c → post (nI 0) := k0
  unfold isL at e1 e0
  refine ⟨fun _ => ⟨fun _ => ⟨fun _ => e0 (by omega), fun _ => e1 (by omega)⟩, fun _ => ⟨fun _ => e1 (by omega), fun _ => ⟨fun _ => e0 (by omega), fun _ => e1 (by omega)⟩⟩⟩, fun _ => ⟨fun _ => e1 (by omega), fun _ => ⟨fun _ => ⟨fun _ => e0 (by omega), fun _ => e1 (by omega)⟩, fun _ => ⟨fun _ => e1 (by omega), fun _ => ⟨fun _ => e0 (by omega), fun _ => e1 (by omega)⟩⟩⟩⟩⟩
theorem s_before (h : Str D σ r l) (h' : Str D σ r' l') {post : Int32 → Prop} (k1 : lx l l' = true → post 1) (k0 : lx l l' = false → post 0) : wX1_isBefore r r' σ post := by
  have l1 := h.2.2.2.2.2.2.2
  have l2 := h'.2.2.2.2.2.2.2
  unfold wX1_isBefore wX1_isBefore_L2
  refine lpG1 (B := fun R x => wX1_isBefore_B2 post R r r' x σ) (fun j x => j ≤ l.length ∧ l.length - j ≤ l'.length ∧ x = nI (l.length - j) ∧ lx (l.drop (l.length - j)) (l'.drop (l.length - j)) = lx l l') l.length ⟨Nat.le_refl _, by simp, by simp [nI_0], by simp⟩ ?_
  rintro j x R ⟨h1, h2, rfl, h3⟩ hR
  have L56 : (l.length = l.length - j ∨ l'.length = l.length - j) → wX1_isBefore_L56 post r r' σ := by
    intro q
    unfold wX1_isBefore_L56
    refine ⟨h.1, s_length h ⟨h'.1, s_length h' ?_⟩⟩
    rw [nI_leI (by omega) (by omega)]
    have e : lx l l' = true ↔ l.length < l'.length := by
      rw [← h3]
      rcases q with q | q
      · rw [show l.length - j = l.length by omega, List.drop_length]
        cases z : l'.drop l.length with
        | nil => have := List.drop_eq_nil_iff.mp z; simp [lx]; omega
        | cons a b =>
          have : l.length < l'.length := Nat.lt_of_not_le (fun y => by rw [List.drop_eq_nil_iff.mpr y] at z; cases z)
          simp [lx]; omega
      · rw [← q, List.drop_length]
        cases z : l.drop l'.length with
        | nil => simp [lx]; omega
        | cons a b => simp [lx]; omega
    refine ⟨fun z => k0 ?_, fun z => k1 (e.mpr (by omega))⟩
    cases y : lx l l' with
    | false => rfl
    | true => have := e.mp y; omega
  unfold wX1_isBefore_B2
  refine ⟨h.1, s_length h ?_⟩
  rw [nI_leI (by omega) (by omega)]
  refine ⟨fun z => L56 (by omega), fun z => ⟨h'.1, s_length h' ?_⟩⟩
  rw [nI_leI (by omega) (by omega)]
  refine ⟨fun y => L56 (by omega), fun y => s_char h (by omega) (s_char h' (by omega) ?_)⟩
  have c1 : l.getD (l.length - j) 0 < 256 := h.2.2.2.2.2.1 _ (getD_mem (by omega))
  have c2 : l'.getD (l.length - j) 0 < 256 := h'.2.2.2.2.2.1 _ (getD_mem (by omega))
  rw [drop_cons (by omega), drop_cons (show l.length - j < l'.length by omega)] at h3
  rw [lx_cc] at h3
  rw [nI_eq (by omega) (by omega)]
  refine ⟨fun e y' hy' => hR (j - 1) y' (by omega) ⟨by omega, by omega, ?_, ?_⟩, fun e => s_char h (by omega) (s_char h' (by omega) ?_)⟩
  · rw [hy', li_1, nI_add]; congr 1; omega
  · rw [if_pos e] at h3
    rw [show l.length - (j - 1) = l.length - j + 1 by omega]; exact h3
  · rw [if_neg e] at h3
    rw [nI_leI (by omega) (by omega)]
    exact ⟨fun q => k0 (by rw [← h3]; exact decide_eq_false (by omega)), fun q => k1 (by rw [← h3]; exact decide_eq_true (by omega))⟩
end
