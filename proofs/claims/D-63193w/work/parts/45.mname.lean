/-! the reference's words: letters, identifiers, which comes first; a name as it was told -/
theorem p256 (x : Nat) : 2 ^ (8 * x) = 256 ^ x := by rw [Nat.pow_mul]
theorem lgc0 {a : Nat} (h : a < 2 ^ 64) : lg_cmp (lN a) 0 = 0 ↔ a = 0 := by
  have e : lg_cmp (lN a) 0 = 0 ↔ lN a = 0 := by
    unfold lg_cmp
    constructor
    · intro q
      split at q
      · exact absurd q (by decide)
      · split at q
        · assumption
        · exact absurd q (by decide)
    · intro q
      rw [q, if_neg (by decide), if_pos rfl]
  rw [e]
  constructor
  · intro q
    have := congrArg (fun x : Int64 => x.toBitVec.toNat) q
    simpa [wb_tn h] using this
  · intro q; rw [q]; rfl
def dg (a k : Nat) : Nat := a / 256 ^ k % 256
theorem dg_lt (a k : Nat) : dg a k < 256 := Nat.mod_lt _ (by decide)
/-- (int) (w >>> 8 * k & 255) -/
theorem sh_dg {a k : Nat} (h : a < 2 ^ 64) (hk : k < 8) : (((lN a).toUInt64 >>> ((nI (8 * k)).toInt64.toUInt64 &&& Int64.toUInt64 63)).toInt64 &&& (255 : Int64)).toInt32 = nI (dg a k) := by
  rw [wb_shr h (by omega), show (255 : Int64) = lN (2 ^ 8 - 1) from rfl, wb_mask (Nat.lt_of_le_of_lt (Nat.div_le_self _ _) h) (by decide), lN_i, p256]
  rfl
/-- a name as it was told: digits j - 1 .. 0 behind what stands -/
noncomputable def tdl (a : Nat) : Nat → List Nat → List Nat
  | 0, l => l
  | j + 1, l => ic (dg a j = 0) (tdl a j l) (ic (isL (dg a j)) (tdl a j (l ++ [dg a j])) [])
noncomputable def told (a : Nat) : List Nat := tdl a 8 []
theorem tdl_ok (a : Nat) : ∀ (j : Nat) (l : List Nat), (∀ c ∈ l, isL c) → l.length + j ≤ 8 → tdl a j l = [] ∨ NM (tdl a j l)
  | 0, l, h1, h2 => by
    unfold tdl
    cases l with
    | nil => exact Or.inl rfl
    | cons c l => exact Or.inr ⟨by simp, by omega, h1⟩
  | j + 1, l, h1, h2 => by
    unfold tdl
    by_cases e : dg a j = 0
    · rw [ic_t e]; exact tdl_ok a j l h1 (by omega)
    · rw [ic_f e]
      by_cases e2 : isL (dg a j)
      · rw [ic_t e2]
        refine tdl_ok a j _ (fun c hc => ?_) (by simp; omega)
        rcases List.mem_append.mp hc with q | q
        · exact h1 c q
        · simp at q; rw [q]; exact e2
      · rw [ic_f e2]; exact Or.inl rfl
theorem told_ok (a : Nat) : told a = [] ∨ NM (told a) := tdl_ok a 8 [] (fun c hc => by cases hc) (by simp)
theorem told_len (a : Nat) : (told a).length ≤ 8 := by
  rcases told_ok a with h | h
  · rw [h]; simp
  · exact h.2.1
theorem told_b (a : Nat) : ∀ c ∈ told a, 0 < c ∧ c < 256 := by
  rcases told_ok a with h | h
  · rw [h]; intro c hc; cases hc
  · exact NM_b h
theorem dg_hi {l : List Nat} (h : ∀ c ∈ l, c < 256) {j : Nat} (hj : l.length ≤ j) : dg (wd l) j = 0 := by
  unfold dg
  have h1 := wd_lt l h
  have h2 : 256 ^ l.length ≤ 256 ^ j := Nat.pow_le_pow_right (by decide) hj
  rw [Nat.div_eq_of_lt (by omega)]
theorem told_wd {l : List Nat} (h : NM l) : told (wd l) = l := by
  have hb := NM_b h
  have key : ∀ j, j ≤ 8 → tdl (wd l) j (l.take (l.length - j)) = l := by
    intro j
    induction j with
    | zero => intro _; simp [tdl]
    | succ j ih =>
      intro hj
      unfold tdl
      by_cases e : l.length ≤ j
      · rw [ic_t (dg_hi (fun c hc => (hb c hc).2) e)]
        have := ih (by omega)
        rw [show l.length - (j + 1) = l.length - j by omega]
        exact this
      · have hd := wd_dig l (l.length - 1 - j) (fun c hc => (hb c hc).2) (by omega)
        rw [show l.length - 1 - (l.length - 1 - j) = j by omega] at hd
        have hi : l.length - 1 - j < l.length := by omega
        have hg : l.getD (l.length - 1 - j) 0 = l[l.length - 1 - j] := by simp [List.getD_eq_getElem?_getD, hi]
        have hm : l[l.length - 1 - j] ∈ l := List.getElem_mem hi
        have e1 : dg (wd l) j = l[l.length - 1 - j] := by unfold dg; rw [hd, hg]
        rw [e1, ic_f (by have := hb _ hm; omega), ic_t (h.2.2 _ hm)]
        have := ih (by omega)
        rw [show l.length - j = (l.length - 1 - j) + 1 by omega, List.take_succ_eq_append_getElem hi] at this
        rw [show l.length - (j + 1) = l.length - 1 - j by omega]
        exact this
  have := key 8 (Nat.le_refl _)
  rw [show l.length - 8 = 0 by have := h.2.1; omega] at this
  exact this
section
variable {σ : Hp}
theorem m_lettersOf {l : List Nat} (h1 : l.length ≤ 8) (h2 : ∀ c ∈ l, 0 < c ∧ c < 256) {post : Int32 → Prop} (k : post (nI l.length)) : wX9_lettersOf (lN (wd l)) σ post := by
  have hw := wd64 h1 (fun c hc => (h2 c hc).2)
  unfold wX9_lettersOf wX9_lettersOf_L2
  refine lpG1 (B := fun R x2 => wX9_lettersOf_B2 post R (lN (wd l)) x2 σ) (fun j x2 => j ≤ l.length ∧ x2 = nI (l.length - j)) l.length ⟨Nat.le_refl _, by simp [nI_0]⟩ ?_
  rintro j x2 R ⟨h3, rfl⟩ hR
  unfold wX9_lettersOf_B2
  rw [li_8, pk_mul, nI_leI (by omega) (by omega)]
  refine ⟨fun q => ?_, fun q => ?_⟩
  · rw [show l.length - j = l.length by omega]; exact k
  · rw [wb_shr hw (by omega), lgc0 (Nat.lt_of_le_of_lt (Nat.div_le_self _ _) hw), p256]
    refine ⟨fun z => ?_, fun z y hy => ?_⟩
    · have hj : j = 0 := by
        rcases Nat.eq_zero_or_pos j with e | e
        · exact e
        · exfalso
          have hg := wd_ge l (fun c hc => (h2 c hc).1) (by intro e2; rw [e2] at h3; simp at h3; omega)
          have h4 : 256 ^ (l.length - j) ≤ 256 ^ (l.length - 1) := Nat.pow_le_pow_right (by decide) (by omega)
          have h5 : 0 < wd l / 256 ^ (l.length - j) := Nat.div_pos (by omega) (Nat.pow_pos (by decide))
          omega
      rw [hj, Nat.sub_zero]
      exact k
    · have hj : j ≠ 0 := by
        intro e
        apply z
        rw [e, Nat.sub_zero]
        exact Nat.div_eq_of_lt (wd_lt l (fun c hc => (h2 c hc).2))
      refine hR (j - 1) y (by omega) ⟨by omega, ?_⟩
      rw [hy, li_1, nI_add]
      congr 1
      omega
theorem m_letter {l : List Nat} (h1 : l.length ≤ 8) (h2 : ∀ c ∈ l, 0 < c ∧ c < 256) {i : Nat} (hi : i < l.length) {post : Int32 → Prop} (k : post (nI (l.getD i 0))) : wX9_letter (lN (wd l)) (nI i) σ post := by
  have hw := wd64 h1 (fun c hc => (h2 c hc).2)
  unfold wX9_letter
  refine m_lettersOf h1 h2 ?_
  rw [li_8, li_1, pk_sub (by omega), pk_sub (by omega), pk_mul, sh_dg hw (by omega)]
  unfold dg
  rw [wd_dig l i (fun c hc => (h2 c hc).2) hi]
  exact k
theorem idb_len {l : List Nat} {d : Nat} : (idb l d).length = if d = 1 then l.length else l.length + 3 := by
  unfold idb; split <;> simp
theorem idb_pos {l : List Nat} {d : Nat} (h : ∀ c ∈ l, 0 < c ∧ c < 256) : ∀ c ∈ idb l d, 0 < c ∧ c < 256 := by
  intro c hc
  unfold idb at hc
  split at hc
  · exact h c hc
  · rcases List.mem_append.mp hc with q | q
    · exact h c q
    · simp at q; omega
theorem idb_len12 {l : List Nat} {d : Nat} (h : l.length ≤ 8) : (idb l d).length ≤ 11 := by rw [idb_len]; split <;> omega
theorem getD_lt {l : List Nat} (h : ∀ c ∈ l, 0 < c ∧ c < 256) (i : Nat) : l.getD i 0 < 256 := by
  rcases Nat.lt_or_ge i l.length with q | q
  · rw [List.getD_eq_getElem?_getD, List.getElem?_eq_getElem q]
    exact (h _ (List.getElem_mem q)).2
  · rw [List.getD_eq_getElem?_getD, List.getElem?_eq_none q]; decide
theorem m_idByte {l : List Nat} {d : Nat} (h1 : l.length ≤ 8) (h2 : ∀ c ∈ l, 0 < c ∧ c < 256) (hd : d = 0 ∨ d = 1) {i : Nat} (hi : i < 1000) {post : Int32 → Prop} (k : post (nI ((idb l d).getD i 0))) : wX9_idByte (lN (wd l)) (nI d) (nI i) σ post := by
  unfold wX9_idByte wX9_idByte_L30
  refine m_lettersOf h1 h2 ?_
  simp (disch := omega) only [li_0, li_1, li_2, li_3, li_4, li_5, li_6, li_7, li_8, li_9, li_10, li_12, li_14, li_16, li_17, li_18, li_19, li_20, li_25, li_28, li_30, li_31, li_32, li_33, li_34, li_40, li_46, li_48, li_49, li_57, li_59, li_65, li_67, li_68, li_75, li_77, li_80, li_82, li_90, li_95, li_100, li_128, li_130, li_132, li_136, li_140, li_148, li_156, li_200, li_255, li_256, li_400, li_700, li_2047, li_2048, li_2049, li_2050, li_2054, li_2056, li_4096, li_6000, li_163840, li_409600, li_819200, nI_add, pk_mul, pk_sub, nI_leI, nI_ltI, nI_eq, nI_clamp, vin_]
  refine ⟨fun q => ⟨fun e => ?_, fun e => ⟨fun q2 => ⟨fun q3 => ⟨fun q4 => ?_, fun q4 => ?_⟩, fun q3 => ?_⟩, fun q2 => ?_⟩⟩, fun q => m_letter h1 h2 (by omega) ?_⟩
  · have hd1 : d = 1 := by omega
    rw [idb, if_pos hd1, List.getD_eq_getElem?_getD, List.getElem?_eq_none q] at k
    exact k
  · rw [idb, if_neg (by omega), List.getD_eq_getElem?_getD, List.getElem?_append_right q, show i - l.length = 2 by omega] at k
    exact k
  · rw [idb, if_neg (by omega), List.getD_eq_getElem?_getD, List.getElem?_append_right q, show i - l.length = 1 by omega] at k
    exact k
  · rw [idb, if_neg (by omega), List.getD_eq_getElem?_getD, List.getElem?_append_right q, show i - l.length = 0 by omega] at k
    exact k
  · rw [idb, if_neg (by omega), List.getD_eq_getElem?_getD, List.getElem?_eq_none (by simp; omega)] at k
    exact k
  · rw [idb] at k
    split at k
    · exact k
    · rw [List.getD_eq_getElem?_getD, List.getElem?_append_left (by omega), ← List.getD_eq_getElem?_getD] at k
      exact k
theorem lx_at : ∀ (i : Nat) (a b : List Nat), (∀ c ∈ a, 0 < c) → (∀ c ∈ b, 0 < c) → (∀ t, t < i → a.getD t 0 = b.getD t 0) → a.getD i 0 ≠ b.getD i 0 → (lx a b = true ↔ a.getD i 0 < b.getD i 0)
  | i, [], [], _, _, _, h => by simp at h
  | 0, [], y :: b, _, hb, _, _ => by
    have := hb y (List.mem_cons_self ..)
    simp [lx]; omega
  | i + 1, [], y :: b, _, hb, h, _ => by
    have := hb y (List.mem_cons_self ..)
    have h0 := h 0 (by omega)
    simp at h0; omega
  | 0, x :: a, [], ha, _, _, _ => by simp [lx]
  | i + 1, x :: a, [], ha, _, h, _ => by
    have := ha x (List.mem_cons_self ..)
    have h0 := h 0 (by omega)
    simp at h0; omega
  | 0, x :: a, y :: b, _, _, _, h => by
    simp at h
    simp [lx, h]
  | i + 1, x :: a, y :: b, ha, hb, h, hne => by
    have h0 := h 0 (by omega)
    simp at h0
    subst h0
    have := lx_at i a b (fun c hc => ha c (List.mem_cons_of_mem _ hc)) (fun c hc => hb c (List.mem_cons_of_mem _ hc)) (fun t ht => by have := h (t + 1) (by omega); simpa using this) (by simpa using hne)
    simpa [lx] using this
theorem eq_at {a b : List Nat} {N : Nat} (ha : ∀ c ∈ a, 0 < c) (hb : ∀ c ∈ b, 0 < c) (la : a.length ≤ N) (lb : b.length ≤ N) (h : ∀ t, t < N → a.getD t 0 = b.getD t 0) : a = b := by
  have hlen : a.length = b.length := by
    rcases Nat.lt_trichotomy a.length b.length with q | q | q
    · have h1 := h a.length (by omega)
      rw [List.getD_eq_getElem?_getD, List.getD_eq_getElem?_getD, List.getElem?_eq_none (Nat.le_refl _), List.getElem?_eq_getElem q] at h1
      have := hb _ (List.getElem_mem q)
      simp at h1; omega
    · exact q
    · have h1 := h b.length (by omega)
      rw [List.getD_eq_getElem?_getD, List.getD_eq_getElem?_getD, List.getElem?_eq_none (Nat.le_refl b.length), List.getElem?_eq_getElem q] at h1
      have := ha _ (List.getElem_mem q)
      simp at h1; omega
  apply List.ext_getElem hlen
  intro i h1 h2
  have := h i (by omega)
  simpa [List.getD_eq_getElem?_getD, h1, h2] using this
theorem m_compare {v w : List Nat} {vd wd' : Nat} (hv : v.length ≤ 8) (hv2 : ∀ c ∈ v, 0 < c ∧ c < 256) (hw : w.length ≤ 8) (hw2 : ∀ c ∈ w, 0 < c ∧ c < 256) (hvd : vd = 0 ∨ vd = 1) (hwd : wd' = 0 ∨ wd' = 1) {post : Int32 → Prop}
    (k : ∀ r : Int32, (r < 0 ↔ lx (idb v vd) (idb w wd') = true) → (r = 0 ↔ idb v vd = idb w wd') → post r) : wX9_compare (lN (wd v)) (nI vd) (lN (wd w)) (nI wd') σ post := by
  have pa := idb_pos (d := vd) hv2
  have pb := idb_pos (d := wd') hw2
  unfold wX9_compare wX9_compare_L3
  refine lpG1 (B := fun R x => wX9_compare_B3 post R (lN (wd v)) (nI vd) (lN (wd w)) (nI wd') x σ) (fun j x => j ≤ 12 ∧ x = nI (12 - j) ∧ ∀ t, t < 12 - j → (idb v vd).getD t 0 = (idb w wd').getD t 0) 12 ⟨Nat.le_refl _, rfl, fun t ht => absurd ht (by omega)⟩ ?_
  rintro j x R ⟨h1, rfl, h3⟩ hR
  unfold wX9_compare_B3
  rw [li_12, nI_leI (by omega) (by omega)]
  refine ⟨fun q => ?_, fun q => ?_⟩
  · have e := eq_at (fun c hc => (pa c hc).1) (fun c hc => (pb c hc).1) (N := 12) (by have := idb_len12 (d := vd) hv; omega) (by have := idb_len12 (d := wd') hw; omega) (fun t ht => h3 t (by omega))
    refine k 0 ⟨fun z => absurd z (by decide), fun z => ?_⟩ ⟨fun _ => e, fun _ => rfl⟩
    rw [e, lx_irr] at z; cases z
  · refine m_idByte hv hv2 hvd (by omega) (m_idByte hw hw2 hwd (by omega) ?_)
    have b1 := getD_lt pa (12 - j)
    have b2 := getD_lt pb (12 - j)
    intro y hy
    have hyI : y.toInt = ((idb v vd).getD (12 - j) 0 : Int) - (idb w wd').getD (12 - j) 0 := by rw [hy, pk_sub_toInt (by omega) (by omega)]
    have hy0 : y = 0 ↔ (idb v vd).getD (12 - j) 0 = (idb w wd').getD (12 - j) 0 := by
      rw [← Int32.toInt_inj, hyI]
      simp; omega
    refine ⟨fun z y' hy' => ?_, fun z => ?_⟩
    · refine hR (j - 1) y' (by omega) ⟨by omega, ?_, fun t ht => ?_⟩
      · rw [hy', li_1, nI_add]; congr 1; omega
      · by_cases e : t < 12 - j
        · exact h3 t e
        · rw [show t = 12 - j by omega]; exact hy0.mp z
    · have hne : (idb v vd).getD (12 - j) 0 ≠ (idb w wd').getD (12 - j) 0 := fun e => z (hy0.mpr e)
      refine k y ?_ ⟨fun e => absurd e z, fun e => absurd (by rw [e]) hne⟩
      rw [lx_at (12 - j) _ _ (fun c hc => (pa c hc).1) (fun c hc => (pb c hc).1) h3 hne, Int32.lt_iff_toInt_lt, hyI]
      simp; omega
/-- v << 8 | b, longs -/
theorem sh8L {v b : Nat} (hb : b < 256) (hv : v * 256 + b < 2 ^ 64) : (lN v <<< ((8 : Int32).toInt64 &&& 63)) ||| lN b = lN (v * 256 + b) := by
  rw [show (8 : Int32) = nI 8 from rfl, wb_shl v (by decide), show v * 2 ^ 8 = v * 256 from rfl, g_or (k := 8) (p := 256) rfl hb hv]
theorem m_told {a : Nat} (ha : a < 2 ^ 64) {post : Int64 → Prop} (k : post (lN (wd (told a)))) : wX9_told (lN a) σ post := by
  unfold wX9_told wX9_told_L6
  refine lpG2 (B := fun R x y => wX9_told_B6 post R (lN a) x y σ) (fun j x y => ∃ l : List Nat, j ≤ 8 ∧ x = lN (wd l) ∧ y = nI j + (-1) ∧ tdl a j l = told a ∧ (∀ c ∈ l, isL c) ∧ l.length + j ≤ 8) 8 ⟨[], Nat.le_refl _, rfl, by decide, rfl, fun c hc => (by cases hc), by simp⟩ ?_
  rintro j x y R ⟨l, h1, rfl, rfl, h4, h5, h6⟩ hR
  unfold wX9_told_B6 wX9_told_L52
  cases j with
  | zero =>
    refine ⟨fun _ => ?_, fun q => absurd (by decide) q⟩
    unfold tdl at h4
    rw [h4]; exact k
  | succ j =>
    have e : nI (j + 1) + (-1) = nI j := by rw [nI_dec (by omega)]; rfl
    have hlt := dg_lt a j
    rw [e, li_8, pk_mul, sh_dg ha (by omega)]
    refine ⟨fun q => absurd q (nI_pos (by omega)), fun _ y3 hy3 => ?_⟩
    rw [hy3, li_0, nI_eq (by omega) (by decide)]
    unfold tdl at h4
    refine ⟨fun q => m_isLetter hlt (fun hl => ⟨fun _ y7 hy7 y1 hy1 => ?_, fun z => absurd z (by decide)⟩) (fun hl => ⟨fun z => absurd rfl z, fun _ => ?_⟩), fun q y1 hy1 => ?_⟩
    · rw [ic_f q, ic_t hl] at h4
      refine hR j y7 y1 (by omega) ⟨l ++ [dg a j], by omega, ?_, hy1, h4, fun c hc => ?_, by simp; omega⟩
      · have h7 : wd (l ++ [dg a j]) < 2 ^ 64 := by
          apply wd64 (by simp; omega)
          intro c hc
          rcases List.mem_append.mp hc with z | z
          · have := isL_b (h5 c z); omega
          · simp at z; omega
        rw [wd_snoc] at h7
        rw [hy7, wd_snoc, show (nI (dg a j)).toInt64 = lN (dg a j) from nI_l (by omega)]
        exact sh8L hlt h7
      · rcases List.mem_append.mp hc with z | z
        · exact h5 c z
        · simp at z; rw [z]; exact hl
    · rw [ic_f q, ic_f hl] at h4
      rw [← h4] at k
      exact k
    · rw [ic_t q] at h4
      exact hR j _ y1 (by omega) ⟨l, by omega, rfl, hy1, h4, h5, by omega⟩
end
