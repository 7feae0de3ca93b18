/-! the tree of the class -/
/-- node k of a tree at r -/
def NdA (D : Nat) (σ : Hp) (r : Nat) (t : TT) (k : Nat) : Prop := tg_ σ r = 6 ∧ fI_ σ 5 0 r = nI k ∧ fI_ σ 5 1 r = nI (tD t k) ∧ fI_ σ 5 2 r = nI (tP t k) ∧ fI_ σ 5 3 r = nI (tS t k) ∧ fI_ σ 5 4 r = nI (tE t k) ∧ fI_ σ 5 5 r = nI (tX t k) ∧ fI_ σ 5 8 r = b2 (tW t k) ∧ Str D σ (fR_ σ 5 6 r) (tM t k) ∧ Str D σ (fR_ σ 5 7 r) (tI t k)
/-- a tree at q; rf: where its nodes are -/
def TrA (D : Nat) (σ : Hp) (q : Nat) (t : TT) (rf : Nat → Nat) (c : Nat) : Prop := tg_ σ q = 5 ∧ fI_ σ 4 1 q = nI (tN t) ∧ Lst σ 6 (fR_ σ 4 0 q) ((tL t).map rf) c ∧ (∀ k ∈ tL t, NdA D σ (rf k) t k)
theorem gD_map {L : List Nat} {f : Nat → Nat} {i : Nat} (h : i < L.length) : (L.map f).getD i 0 = f (L.getD i 0) := by
  simp [List.getD_eq_getElem?_getD, h]
section
variable {S : Prop} {W : Nat → Prop} {D n : Nat} {σ τ : Hp} {q c : Nat} {t : TT} {rf : Nat → Nat}
theorem NdA.kp {r k : Nat} (h : NdA D σ r t k) (hf : WF D σ) (kp : Kp S W σ τ) (hw : WS D σ W) (hr : ¬ W r) : NdA D τ r t k := by
  obtain ⟨a1, a2, a3, a4, a5, a6, a7, a8, a9, a10⟩ := h
  have lr := hf.lt a1
  exact ⟨by rw [kp.t lr]; exact a1, by rw [kp.i lr hr (by omega)]; exact a2, by rw [kp.i lr hr (by omega)]; exact a3, by rw [kp.i lr hr (by omega)]; exact a4, by rw [kp.i lr hr (by omega)]; exact a5, by rw [kp.i lr hr (by omega)]; exact a6, by rw [kp.i lr hr (by omega)]; exact a7, by rw [kp.i lr hr (by omega)]; exact a8, by rw [kp.r lr hr]; exact a9.kp hf kp hw, by rw [kp.r lr hr]; exact a10.kp hf kp hw⟩
theorem TrA.kp (h : TrA D σ q t rf c) (hf : WF D σ) (kp : Kp S W σ τ) (hw : WS D σ W) (h1 : ¬ W q) (h2 : ¬ W (fR_ σ 4 0 q)) (h3 : ¬ W (fR_ σ 10 1 (fR_ σ 4 0 q))) (h4 : ∀ k ∈ tL t, ¬ W (rf k)) : TrA D τ q t rf c := by
  obtain ⟨a1, a2, a3, a4⟩ := h
  have lr := hf.lt a1
  refine ⟨by rw [kp.t lr]; exact a1, by rw [kp.i lr h1 (by omega)]; exact a2, by rw [kp.r lr h1]; exact a3.kp hf kp h2 h3 (fun z => (hw 0 z).2.2 rfl) (a3.lt hf (by decide)), fun k hk => (a4 k hk).kp hf kp hw (h4 k hk)⟩
theorem TrA.len (h : TrA D σ q t rf c) : (tL t).length ≤ 33 := by
  have := h.2.2.1.len
  rw [List.length_map] at this; exact this
theorem TrA.mem (_ : TrA D σ q t rf c) {i : Nat} (hi : i < (tL t).length) : (tL t).getD i 0 ∈ tL t := getD_mem hi
theorem c_find (h : TrA D σ q t rf c) (x : Int32) {post : Nat → Prop} (k1 : ∀ k, k ∈ tL t → x = nI k → tg_ σ (rf k) = 6 → post (rf k)) (k0 : (∀ k ∈ tL t, nI k ≠ x) → post 0) : wX5_find q x σ post := by
  have hlen := h.len
  obtain ⟨a1, a2, a3, a4⟩ := id h
  unfold wX5_find wX5_find_L2
  refine lpG1 (B := fun R y => wX5_find_B2 post R q x y σ) (fun j y => j ≤ (tL t).length ∧ y = nI ((tL t).length - j) ∧ ∀ i, i < (tL t).length - j → nI ((tL t).getD i 0) ≠ x) (tL t).length ⟨Nat.le_refl _, by simp [nI_0], fun i hi => by omega⟩ ?_
  rintro j y R ⟨h1, rfl, h3⟩ hR
  unfold wX5_find_B2
  refine ⟨a1, a3.1, l_size a3 ?_⟩
  rw [List.length_map, nI_leI (by omega) (by omega)]
  refine ⟨fun z => k0 (fun k hk => ?_), fun z => l_get a3 (by rw [List.length_map]; omega) (fun tg => ?_)⟩
  · obtain ⟨i, hi, e⟩ := mem_getD hk
    rw [← e]; exact h3 i (by omega)
  · rw [gD_map (by omega)] at tg ⊢
    have hm := h.mem (show (tL t).length - j < (tL t).length by omega)
    rw [(a4 _ hm).2.1]
    refine ⟨Or.inr tg, tg, fun z y hy => hR (j - 1) y (by omega) ⟨by omega, by rw [hy, li_1, nI_add]; congr 1; omega, fun i hi => ?_⟩, fun z => l_get a3 (by rw [List.length_map]; omega) (fun tg' => ⟨Or.inr tg', ?_⟩)⟩
    · by_cases e : i < (tL t).length - j
      · exact h3 i e
      · rw [show i = (tL t).length - j by omega]; exact z
    · rw [gD_map (by omega)]; exact k1 _ hm z.symm tg
theorem tL_lt (ok : TOK n t) {k : Nat} (hk : k ∈ tL t) : k < 600 := by
  have := (mem_tL.mp hk).1
  have := ok.1.2.1
  omega
theorem c_findK (h : TrA D σ q t rf c) (ok : TOK n t) {k : Nat} (hk : k ∈ tL t) {post : Nat → Prop} (k1 : tg_ σ (rf k) = 6 → post (rf k)) : wX5_find q (nI k) σ post := by
  have l1 := tL_lt ok hk
  refine c_find h (nI k) (fun k' hk' e tg => ?_) (fun z => absurd rfl (z k hk))
  have l2 := tL_lt ok hk'
  rw [nI_eq (by omega) (by omega)] at e
  subst e
  exact k1 tg
theorem nodeOf_cases (ok : TOK n t) (x : Int32) : (∃ k, k ∈ tL t ∧ x = nI k ∧ nodeOf t x = some k) ∨ ((∀ k ∈ tL t, nI k ≠ x) ∧ nodeOf t x = none) := by
  have hn : tN t < 2 ^ 31 := by have := ok.1.2.1; omega
  unfold nodeOf
  rcases ix_cases x hn with ⟨j, h1, h2, h3⟩ | ⟨h1, h2⟩
  · rw [h3]
    by_cases e : tT t j = true
    · exact Or.inl ⟨j, mem_tL.mpr ⟨h1, e⟩, h2, by simp [e]⟩
    · refine Or.inr ⟨fun k hk z => ?_, by simp [e]⟩
      have l2 := (mem_tL.mp hk).1
      rw [h2, nI_eq (by omega) (by omega)] at z
      subst z
      exact e (mem_tL.mp hk).2
  · rw [h2]
    refine Or.inr ⟨fun k hk z => ?_, rfl⟩
    have l2 := (mem_tL.mp hk).1
    rw [← z] at h1
    rcases h1 with y | y
    · exact absurd y (nI_pos (by omega))
    · rw [nI_leI (by omega) (by omega)] at y; omega
theorem tP_lt (ok : TOK n t) {k : Nat} (hk : k ∈ tL t) : tP t k < 2 ^ 32 := by
  obtain ⟨h1, h2⟩ := mem_tL.mp hk
  by_cases e : k = 0
  · rw [e, ok.2.1.2.2.1]; decide
  · have := (dep_s ok (by omega) h1 h2).1
    have := ok.1.2.1
    omega
theorem c_depth (h : TrA D σ q t rf c) (ok : TOK n t) {k : Nat} (hk : k ∈ tL t) {post : Int32 → Prop} (k1 : post (nI (dep t k))) : wX5_depth q (nI k) σ post := by
  unfold wX5_depth wX5_depth_L4
  refine lpG2 (B := fun R x y => wX5_depth_B4 post R q x y σ) (fun j x y => ∃ p, p ∈ tL t ∧ y = nI p ∧ j = dep t p ∧ dep t p ≤ dep t k ∧ x = nI (dep t k - dep t p)) (dep t k) ⟨k, hk, rfl, rfl, Nat.le_refl _, by simp [nI_0]⟩ ?_
  rintro j x y R ⟨p, hp, rfl, rfl, h4, rfl⟩ hR
  have lp := tL_lt ok hp
  unfold wX5_depth_B4
  rw [li_0, nI_eq (by omega) (by decide)]
  refine ⟨fun z => ?_, fun z y2 hy2 => ⟨h.1, c_findK h ok hp (fun tg => ⟨tg, fun y6 hy6 => ?_⟩)⟩⟩
  · rw [z, dep_0]; exact k1
  · obtain ⟨m1, m2⟩ := mem_tL.mp hp
    obtain ⟨d1, d2, d3, d4, d5, d6⟩ := dep_s ok (by omega) m1 m2
    rw [(h.2.2.2 p hp).2.2.2.1] at hy6
    refine hR (dep t (tP t p)) y2 y6 (by omega) ⟨tP t p, mem_tL.mpr ⟨d1, d2⟩, hy6, rfl, by omega, ?_⟩
    rw [hy2, li_1, nI_add]; congr 1; omega
theorem nr_b {x : Int32} (h : x = 0 ∨ x = 1) : nr_ .boolean x := by rcases h with e | e <;> rw [e] <;> rfl
theorem c_named (h : TrA D σ q t rf c) (ok : TOK n t) {d s : Nat} (hd : d < 2 ^ 31) {l : List Nat} (hs : Str D σ s l) (but : Int32) {post : Int32 → Prop} (k1 : (∃ k ∈ tL t, tP t k = d ∧ nI k ≠ but ∧ tM t k = l) → post 1) (k0 : (¬ ∃ k ∈ tL t, tP t k = d ∧ nI k ≠ but ∧ tM t k = l) → post 0) : wX5_isNamed q (nI d) s but σ post := by
  have hlen := h.len
  obtain ⟨a1, a2, a3, a4⟩ := id h
  unfold wX5_isNamed wX5_isNamed_L6
  refine lpG2 (B := fun R x y => wX5_isNamed_B6 post R q (nI d) s but x y σ) (fun j x y => j ≤ (tL t).length ∧ y = nI ((tL t).length - j) ∧ ((x = 1 ∧ ∃ k ∈ tL t, tP t k = d ∧ nI k ≠ but ∧ tM t k = l) ∨ (x = 0 ∧ ∀ i, i < (tL t).length - j → ¬ (tP t ((tL t).getD i 0) = d ∧ nI ((tL t).getD i 0) ≠ but ∧ tM t ((tL t).getD i 0) = l)))) (tL t).length ⟨Nat.le_refl _, by simp [nI_0], Or.inr ⟨rfl, fun i hi => by omega⟩⟩ ?_
  rintro j x y R ⟨h1, rfl, h3⟩ hR
  unfold wX5_isNamed_B6 wX5_isNamed_L83 wX5_isNamed_L87 wX5_isNamed_L88
  have e : ∀ y : Int32, y = nI ((tL t).length - j) + 1 → 1 ≤ j → y = nI ((tL t).length - (j - 1)) := fun y hy hj => by rw [hy, li_1, nI_add]; congr 1; omega
  refine ⟨a1, a3.1, l_size a3 ?_⟩
  rw [List.length_map, nI_leI (by omega) (by omega)]
  refine ⟨fun z => ⟨nr_b (by rcases h3 with w | w; exact Or.inr w.1; exact Or.inl w.1), ?_⟩, fun z => ⟨fun w y hy => ?_, fun w => ?_⟩⟩
  · rcases h3 with ⟨w, w2⟩ | ⟨w, w2⟩
    · rw [w]; exact k1 w2
    · rw [w]
      refine k0 ?_
      rintro ⟨k, hk, w3⟩
      obtain ⟨i, hi, e⟩ := mem_getD hk
      rw [← e] at w3
      exact w2 i (by omega) w3
  · rcases h3 with ⟨v, v2⟩ | ⟨v, v2⟩
    · exact hR (j - 1) 1 y (by omega) ⟨by omega, e y hy (by omega), Or.inl ⟨rfl, v2⟩⟩
    · exact absurd v w
  · rcases h3 with ⟨v, v2⟩ | ⟨v, v2⟩
    · rw [v] at w; exact absurd w (by decide)
    · have hm := h.mem (show (tL t).length - j < (tL t).length by omega)
      obtain ⟨b1, b2, b3, b4, b5, b6, b7, b8, b9, b10⟩ := a4 _ hm
      have next0 : ∀ y : Int32, y = nI ((tL t).length - j) + 1 → ¬ (tP t ((tL t).getD ((tL t).length - j) 0) = d ∧ nI ((tL t).getD ((tL t).length - j) 0) ≠ but ∧ tM t ((tL t).getD ((tL t).length - j) 0) = l) → R 0 y := fun y hy hn => hR (j - 1) 0 y (by omega) ⟨by omega, e y hy (by omega), Or.inr ⟨rfl, fun i hi => by
        by_cases e : i < (tL t).length - j
        · exact v2 i e
        · rw [show i = (tL t).length - j by omega]; exact hn⟩⟩
      refine l_get a3 (by rw [List.length_map]; omega) (fun tg => ?_)
      rw [gD_map (by omega)] at tg ⊢
      rw [b4, nI_eq32 (tP_lt ok hm) (by omega)]
      refine ⟨Or.inr tg, tg, fun z y hy => next0 y hy (fun z' => z z'.1), fun z => l_get a3 (by rw [List.length_map]; omega) (fun tg => ?_)⟩
      rw [gD_map (by omega)] at tg ⊢
      rw [b2]
      refine ⟨Or.inr tg, tg, fun z y hy => next0 y hy (fun z' => z'.2.1 z), fun z2 => l_get a3 (by rw [List.length_map]; omega) (fun tg => ?_)⟩
      rw [gD_map (by omega)] at tg ⊢
      refine ⟨Or.inr tg, tg, b9.1, s_equals b9 hs (fun hl => ⟨fun z => absurd z (by decide), fun _ y hy => ?_⟩) (fun hl => ⟨fun _ y hy => next0 y hy (fun z' => hl z'.2.2), fun z => absurd rfl z⟩)⟩
      exact hR (j - 1) 1 y (by omega) ⟨by omega, e y hy (by omega), Or.inl ⟨rfl, _, hm, z, z2, hl⟩⟩
theorem c_empty (h : TrA D σ q t rf c) (ok : TOK n t) {d : Nat} (hd : d < 2 ^ 31) {post : Int32 → Prop} (k0 : (∃ k ∈ tL t, tP t k = d) → post 0) (k1 : (¬ ∃ k ∈ tL t, tP t k = d) → post 1) : wX5_isEmpty q (nI d) σ post := by
  have hlen := h.len
  obtain ⟨a1, a2, a3, a4⟩ := id h
  unfold wX5_isEmpty wX5_isEmpty_L4
  refine lpG2 (B := fun R x y => wX5_isEmpty_B4 post R q (nI d) x y σ) (fun j x y => j ≤ (tL t).length ∧ y = nI ((tL t).length - j) ∧ ((x = 0 ∧ ∃ k ∈ tL t, tP t k = d) ∨ (x = 1 ∧ ∀ i, i < (tL t).length - j → tP t ((tL t).getD i 0) ≠ d))) (tL t).length ⟨Nat.le_refl _, by simp [nI_0], Or.inr ⟨rfl, fun i hi => by omega⟩⟩ ?_
  rintro j x y R ⟨h1, rfl, h3⟩ hR
  unfold wX5_isEmpty_B4 wX5_isEmpty_L41 wX5_isEmpty_L42
  have e : ∀ y : Int32, y = nI ((tL t).length - j) + 1 → 1 ≤ j → y = nI ((tL t).length - (j - 1)) := fun y hy hj => by rw [hy, li_1, nI_add]; congr 1; omega
  refine ⟨a1, a3.1, l_size a3 ?_⟩
  rw [List.length_map, nI_leI (by omega) (by omega)]
  refine ⟨fun z => ⟨nr_b (by rcases h3 with w | w; exact Or.inl w.1; exact Or.inr w.1), ?_⟩, fun z => ⟨fun w y hy => ?_, fun w => ?_⟩⟩
  · rcases h3 with ⟨w, w2⟩ | ⟨w, w2⟩
    · rw [w]; exact k0 w2
    · rw [w]
      refine k1 ?_
      rintro ⟨k, hk, w3⟩
      obtain ⟨i, hi, e⟩ := mem_getD hk
      rw [← e] at w3
      exact w2 i (by omega) w3
  · rcases h3 with ⟨v, v2⟩ | ⟨v, v2⟩
    · exact hR (j - 1) 0 y (by omega) ⟨by omega, e y hy (by omega), Or.inl ⟨rfl, v2⟩⟩
    · rw [v] at w; exact absurd w (by decide)
  · rcases h3 with ⟨v, v2⟩ | ⟨v, v2⟩
    · exact absurd v w
    · have hm := h.mem (show (tL t).length - j < (tL t).length by omega)
      obtain ⟨b1, b2, b3, b4, b5, b6, b7, b8, b9, b10⟩ := a4 _ hm
      refine l_get a3 (by rw [List.length_map]; omega) (fun tg => ?_)
      rw [gD_map (by omega)] at tg ⊢
      rw [b4, nI_eq32 (tP_lt ok hm) (by omega)]
      refine ⟨Or.inr tg, tg, fun z y hy => hR (j - 1) 0 y (by omega) ⟨by omega, e y hy (by omega), Or.inl ⟨rfl, _, hm, z⟩⟩, fun z y hy => hR (j - 1) 1 y (by omega) ⟨by omega, e y hy (by omega), Or.inr ⟨rfl, fun i hi => ?_⟩⟩⟩
      by_cases e : i < (tL t).length - j
      · exact v2 i e
      · rw [show i = (tL t).length - j by omega]; exact z
theorem c_isIn (h : TrA D σ q t rf c) (ok : TOK n t) {k g : Nat} (hk : k ∈ tL t) (hg : g ∈ tL t) {post : Int32 → Prop} (k1 : lies t k g → post 1) (k0 : ¬ lies t k g → post 0) : wX5_isIn q (nI k) (nI g) σ post := by
  have lk := tL_lt ok hk
  have lg := tL_lt ok hg
  have loop : ∀ x0 : Int32, ((x0 = 0 ∧ k ≠ g) ∨ (x0 = 1 ∧ lies t k g)) → wX5_isIn_L10 post q (nI k) (nI g) x0 σ := by
    intro x0 hx0
    unfold wX5_isIn_L10 wX5_isIn_L14
    refine lpG2 (B := fun R x y => wX5_isIn_B14 post R q (nI g) x y σ) (fun j x y => ∃ p, p ∈ tL t ∧ y = nI p ∧ j = dep t p ∧ ((x = 0 ∧ p ≠ g ∧ (lies t k g ↔ lies t p g)) ∨ (x = 1 ∧ lies t k g))) (dep t k) ⟨k, hk, rfl, rfl, ?_⟩ ?_
    · rcases hx0 with z | z
      · exact Or.inl ⟨z.1, z.2, Iff.rfl⟩
      · exact Or.inr z
    rintro j x y R ⟨p, hp, rfl, rfl, h4⟩ hR
    have lp := tL_lt ok hp
    obtain ⟨m1, m2⟩ := mem_tL.mp hp
    unfold wX5_isIn_B14 wX5_isIn_L41
    rw [li_0, nI_leI (by omega) (by decide)]
    have fin : x = 1 ∨ p = 0 → nr_ .boolean x ∧ post x := by
      intro z
      rcases h4 with ⟨v, v2, v3⟩ | ⟨v, v2⟩
      · rw [v]
        rcases z with z | z
        · rw [v] at z; exact absurd z (by decide)
        · refine ⟨rfl, k0 (fun w => ?_)⟩
          rw [v3, z, lies_s ok (by omega) ok.2.1.1] at w
          rcases w with w | w
          · exact v2 (z.trans w)
          · exact w.1 rfl
      · rw [v]; exact ⟨rfl, k1 v2⟩
    refine ⟨fun z => fin (Or.inr (by omega)), fun z => ⟨fun w => ?_, fun w => ?_⟩⟩
    · rcases h4 with ⟨v, v2, v3⟩ | ⟨v, v2⟩
      · exact absurd v w
      · exact fin (Or.inl v)
    · rcases h4 with ⟨v, v2, v3⟩ | ⟨v, v2⟩
      · obtain ⟨d1, d2, d3, d4, d5, d6⟩ := dep_s ok (by omega) m1 m2
        have hpm : tP t p ∈ tL t := mem_tL.mpr ⟨d1, d2⟩
        have lpm := tL_lt ok hpm
        have e1 : lies t k g ↔ lies t (tP t p) g := by
          rw [v3, lies_s ok m1 m2]
          constructor
          · rintro (w | w)
            · exact absurd w v2
            · exact w.2
          · intro w; exact Or.inr ⟨by omega, w⟩
        refine ⟨h.1, c_findK h ok hp (fun tg => ⟨tg, ?_⟩)⟩
        rw [(h.2.2.2 p hp).2.2.2.1, nI_eq (by omega) (by omega)]
        refine ⟨fun w => ⟨h.1, c_findK h ok hp (fun tg => ⟨tg, fun y4 hy4 => ?_⟩)⟩, fun w => ⟨h.1, c_findK h ok hp (fun tg => ⟨tg, fun y4 hy4 => ?_⟩)⟩⟩
        · rw [(h.2.2.2 p hp).2.2.2.1] at hy4
          exact hR (dep t (tP t p)) 0 y4 (by omega) ⟨tP t p, hpm, hy4, rfl, Or.inl ⟨rfl, w, e1⟩⟩
        · rw [(h.2.2.2 p hp).2.2.2.1] at hy4
          refine hR (dep t (tP t p)) 1 y4 (by omega) ⟨tP t p, hpm, hy4, rfl, Or.inr ⟨rfl, e1.mpr ?_⟩⟩
          rw [w, lies_s ok (by omega) (mem_tL.mp hg).2]; exact Or.inl rfl
      · rw [v] at w; exact absurd w (by decide)
  unfold wX5_isIn
  rw [nI_eq (by omega) (by omega)]
  refine ⟨fun z => loop 0 (Or.inl ⟨rfl, z⟩), fun z => loop 1 (Or.inr ⟨rfl, ?_⟩)⟩
  rw [z, lies_s ok (mem_tL.mp hg).1 (mem_tL.mp hg).2]; exact Or.inl rfl
end
