/-! the heap's order stays; how high a directory is; a directory's nodes in order -/
section
variable {S : Prop} {W : Nat → Prop} {D n : Nat} {σ τ : Hp} {q c : Nat} {t : TT} {rf : Nat → Nat}
theorem Str.sI {r : Nat} {l : List Nat} (h : Str D σ r l) {c k x : Nat} {v : Int32} (hc : c ≠ 12) : Str D (sI_ σ c k x v) r l := by
  obtain ⟨a1, a2, a3, a4, a5, a6, a7, a8⟩ := h
  exact ⟨a1, a2, a3, by rw [afI_sI, u3_c (fun z => hc z.symm)]; exact a4, a5, a6, a7, a8⟩
theorem WF.sI (hf : WF D σ) {c k x : Nat} {v : Int32} (hc : c ≠ 12) : WF D (sI_ σ c k x v) := by
  obtain ⟨a1, a2, a3, a4, a5, a6, a7, a8⟩ := hf
  exact ⟨a1, a2, a3, a4, fun j hj => (a5 j hj).sI hc, a6, a7, a8⟩
theorem Str.sR {r : Nat} {l : List Nat} (h : Str D σ r l) {c k x v : Nat} (hc : c ≠ 12) : Str D (sR_ σ c k x v) r l := by
  obtain ⟨a1, a2, a3, a4, a5, a6, a7, a8⟩ := h
  have e : fR_ (sR_ σ c k x v) 12 0 r = fR_ σ 12 0 r := by rw [afR_sR, u3_c (fun z => hc z.symm)]
  exact ⟨a1, by rw [e]; exact a2, by rw [e]; exact a3, a4, by rw [e]; exact a5, a6, by rw [e]; exact a7, a8⟩
theorem WF.sR (hf : WF D σ) {c k x v : Nat} (hc : c < 10) : WF D (sR_ σ c k x v) := by
  obtain ⟨a1, a2, a3, a4, a5, a6, a7, a8⟩ := hf
  have e : ∀ c' k' r', 10 ≤ c' → fR_ (sR_ σ c k x v) c' k' r' = fR_ σ c' k' r' := fun c' k' r' h => by rw [afR_sR, u3_c (by omega)]
  refine ⟨a1, a2, a3, a4, fun j hj => ?_, ?_, fun r hr => ?_, fun r r' h1 h2 h3 h4 => ?_⟩
  · rw [e _ _ _ (by decide)]; exact (a5 j hj).sR (by omega)
  · rw [e _ _ _ (by decide)]; exact a6
  · rw [e _ _ _ (by decide)]; exact a7 r hr
  · rw [e _ _ _ (by decide), e _ _ _ (by decide)] at h4
    rw [e _ _ _ (by decide)]
    exact a8 r r' h1 h2 h3 h4
theorem WF.mO (hf : WF D σ) {c n : Nat} : WF D (mO_ σ c n) := by
  have k : Kp False (fun _ => False) σ (mO_ σ c n) := Kp.mO' Kp.refl
  refine hf.kpq (nx_ σ) k WS0 (fun r hr => ?_) (fun r h1 h2 h3 => ?_) (fun r h1 h2 => ?_) (fun _ => ⟨?_, Or.inl ?_⟩)
  · rw [anx_mO]
    by_cases z : r = nx_ σ
    · omega
    · rw [atg_mO, u1_k z] at hr
      have := hf.1 r hr; omega
  · rw [atg_mO, u1_k h3] at h1
    have := hf.lt h1; omega
  · rw [afR_mO, z3_r h2]
  · rw [afR_mO, z3_e, anx_mO]; omega
  · rw [afR_mO, z3_e]; omega
theorem WF.mA (hf : WF D σ) {c n : Nat} (hc : 100 ≤ c) : WF D (mA_ σ c n) := by
  have k : Kp False (fun _ => False) σ (mA_ σ c n) := Kp.mA' Kp.refl
  refine hf.kp k WS0 (fun r hr => ?_) (fun r h1 => ?_) (fun r h1 => rfl)
  · rw [anx_mA]
    by_cases z : r = nx_ σ
    · omega
    · rw [atg_mA, u1_k z] at hr
      have := hf.1 r hr; omega
  · by_cases z : r = nx_ σ
    · rw [z, atg_mA, u1_e] at h1; omega
    · rw [atg_mA, u1_k z] at h1; exact hf.lt h1
theorem Str.wI {r : Nat} {l : List Nat} (h : Str D σ r l) {x i : Nat} {v : Int32} (hx : tg_ σ x ≠ 100 ∨ (lo_ σ < x ∧ x ≤ D)) : Str D (wI_ σ x i v) r l := by
  obtain ⟨a1, a2, a3, a4, a5, a6, a7, a8⟩ := h
  refine ⟨a1, a2, a3, a4, fun j hj => ?_, a6, a7, a8⟩
  rw [aaI_wI, u2_r]
  · exact a5 j hj
  · intro z
    have z' : fR_ σ 12 0 r = x := z
    rw [z'] at a2 a7
    rcases hx with y | y
    · exact y a2
    · omega
theorem WF.wI (hf : WF D σ) {x i : Nat} {v : Int32} (hx : tg_ σ x ≠ 100 ∨ (lo_ σ < x ∧ x ≤ D)) : WF D (wI_ σ x i v) := by
  obtain ⟨a1, a2, a3, a4, a5, a6, a7, a8⟩ := hf
  exact ⟨a1, a2, a3, a4, fun j hj => (a5 j hj).wI hx, a6, a7, a8⟩
theorem lies_dep (ok : TOK n t) : ∀ (j : Nat) {p g : Nat}, p ∈ tL t → dep t p = j → lies t p g → dep t g ≤ dep t p := by
  intro j
  induction j with
  | zero =>
    intro p g hp hj hl
    obtain ⟨m1, m2⟩ := mem_tL.mp hp
    rw [lies_s ok m1 m2] at hl
    rcases hl with e | ⟨e, _⟩
    · rw [e]; exact Nat.le_refl _
    · have := (dep_s ok (by omega) m1 m2).2.2.2.1; omega
  | succ j ih =>
    intro p g hp hj hl
    obtain ⟨m1, m2⟩ := mem_tL.mp hp
    rw [lies_s ok m1 m2] at hl
    rcases hl with e | ⟨e, e2⟩
    · rw [e]; exact Nat.le_refl _
    · obtain ⟨d1, d2, d3, d4, d5, d6⟩ := dep_s ok (by omega) m1 m2
      have := ih (mem_tL.mpr ⟨d1, d2⟩) (by omega) e2
      omega
theorem c_height (h : TrA D σ q t rf c) (ok : TOK n t) {k : Nat} (hk : k ∈ tL t) (hkd : tD t k = 1) {post : Int32 → Prop} (k1 : ∀ m, m ≤ 7 → (m = 0 ∨ ∃ p ∈ tL t, tD t p = 1 ∧ lies t p k ∧ dep t p = dep t k + m) → (∀ p ∈ tL t, tD t p = 1 → lies t p k → dep t p ≤ dep t k + m) → post (nI m)) : wX5_height q (nI k) σ post := by
  have hlen := h.len
  obtain ⟨a1, a2, a3, a4⟩ := id h
  have lk := tL_lt ok hk
  have dk := dep_7 ok (mem_tL.mp hk).1 (mem_tL.mp hk).2
  unfold wX5_height
  refine ⟨a1, c_findK h ok hk (fun tg => ⟨tg, ?_⟩)⟩
  rw [(a4 k hk).2.2.1, hkd]
  refine ⟨fun _ => c_depth h ok hk ?_, fun z => absurd z (by decide)⟩
  unfold wX5_height_L24
  refine lpG2 (B := fun R x y => wX5_height_B24 post R q (nI k) x (nI (dep t k)) y σ) (fun j x y => j ≤ (tL t).length ∧ y = nI ((tL t).length - j) ∧ ∃ m, m ≤ 7 ∧ x = nI m ∧ (m = 0 ∨ ∃ p ∈ tL t, tD t p = 1 ∧ lies t p k ∧ dep t p = dep t k + m) ∧ (∀ i, i < (tL t).length - j → tD t ((tL t).getD i 0) = 1 → lies t ((tL t).getD i 0) k → dep t ((tL t).getD i 0) ≤ dep t k + m)) (tL t).length ⟨Nat.le_refl _, by simp [nI_0], 0, by decide, rfl, Or.inl rfl, fun i hi => by omega⟩ ?_
  rintro j x y R ⟨h1, rfl, m, m1, rfl, m2, m3⟩ hR
  unfold wX5_height_B24 wX5_height_L103
  have e : ∀ y : Int32, y = nI ((tL t).length - j) + 1 → 1 ≤ j → y = nI ((tL t).length - (j - 1)) := fun y hy hj => by rw [hy, li_1, nI_add]; congr 1; omega
  refine ⟨a1, a3.1, l_size a3 ?_⟩
  rw [List.length_map, nI_leI (by omega) (by omega)]
  refine ⟨fun z => k1 m m1 m2 (fun p hp hd hl => ?_), fun z => ?_⟩
  · obtain ⟨i, hi, e⟩ := mem_getD hp
    rw [← e] at hd hl ⊢
    exact m3 i (by omega) hd hl
  · have hm := h.mem (show (tL t).length - j < (tL t).length by omega)
    have lm := tL_lt ok hm
    obtain ⟨b1, b2, b3, b4, b5, b6, b7, b8, b9, b10⟩ := a4 _ hm
    have hD1 := root_D ok (mem_tL.mp hm).1 (mem_tL.mp hm).2
    have next : ∀ (y : Int32), y = nI ((tL t).length - j) + 1 → ¬ (tD t ((tL t).getD ((tL t).length - j) 0) = 1 ∧ lies t ((tL t).getD ((tL t).length - j) 0) k) → R (nI m) y := fun y hy hn => hR (j - 1) _ y (by omega) ⟨by omega, e y hy (by omega), m, m1, rfl, m2, fun i hi hd hl => by
      by_cases e : i < (tL t).length - j
      · exact m3 i e hd hl
      · rw [show i = (tL t).length - j by omega] at hd hl
        exact absurd ⟨hd, hl⟩ hn⟩
    refine l_get a3 (by rw [List.length_map]; omega) (fun tg => ?_)
    rw [gD_map (by omega)] at tg ⊢
    rw [b3, li_0, nI_eq (by omega) (by decide)]
    refine ⟨Or.inr tg, tg, fun z y hy => next y hy (fun w => by omega), fun z => l_get a3 (by rw [List.length_map]; omega) (fun tg => ?_)⟩
    rw [gD_map (by omega)] at tg ⊢
    rw [b2]
    refine ⟨Or.inr tg, tg, c_isIn h ok hm hk (fun hl => ⟨fun z => absurd z (by decide), fun _ => l_get a3 (by rw [List.length_map]; omega) (fun tg => ?_)⟩) (fun hl => ⟨fun _ y hy => next y hy (fun w => hl w.2), fun z => absurd rfl z⟩)⟩
    rw [gD_map (by omega)] at tg ⊢
    rw [b2]
    refine ⟨Or.inr tg, tg, c_depth h ok hm (fun y19 hy19 y hy => ?_)⟩
    have hle := lies_dep ok _ hm rfl hl
    have d7 := dep_7 ok (mem_tL.mp hm).1 (mem_tL.mp hm).2
    rw [pk_sub (by omega)] at hy19
    have hlt : nI m < nI (dep t ((tL t).getD ((tL t).length - j) 0) - dep t k) ↔ m < dep t ((tL t).getD ((tL t).length - j) 0) - dep t k := nI_ltI (by omega) (by omega)
    by_cases w : m < dep t ((tL t).getD ((tL t).length - j) 0) - dep t k
    · rw [if_pos (hlt.mpr w)] at hy19
      refine hR (j - 1) y19 y (by omega) ⟨by omega, e y hy (by omega), _, by omega, hy19, Or.inr ⟨_, hm, by omega, hl, by omega⟩, fun i hi hd hl' => ?_⟩
      by_cases e : i < (tL t).length - j
      · have := m3 i e hd hl'; omega
      · rw [show i = (tL t).length - j by omega]; omega
    · rw [if_neg (fun z => w (hlt.mp z))] at hy19
      refine hR (j - 1) y19 y (by omega) ⟨by omega, e y hy (by omega), m, m1, hy19, m2, fun i hi hd hl' => ?_⟩
      by_cases e : i < (tL t).length - j
      · exact m3 i e hd hl'
      · rw [show i = (tL t).length - j by omega]; omega
/-- where a node goes, looked for from behind -/
theorem insL_at {x : Nat} : ∀ (l : List Nat) (p : Nat), l.Pairwise (RL t) → p ≤ l.length → (∀ y ∈ l.drop p, lx (tI t x) (tI t y) = true) → (0 < p → lx (tI t x) (tI t (l.getD (p - 1) 0)) = false) → insL t x l = l.take p ++ x :: l.drop p
  | [], p, _, h2, _, _ => by
    have : p = 0 := by simpa using h2
    subst this; rfl
  | y :: l, 0, _, _, h3, _ => by
    unfold insL
    rw [if_pos (h3 y (by simp))]; rfl
  | y :: l, p + 1, h1, h2, h3, h4 => by
    rw [List.pairwise_cons] at h1
    have h4' := h4 (by omega)
    have hne : ¬ lx (tI t x) (tI t y) = true := by
      intro z
      rw [Nat.add_sub_cancel] at h4'
      cases p with
      | zero => rw [List.getD_cons_zero, z] at h4'; cases h4'
      | succ p =>
        rw [List.getD_cons_succ] at h4'
        have hm : l.getD p 0 ∈ l := getD_mem (by simp at h2; omega)
        have := lx_tr z (h1.1 _ hm)
        rw [this] at h4'; cases h4'
    unfold insL
    rw [if_neg hne]
    have ih := insL_at l p h1.2 (by simpa using h2) (by simpa using h3) (fun hp => by
      rw [Nat.add_sub_cancel] at h4'
      cases p with
      | zero => omega
      | succ p => rw [List.getD_cons_succ] at h4'; exact h4')
    rw [ih]; rfl
end
