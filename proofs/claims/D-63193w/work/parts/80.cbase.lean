/-! THE CLASS: what a method may change; the heap's order -/
/-- objects and arrays that were there keep kind and length; but for those in W they keep their contents (S: nodes' at, many, place may change) -/
def Kp (S : Prop) (W : Nat → Prop) (σ σ' : Hp) : Prop := lo_ σ' = lo_ σ ∧ nx_ σ ≤ nx_ σ' ∧ (∀ r, r < nx_ σ → tg_ σ' r = tg_ σ r ∧ ln_ σ' r = ln_ σ r) ∧ (∀ r, r < nx_ σ → ¬ W r → (∀ c k, (S → ¬ (c = 5 ∧ 9 ≤ k)) → fI_ σ' c k r = fI_ σ c k r) ∧ (∀ c k, fL_ σ' c k r = fL_ σ c k r) ∧ (∀ c k, fR_ σ' c k r = fR_ σ c k r) ∧ (∀ i, aI_ σ' r i = aI_ σ r i) ∧ (∀ i, aL_ σ' r i = aL_ σ r i) ∧ (∀ i, aR_ σ' r i = aR_ σ r i))
section
variable {S S' : Prop} {W W' : Nat → Prop} {σ τ υ : Hp}
theorem Kp.refl : Kp S W σ σ := ⟨rfl, Nat.le_refl _, fun _ _ => ⟨rfl, rfl⟩, fun _ _ _ => ⟨fun _ _ _ => rfl, fun _ _ => rfl, fun _ _ => rfl, fun _ => rfl, fun _ => rfl, fun _ => rfl⟩⟩
theorem Kp.trans (h : Kp S W σ τ) (g : Kp S W' τ υ) (hw : ∀ r, r < nx_ σ → W' r → W r) : Kp S W σ υ := by
  obtain ⟨a1, a2, a3, a4⟩ := h
  obtain ⟨b1, b2, b3, b4⟩ := g
  refine ⟨b1.trans a1, Nat.le_trans a2 b2, fun r hr => ⟨(b3 r (by omega)).1.trans (a3 r hr).1, (b3 r (by omega)).2.trans (a3 r hr).2⟩, fun r hr hW => ?_⟩
  obtain ⟨c1, c2, c3, c4, c5, c6⟩ := a4 r hr hW
  obtain ⟨d1, d2, d3, d4, d5, d6⟩ := b4 r (by omega) (fun z => hW (hw r hr z))
  exact ⟨fun c k z => (d1 c k z).trans (c1 c k z), fun c k => (d2 c k).trans (c2 c k), fun c k => (d3 c k).trans (c3 c k), fun i => (d4 i).trans (c4 i), fun i => (d5 i).trans (c5 i), fun i => (d6 i).trans (c6 i)⟩
theorem Kp.mono (h : Kp S W σ τ) (hs : S → S') (hw : ∀ r, r < nx_ σ → W r → W' r) : Kp S' W' σ τ :=
  ⟨h.1, h.2.1, h.2.2.1, fun r hr z => by
    obtain ⟨c1, c2, c3, c4, c5, c6⟩ := h.2.2.2 r hr (fun y => z (hw r hr y))
    exact ⟨fun c k y => c1 c k (fun s => y (hs s)), c2, c3, c4, c5, c6⟩⟩
theorem Kp.t (h : Kp S W σ τ) {r : Nat} (hr : r < nx_ σ) : tg_ τ r = tg_ σ r := (h.2.2.1 r hr).1
theorem Kp.n (h : Kp S W σ τ) {r : Nat} (hr : r < nx_ σ) : ln_ τ r = ln_ σ r := (h.2.2.1 r hr).2
theorem Kp.i (h : Kp S W σ τ) {r c k : Nat} (hr : r < nx_ σ) (hw : ¬ W r) (hk : c ≠ 5 ∨ k < 9) : fI_ τ c k r = fI_ σ c k r := (h.2.2.2 r hr hw).1 c k (fun _ z => by omega)
theorem Kp.l (h : Kp S W σ τ) {r c k : Nat} (hr : r < nx_ σ) (hw : ¬ W r) : fL_ τ c k r = fL_ σ c k r := (h.2.2.2 r hr hw).2.1 c k
theorem Kp.r (h : Kp S W σ τ) {r c k : Nat} (hr : r < nx_ σ) (hw : ¬ W r) : fR_ τ c k r = fR_ σ c k r := (h.2.2.2 r hr hw).2.2.1 c k
theorem Kp.a (h : Kp S W σ τ) {r i : Nat} (hr : r < nx_ σ) (hw : ¬ W r) : aI_ τ r i = aI_ σ r i := (h.2.2.2 r hr hw).2.2.2.1 i
theorem Kp.aR (h : Kp S W σ τ) {r i : Nat} (hr : r < nx_ σ) (hw : ¬ W r) : aR_ τ r i = aR_ σ r i := (h.2.2.2 r hr hw).2.2.2.2.2 i
theorem Kp.sI' (h : Kp S W σ τ) {c k r : Nat} {v : Int32} (hr : W r ∨ nx_ σ ≤ r ∨ (S ∧ c = 5 ∧ 9 ≤ k)) : Kp S W σ (sI_ τ c k r v) := by
  refine ⟨h.1, h.2.1, h.2.2.1, fun q hq hw => ?_⟩
  obtain ⟨c1, c2, c3, c4, c5, c6⟩ := h.2.2.2 q hq hw
  refine ⟨fun c' k' z => ?_, c2, c3, c4, c5, c6⟩
  rw [afI_sI]
  unfold u3_
  rw [if_neg]
  · exact c1 c' k' z
  · rintro ⟨rfl, rfl, rfl⟩
    rcases hr with y | y | y
    · exact hw y
    · omega
    · exact z y.1 y.2
theorem Kp.sL' (h : Kp S W σ τ) {c k r : Nat} {v : Int64} (hr : W r ∨ nx_ σ ≤ r) : Kp S W σ (sL_ τ c k r v) := by
  refine ⟨h.1, h.2.1, h.2.2.1, fun q hq hw => ?_⟩
  obtain ⟨c1, c2, c3, c4, c5, c6⟩ := h.2.2.2 q hq hw
  refine ⟨c1, fun c' k' => ?_, c3, c4, c5, c6⟩
  rw [afL_sL, u3_r (by rintro rfl; rcases hr with y | y; exact hw y; omega)]
  exact c2 c' k'
theorem Kp.sR' (h : Kp S W σ τ) {c k r v : Nat} (hr : W r ∨ nx_ σ ≤ r) : Kp S W σ (sR_ τ c k r v) := by
  refine ⟨h.1, h.2.1, h.2.2.1, fun q hq hw => ?_⟩
  obtain ⟨c1, c2, c3, c4, c5, c6⟩ := h.2.2.2 q hq hw
  refine ⟨c1, c2, fun c' k' => ?_, c4, c5, c6⟩
  rw [afR_sR, u3_r (by rintro rfl; rcases hr with y | y; exact hw y; omega)]
  exact c3 c' k'
theorem Kp.wI' (h : Kp S W σ τ) {r i : Nat} {v : Int32} (hr : W r ∨ nx_ σ ≤ r) : Kp S W σ (wI_ τ r i v) := by
  refine ⟨h.1, h.2.1, h.2.2.1, fun q hq hw => ?_⟩
  obtain ⟨c1, c2, c3, c4, c5, c6⟩ := h.2.2.2 q hq hw
  refine ⟨c1, c2, c3, fun j => ?_, c5, c6⟩
  rw [aaI_wI, u2_r (by rintro rfl; rcases hr with y | y; exact hw y; omega)]
  exact c4 j
theorem Kp.wR' (h : Kp S W σ τ) {r i v : Nat} (hr : W r ∨ nx_ σ ≤ r) : Kp S W σ (wR_ τ r i v) := by
  refine ⟨h.1, h.2.1, h.2.2.1, fun q hq hw => ?_⟩
  obtain ⟨c1, c2, c3, c4, c5, c6⟩ := h.2.2.2 q hq hw
  refine ⟨c1, c2, c3, c4, c5, fun j => ?_⟩
  rw [aaR_wR, u2_r (by rintro rfl; rcases hr with y | y; exact hw y; omega)]
  exact c6 j
theorem Kp.cI' (h : Kp S W σ τ) {a b d e n : Nat} (hr : W d ∨ nx_ σ ≤ d) : Kp S W σ (cI_ τ a b d e n) := by
  refine ⟨h.1, h.2.1, h.2.2.1, fun q hq hw => ?_⟩
  obtain ⟨c1, c2, c3, c4, c5, c6⟩ := h.2.2.2 q hq hw
  refine ⟨c1, c2, c3, fun j => ?_, c5, c6⟩
  rw [aaI_cI, cp_r (by rintro rfl; rcases hr with y | y; exact hw y; omega)]
  exact c4 j
theorem Kp.cR' (h : Kp S W σ τ) {a b d e n : Nat} (hr : W d ∨ nx_ σ ≤ d) : Kp S W σ (cR_ τ a b d e n) := by
  refine ⟨h.1, h.2.1, h.2.2.1, fun q hq hw => ?_⟩
  obtain ⟨c1, c2, c3, c4, c5, c6⟩ := h.2.2.2 q hq hw
  refine ⟨c1, c2, c3, c4, c5, fun j => ?_⟩
  rw [aaR_cR, cp_r (by rintro rfl; rcases hr with y | y; exact hw y; omega)]
  exact c6 j
theorem Kp.mO' (h : Kp S W σ τ) {c n : Nat} : Kp S W σ (mO_ τ c n) := by
  obtain ⟨h1, h2, h3, h4⟩ := h
  refine ⟨h1, by rw [anx_mO]; omega, fun r hr => ?_, fun r hr hw => ?_⟩
  · rw [atg_mO, aln_mO, u1_k (by omega)]; exact h3 r hr
  · obtain ⟨c1, c2, c3, c4, c5, c6⟩ := h4 r hr hw
    exact ⟨fun c' k' z => by rw [afI_mO, z3_r (by omega)]; exact c1 c' k' z, fun c' k' => by rw [afL_mO, z3_r (by omega)]; exact c2 c' k', fun c' k' => by rw [afR_mO, z3_r (by omega)]; exact c3 c' k', c4, c5, c6⟩
theorem Kp.mA' (h : Kp S W σ τ) {t n : Nat} : Kp S W σ (mA_ τ t n) := by
  obtain ⟨h1, h2, h3, h4⟩ := h
  refine ⟨h1, by rw [anx_mA]; omega, fun r hr => ?_, fun r hr hw => ?_⟩
  · rw [atg_mA, aln_mA, u1_k (by omega), u1_k (by omega)]; exact h3 r hr
  · obtain ⟨c1, c2, c3, c4, c5, c6⟩ := h4 r hr hw
    exact ⟨c1, c2, c3, fun i => by rw [aaI_mA, z2_r (by omega)]; exact c4 i, fun i => by rw [aaL_mA, z2_r (by omega)]; exact c5 i, fun i => by rw [aaR_mA, z2_r (by omega)]; exact c6 i⟩
theorem Kp.bu' (h : Kp S W σ τ) {k n : Nat} : Kp S W σ (bu_ τ k n) := h
end
/-- text constants -/
def kstL (j : Nat) : List Nat := if j = 0 ∨ j = 3 ∨ j = 5 then [] else if j = 1 ∨ j = 4 then [77, 65, 82, 75] else if j = 2 ∨ j = 7 then [67, 68, 48, 48, 49] else [46, 59, 49]
/-- a text at r; its bytes lie at the law's start or behind D -/
def Str (D : Nat) (σ : Hp) (r : Nat) (l : List Nat) : Prop := tg_ σ r = 13 ∧ tg_ σ (fR_ σ 12 0 r) = 100 ∧ ln_ σ (fR_ σ 12 0 r) = l.length ∧ fI_ σ 12 1 r = 0 ∧ (∀ i, i < l.length → aI_ σ (fR_ σ 12 0 r) i = sb_b (l.getD i 0)) ∧ (∀ c ∈ l, c < 256) ∧ (fR_ σ 12 0 r ≤ lo_ σ ∨ D < fR_ σ 12 0 r) ∧ l.length < 1000
/-- the heap's order: what is there lies below nx; constants; no two lists share an array -/
def WF (D : Nat) (σ : Hp) : Prop := (∀ r, tg_ σ r ≠ 0 → r < nx_ σ) ∧ lo_ σ < nx_ σ ∧ tg_ σ 0 = 0 ∧ lo_ σ < D ∧ (∀ j, j < 9 → Str D σ (fR_ σ 101 j 0) (kstL j)) ∧ (tg_ σ (fR_ σ 100 1 0) = 104 ∧ ln_ σ (fR_ σ 100 1 0) = 0 ∧ fR_ σ 100 1 0 ≤ lo_ σ) ∧ (∀ r, tg_ σ r = 11 → fR_ σ 10 1 r < nx_ σ) ∧ (∀ r r', tg_ σ r = 11 → tg_ σ r' = 11 → r ≠ r' → fR_ σ 10 1 r = fR_ σ 10 1 r' → fR_ σ 10 1 r ≤ lo_ σ)
/-- what may be written leaves texts alone -/
def WS (D : Nat) (σ : Hp) (W : Nat → Prop) : Prop := ∀ r, W r → tg_ σ r ≠ 13 ∧ (tg_ σ r = 100 → lo_ σ < r ∧ r ≤ D) ∧ r ≠ 0
section
variable {S : Prop} {W : Nat → Prop} {D : Nat} {σ τ : Hp}
theorem WF.lt (h : WF D σ) {r t : Nat} (ht : tg_ σ r = t + 1) : r < nx_ σ := h.1 r (by omega)
theorem Str.kp {r : Nat} {l : List Nat} (hs : Str D σ r l) (hf : WF D σ) (k : Kp S W σ τ) (hw : WS D σ W) : Str D τ r l := by
  obtain ⟨a1, a2, a3, a4, a5, a6, a7, a8⟩ := hs
  have hr := hf.lt a1
  have hv := hf.lt a2
  have wr : ¬ W r := fun z => (hw r z).1 a1
  have wv : ¬ W (fR_ σ 12 0 r) := fun z => by have := (hw _ z).2.1 a2; omega
  have e : fR_ τ 12 0 r = fR_ σ 12 0 r := k.r hr wr
  refine ⟨by rw [k.t hr]; exact a1, by rw [e, k.t hv]; exact a2, by rw [e, k.n hv]; exact a3, by rw [k.i hr wr (by omega)]; exact a4, fun i hi => by rw [e, k.a hv wv]; exact a5 i hi, a6, by rw [e, k.1]; exact a7, a8⟩
/-- the order stays: one list q may have got an array that is new -/
theorem WF.kpq (q : Nat) (hf : WF D σ) (k : Kp S W σ τ) (hw : WS D σ W) (h1 : ∀ r, tg_ τ r ≠ 0 → r < nx_ τ) (h2 : ∀ r, tg_ τ r = 11 → nx_ σ ≤ r → r ≠ q → fR_ τ 10 1 r ≤ lo_ τ) (h3 : ∀ r, tg_ σ r = 11 → r ≠ q → fR_ τ 10 1 r = fR_ σ 10 1 r)
    (h4 : tg_ τ q = 11 → fR_ τ 10 1 q < nx_ τ ∧ (fR_ τ 10 1 q ≤ lo_ τ ∨ nx_ σ ≤ fR_ τ 10 1 q ∨ (tg_ σ q = 11 ∧ fR_ τ 10 1 q = fR_ σ 10 1 q))) : WF D τ := by
  obtain ⟨a1, a2, a3, a4, a5, a6, a7, a8⟩ := id hf
  obtain ⟨k1, k2, k3, k4⟩ := id k
  have w0 : ¬ W 0 := fun z => (hw 0 z).2.2 rfl
  have n0 : 0 < nx_ σ := by omega
  have c0 : ∀ c k', fR_ τ c k' 0 = fR_ σ c k' 0 := fun c k' => k.r n0 w0
  have old : ∀ r, tg_ τ r = 11 → r < nx_ σ → tg_ σ r = 11 := fun r z y => by rw [← k.t y]; exact z
  have lt : ∀ r, tg_ τ r = 11 → r ≠ q → fR_ τ 10 1 r < nx_ σ := by
    intro r hr hq
    by_cases z : nx_ σ ≤ r
    · have := h2 r hr z hq; omega
    · have o := old r hr (by omega)
      rw [h3 r o hq]
      exact a7 r o
  have pair : ∀ r r', tg_ τ r = 11 → tg_ τ r' = 11 → r ≠ r' → r ≠ q → r' ≠ q → fR_ τ 10 1 r = fR_ τ 10 1 r' → fR_ τ 10 1 r ≤ lo_ τ := by
    intro r r' hr hr' hne hq hq' e
    by_cases z : nx_ σ ≤ r
    · exact h2 r hr z hq
    · by_cases z' : nx_ σ ≤ r'
      · rw [e]; exact h2 r' hr' z' hq'
      · have o1 := old r hr (by omega)
        have o2 := old r' hr' (by omega)
        rw [h3 r o1 hq, h3 r' o2 hq'] at e
        rw [h3 r o1 hq, k1]
        exact a8 r r' o1 o2 hne e
  have pq : ∀ r, tg_ τ q = 11 → tg_ τ r = 11 → r ≠ q → fR_ τ 10 1 q = fR_ τ 10 1 r → fR_ τ 10 1 q ≤ lo_ τ := by
    intro r hq hr hne e
    obtain ⟨b1, b2⟩ := h4 hq
    rcases b2 with b | b | ⟨b, b'⟩
    · exact b
    · have := lt r hr hne; omega
    · by_cases z : nx_ σ ≤ r
      · rw [e]; exact h2 r hr z hne
      · have o := old r hr (by omega)
        rw [b', h3 r o hne] at e
        rw [b', k1]
        exact a8 q r b o (fun y => hne y.symm) e
  refine ⟨h1, by omega, by rw [k.t n0]; exact a3, by rw [k1]; exact a4, fun j hj => by rw [c0]; exact (a5 j hj).kp hf k hw, ?_, fun r hr => ?_, fun r r' hr hr' hne e => ?_⟩
  · rw [c0]
    have he : fR_ σ 100 1 0 < nx_ σ := by omega
    exact ⟨by rw [k.t he]; exact a6.1, by rw [k.n he]; exact a6.2.1, by rw [k1]; exact a6.2.2⟩
  · by_cases z : r = q
    · rw [z]; rw [z] at hr; exact (h4 hr).1
    · have := lt r hr z; omega
  · by_cases z : r = q
    · subst z; exact pq r' hr hr' (fun y => hne y.symm) e
    · by_cases z' : r' = q
      · subst z'
        rw [e]; exact pq r hr' hr hne e.symm
      · exact pair r r' hr hr' hne z z' e
theorem WF.kp (hf : WF D σ) (k : Kp S W σ τ) (hw : WS D σ W) (h1 : ∀ r, tg_ τ r ≠ 0 → r < nx_ τ) (h2 : ∀ r, tg_ τ r = 11 → r < nx_ σ) (h3 : ∀ r, tg_ σ r = 11 → fR_ τ 10 1 r = fR_ σ 10 1 r) : WF D τ :=
  hf.kpq 0 k hw h1 (fun r a b _ => by have := h2 r a; omega) (fun r a _ => h3 r a) (fun z => by have e := k.t (show 0 < nx_ σ by have := hf.2.1; omega); rw [e, hf.2.2.1] at z; cases z)
theorem WS0 : WS D σ (fun _ => False) := fun _ h => h.elim
end
/-! lists -/
def capN (c : Nat) : Nat := if c = 0 then 10 else if c = 10 then 15 else if c = 15 then 22 else 33
def capOK (c : Nat) : Prop := c = 0 ∨ c = 10 ∨ c = 15 ∨ c = 22 ∨ c = 33
/-- a list at r of capacity c; its elements have tag tk -/
def Lst (σ : Hp) (tk r : Nat) (R : List Nat) (c : Nat) : Prop := tg_ σ r = 11 ∧ lo_ σ < r ∧ tg_ σ (fR_ σ 10 1 r) = 104 ∧ ln_ σ (fR_ σ 10 1 r) = c ∧ capOK c ∧ fI_ σ 10 2 r = nI R.length ∧ R.length ≤ c ∧ (∀ i, i < R.length → aR_ σ (fR_ σ 10 1 r) i = R.getD i 0) ∧ ((lo_ σ < fR_ σ 10 1 r ∧ c ≠ 0) ∨ (c = 0 ∧ fR_ σ 10 1 r = fR_ σ 100 1 0)) ∧ (∀ x ∈ R, tg_ σ x = tk)
/-- what writing to a list may change -/
def WL (σ : Hp) (r : Nat) : Nat → Prop := fun q => q = r ∨ (q = fR_ σ 10 1 r ∧ lo_ σ < q)
section
variable {S : Prop} {W : Nat → Prop} {D : Nat} {σ τ : Hp} {tk r : Nat} {R : List Nat} {c : Nat}
theorem WL_WS (h : Lst σ tk r R c) (hf : WF D σ) : WS D σ (WL σ r) := by
  intro q hq
  rcases hq with e | ⟨e, e2⟩
  · subst e
    refine ⟨by rw [h.1]; decide, fun z => by rw [h.1] at z; omega, fun z => ?_⟩
    have := h.1
    rw [z, hf.2.2.1] at this; cases this
  · subst e
    refine ⟨by rw [h.2.2.1]; decide, fun z => by rw [h.2.2.1] at z; omega, fun z => by omega⟩
theorem Lst.kp (h : Lst σ tk r R c) (hf : WF D σ) (k : Kp S W σ τ) (hr : ¬ W r) (he : ¬ W (fR_ σ 10 1 r)) (h0 : ¬ W 0) (hR : ∀ x ∈ R, x < nx_ σ) : Lst τ tk r R c := by
  obtain ⟨a1, a2, a3, a4, a5, a6, a7, a8, a9, a10⟩ := h
  have lr := hf.lt a1
  have le := hf.lt a3
  have n0 : 0 < nx_ σ := by have := hf.2.1; omega
  have e : fR_ τ 10 1 r = fR_ σ 10 1 r := k.r lr hr
  exact ⟨by rw [k.t lr]; exact a1, by rw [k.1]; exact a2, by rw [e, k.t le]; exact a3, by rw [e, k.n le]; exact a4, a5, by rw [k.i lr hr (by omega)]; exact a6, a7, fun i hi => by rw [e, k.aR le he]; exact a8 i hi, by rw [e, k.1, k.r n0 h0]; exact a9, fun x hx => by rw [k.t (hR x hx)]; exact a10 x hx⟩
theorem Lst.lt (h : Lst σ tk r R c) (hf : WF D σ) (ht : tk ≠ 0) : ∀ x ∈ R, x < nx_ σ := fun x hx => hf.1 x (by rw [h.2.2.2.2.2.2.2.2.2 x hx]; exact ht)
theorem Lst.len (h : Lst σ tk r R c) : R.length ≤ 33 := by
  have h1 := h.2.2.2.2.2.2.1
  have h2 := h.2.2.2.2.1
  unfold capOK at h2
  omega
theorem l_size (h : Lst σ tk r R c) {post : Int32 → Prop} (k : post (nI R.length)) : wJ2_size r σ post := by
  unfold wJ2_size
  rw [h.2.2.2.2.2.1]
  exact ⟨h.1, k⟩
theorem l_ci {i n : Nat} (h : i < n) (hn : n < 2 ^ 31) {post : Int32 → Prop} (k : post (nI i)) : wJ12_checkIndex (nI i) (nI n) σ post := by
  unfold wJ12_checkIndex wJ10_checkIndex
  rw [nI_ltI (by omega) hn]
  exact ⟨fun z => absurd z (nI_pos (by omega)), fun _ => ⟨fun _ => k, fun z => absurd h z⟩⟩
theorem l_get (h : Lst σ tk r R c) {i : Nat} (hi : i < R.length) {post : Nat → Prop} (k : tg_ σ (R.getD i 0) = tk → post (R.getD i 0)) : wJ2_get r (nI i) σ post := by
  have hl := h.len
  obtain ⟨a1, a2, a3, a4, a5, a6, a7, a8, a9, a10⟩ := h
  unfold wJ2_get wJ2_elementData
  rw [a6]
  refine ⟨a1, l_ci hi (by omega) ⟨a1, a3, ?_, ?_⟩⟩
  · rw [a4]; exact (vin_ (by omega)).mpr (by omega)
  · rw [nI_clamp (by omega), a8 i hi]
    exact k (a10 _ (getD_mem hi))
theorem l_set (h : Lst σ tk r R c) (hf : WF D σ) {i x : Nat} (hi : i < R.length) (hx : tg_ σ x = tk) (htk : tk = 6 ∨ tk = 10) {post : Nat → Hp → Prop} (k : ∀ y σ', WF D σ' → Kp False (WL σ r) σ σ' → Lst σ' tk r (R.set i x) c → fR_ σ' 10 1 r = fR_ σ 10 1 r → nx_ σ' = nx_ σ → bc_ σ' = bc_ σ → bs_ σ' = bs_ σ → post y σ') : wJ2_set r (nI i) x σ post := by
  have hl := h.len
  have hws := WL_WS h hf
  obtain ⟨a1, a2, a3, a4, a5, a6, a7, a8, a9, a10⟩ := id h
  have hlo : lo_ σ < fR_ σ 10 1 r := by
    rcases a9 with z | z
    · exact z.1
    · omega
  unfold wJ2_set wJ2_elementData
  rw [a6]
  refine ⟨a1, l_ci hi (by omega) ⟨a1, a3, ?_, a3, hlo, ?_, Or.inr ⟨tk - 1, by omega, by omega, fun z => by omega⟩, fun σ8 e8 => ?_⟩⟩
  · rw [a4]; exact (vin_ (by omega)).mpr (by omega)
  · rw [a4]; exact (vin_ (by omega)).mpr (by omega)
  · rw [nI_clamp (by omega)] at e8
    have kp : Kp False (WL σ r) σ σ8 := by rw [e8]; exact Kp.refl.wR' (Or.inl (Or.inr ⟨rfl, hlo⟩))
    have e1 : fR_ σ8 = fR_ σ := by rw [e8]; rfl
    have e2 : tg_ σ8 = tg_ σ := by rw [e8]; rfl
    refine k _ σ8 (hf.kp kp hws (by rw [e8]; exact hf.1) (by rw [e2]; exact fun r' z => hf.lt z) (fun r' _ => by rw [e1])) kp ⟨by rw [e2]; exact a1, by rw [e8]; exact a2, by rw [e1, e2]; exact a3, by rw [e1, e8]; exact a4, a5, by rw [e8, afI_wR, List.length_set]; exact a6, by rw [List.length_set]; exact a7, fun j hj => ?_, by rw [e1, e8]; exact a9, fun y hy => ?_⟩ (by rw [e1]) (by rw [e8]; rfl) (by rw [e8]; rfl) (by rw [e8]; rfl)
    · rw [List.length_set] at hj
      rw [e1, e8, aaR_wR]
      by_cases e : j = i
      · subst e
        rw [u2_e, List.getD_eq_getElem?_getD, List.getElem?_set_self hi]; rfl
      · rw [u2_i e, a8 j hj, List.getD_eq_getElem?_getD, List.getD_eq_getElem?_getD, List.getElem?_set_ne (fun z => e z.symm)]
    · rw [e2]
      rcases List.mem_or_eq_of_mem_set hy with z | z
      · exact a10 y z
      · rw [z]; exact hx
end
