/-! THE CLASS: its whole state -/
/-- the nodes that two readers made differ -/
def RDj (σ : Hp) (r r' : Nat) : Prop := ∀ i j, i < 31 → j < 31 → aR_ σ (r + 2) i = aR_ σ (r' + 2) j → aR_ σ (r + 2) i = 0
def CR (D : Nat) (σ : Hp) (x md : Nat) (O : List FT) : Prop := (∃ c, RdS D σ (x + 18) md O c) ∧ (∃ m F c, RdS D σ (x + 22) m F c) ∧ (∃ m F c, RdS D σ (x + 26) m F c) ∧ RDj σ (x + 18) (x + 22) ∧ RDj σ (x + 18) (x + 26) ∧ RDj σ (x + 22) (x + 26)
def CT (D : Nat) (σ : Hp) (x q : Nat) (t : TT) : Prop := ∃ rf c, TrA D σ q t rf c ∧ TZ D x σ q t rf
def CB (D : Nat) (σ : Hp) (x : Nat) : Prop := (tg_ σ (x + 2) = 3 ∧ fR_ σ 2 2 (x + 2) = x + 1 ∧ fR_ σ 2 4 (x + 2) = x + 3 ∧ fR_ σ 2 5 (x + 2) = x + 4) ∧ (∃ f, PgA D σ (x + 4) (x + 5) f) ∧ (∃ R c, TbA D σ x R c)
def CX (σ : Hp) (x md od q la : Nat) : Prop := tg_ σ x = 1 ∧ fR_ σ 0 0 x = x + 1 ∧ fR_ σ 0 1 x = x + 2 ∧ fR_ σ 0 2 x = md ∧ fR_ σ 0 3 x = od ∧ fR_ σ 0 4 x = q ∧ fR_ σ 0 5 x = x + 18 ∧ fR_ σ 0 6 x = x + 22 ∧ fR_ σ 0 7 x = x + 26 ∧ fR_ σ 0 8 x = x + 30 ∧ fI_ σ 0 9 x = nI la
def sBS (S : AS) : BS := (sB S, sSt S, sLf S, sWr S, sLo S)
/-- what is fixed -/
def CZ (D : Nat) (σ : Hp) (x md od n : Nat) : Prop := (x + 30 ≤ D ∧ lo_ σ < x ∧ D < nx_ σ) ∧ ((md = x + 10 ∧ od = x + 14) ∨ (md = x + 14 ∧ od = x + 10)) ∧ (tg_ σ (x + 30) = 102 ∧ ln_ σ (x + 30) = n + 1)
/-- the class at x holds the state S -/
def CJ (D : Nat) (σ : Hp) (x md od q : Nat) (S : AS) : Prop := WF D σ ∧ CZ D σ x md od (sN S) ∧ CX σ x md od q (sLa S) ∧ CB D σ x ∧ PwA σ (x + 1) (sBS S) ∧ MdA D σ md (sN S) (sB S) (sSt S) (sDf S) ∧ (∃ Bo Sto Dfo, MdA D σ od (sN S) Bo Sto Dfo) ∧ CT D σ x q (sT S) ∧ CR D σ x md (sO S)
def CI (D : Nat) (σ : Hp) (x : Nat) (S : AS) : Prop := ∃ md od q, CJ D σ x md od q S
/-- what stands between the class and D stays -/
def Cf (D x : Nat) (σ σ' : Hp) : Prop := Kp True (fun z => z < x + 31 ∨ D < z) σ σ'
/-- writes to fixed things alone -/
def Sx (D : Nat) (σ : Hp) (W : Nat → Prop) : Prop := ∀ z, W z → z ≠ 0 ∧ tg_ σ z ≠ 6 ∧ tg_ σ z ≠ 10 ∧ tg_ σ z ≠ 104 ∧ tg_ σ z ≠ 5 ∧ tg_ σ z ≠ 11 ∧ tg_ σ z ≠ 13 ∧ (tg_ σ z = 100 → lo_ σ < z ∧ z ≤ D)
section
variable {S' : Prop} {W : Nat → Prop} {D n : Nat} {σ τ υ : Hp} {x md od q la r r' m c c' : Nat} {t : TT} {O F F' : List FT} {S : AS}
theorem Cf.refl : Cf D x σ σ := Kp.refl
theorem Cf.trans (h : Cf D x σ τ) (g : Cf D x τ υ) : Cf D x σ υ := Kp.trans h g (fun _ _ z => z)
theorem Kp.cf (h : Kp S' W σ τ) (hw : ∀ z, W z → z < x + 31 ∨ D < z) : Cf D x σ τ := h.mono (fun _ => trivial) (fun z _ hz => hw z hz)
theorem Cf.bu {a b : Nat} (h : Cf D x σ τ) : Cf D x σ (bu_ τ a b) := h
theorem Sx.ws (h : Sx D σ W) : WS D σ W := fun z hz => ⟨(h z hz).2.2.2.2.2.2.1, (h z hz).2.2.2.2.2.2.2, (h z hz).1⟩
theorem RDj.symm (h : RDj σ r r') : RDj σ r' r := fun i j hi hj e => by rw [e]; exact h j i hj hi e.symm
theorem CX.kp (h : CX σ x md od q la) (hf : WF D σ) (k : Kp S' W σ τ) (h0 : ¬ W x) : CX τ x md od q la := by
  obtain ⟨a1, a2, a3, a4, a5, a6, a7, a8, a9, a10, a11⟩ := h
  have l := hf.lt a1
  exact ⟨by rw [k.t l]; exact a1, by rw [k.r l h0]; exact a2, by rw [k.r l h0]; exact a3, by rw [k.r l h0]; exact a4, by rw [k.r l h0]; exact a5, by rw [k.r l h0]; exact a6, by rw [k.r l h0]; exact a7, by rw [k.r l h0]; exact a8, by rw [k.r l h0]; exact a9, by rw [k.r l h0]; exact a10, by rw [k.i l h0 (by omega)]; exact a11⟩
theorem CZ.kp (h : CZ D σ x md od n) (hf : WF D σ) (k : Kp S' W σ τ) : CZ D τ x md od n := by
  obtain ⟨⟨a1, a2, a3⟩, b, c1, c2⟩ := h
  have l := hf.lt c1
  exact ⟨⟨a1, by rw [k.1]; exact a2, by have := k.2.1; omega⟩, b, by rw [k.t l]; exact c1, by rw [k.n l]; exact c2⟩
theorem CB.kp (h : CB D σ x) (hf : WF D σ) (k : Kp S' W σ τ) (h0 : ¬ W 0) (hw : ∀ z, x + 2 ≤ z → z ≤ x + 5 → ¬ W z) (ha : ¬ W (fR_ σ 10 1 (x + 3))) : CB D τ x := by
  obtain ⟨⟨a1, a2, a3, a4⟩, ⟨f, hp⟩, R, c, ht⟩ := h
  have l := hf.lt a1
  have w := hw (x + 2) (by omega) (by omega)
  exact ⟨⟨by rw [k.t l]; exact a1, by rw [k.r l w]; exact a2, by rw [k.r l w]; exact a3, by rw [k.r l w]; exact a4⟩, ⟨f, hp.kp hf k (hw _ (by omega) (by omega)) (hw _ (by omega) (by omega))⟩, R, c, ht.kp hf k (hw _ (by omega) (by omega)) ha h0⟩
theorem CB.sx (h : CB D σ x) (hf : WF D σ) (k : Kp S' W σ τ) (hs : Sx D σ W) (hw : ∀ z, x + 2 ≤ z → z ≤ x + 5 → ¬ W z) : CB D τ x := by
  obtain ⟨_, _, R, c, ht⟩ := id h
  exact h.kp hf k (fun z => (hs 0 z).1 rfl) hw (fun z => (hs _ z).2.2.2.1 ht.1.2.2.1)
theorem CT.kp (h : CT D σ x q t) (hf : WF D σ) (k : Kp S' W σ τ) (hw : WS D σ W) (h1 : ¬ W q) (h2 : ¬ W (fR_ σ 4 0 q)) (h3 : ¬ W (fR_ σ 10 1 (fR_ σ 4 0 q))) (h4 : ∀ z, tg_ σ z = 6 → ¬ W z) : CT D τ x q t := by
  obtain ⟨rf, c, ht, hz⟩ := h
  exact ⟨rf, c, ht.kp hf k hw h1 h2 h3 (fun k hk => h4 _ (ht.2.2.2 k hk).1), hz.kp hf ht k h1 h2⟩
theorem CT.sx (h : CT D σ x q t) (hf : WF D σ) (k : Kp S' W σ τ) (hs : Sx D σ W) : CT D τ x q t := by
  obtain ⟨rf, c, ht, hz⟩ := id h
  exact h.kp hf k hs.ws (fun z => (hs _ z).2.2.2.2.1 ht.1) (fun z => (hs _ z).2.2.2.2.2.1 ht.2.2.1.1) (fun z => (hs _ z).2.2.2.1 ht.2.2.1.2.2.1) (fun z hz y => (hs z y).2.1 hz)
/-- readers stay -/
theorem RdS.ow (h : RdS D σ r m F c) (hf : WF D σ) (k : Kp S' W σ τ) (h0 : ¬ W 0) (hr : ∀ z, r ≤ z → z ≤ r + 3 → ¬ W z) (h10 : ∀ z, tg_ σ z = 10 → ¬ W z) (hl : ∀ z, W z → tg_ σ z = 104 → ∃ l, tg_ σ l = 11 ∧ fR_ σ 10 1 l = z ∧ lo_ σ < z ∧ l ≠ r + 1) : RdS D τ r m F c := by
  have hls := h.2.2.2.1
  refine h.kp hf k h0 hr (fun z => ?_) (fun i hi => h10 _ (h.2.2.2.2.2.1 i hi).1)
  obtain ⟨l, e1, e2, e3, e4⟩ := hl _ z hls.2.2.1
  have := hf.2.2.2.2.2.2.2 l (r + 1) e1 hls.1 e4 e2
  rw [e2] at this
  omega
theorem RDj.kp (h : RDj σ r r') (k : Kp S' W σ τ) (l1 : r + 2 < nx_ σ) (l2 : r' + 2 < nx_ σ) (w1 : ¬ W (r + 2)) (w2 : ¬ W (r' + 2)) : RDj τ r r' := fun i j hi hj e => by
  rw [k.aR l1 w1, k.aR l2 w2] at e
  rw [k.aR l1 w1]
  exact h i j hi hj e
theorem CR.ow (h : CR D σ x md O) (hf : WF D σ) (k : Kp S' W σ τ) (h0 : ¬ W 0) (hr : ∀ z, x + 18 ≤ z → z ≤ x + 29 → ¬ W z) (h10 : ∀ z, tg_ σ z = 10 → ¬ W z) (hl : ∀ z, W z → tg_ σ z = 104 → ∃ l, tg_ σ l = 11 ∧ fR_ σ 10 1 l = z ∧ lo_ σ < z ∧ ¬ (x + 18 ≤ l ∧ l ≤ x + 29)) : CR D τ x md O := by
  obtain ⟨⟨c1, h1⟩, ⟨m2, F2, c2, h2⟩, ⟨m3, F3, c3, h3⟩, d1, d2, d3⟩ := h
  have e1 := hf.lt h1.2.1.1
  have e2 := hf.lt h2.2.1.1
  have e3 := hf.lt h3.2.1.1
  have hl' : ∀ r, x + 18 ≤ r → r ≤ x + 26 → ∀ z, W z → tg_ σ z = 104 → ∃ l, tg_ σ l = 11 ∧ fR_ σ 10 1 l = z ∧ lo_ σ < z ∧ l ≠ r + 1 := fun r a b z w t => by
    obtain ⟨l, q1, q2, q3, q4⟩ := hl z w t
    exact ⟨l, q1, q2, q3, by omega⟩
  exact ⟨⟨c1, h1.ow hf k h0 (fun z a b => hr z (by omega) (by omega)) h10 (hl' _ (by omega) (by omega))⟩, ⟨m2, F2, c2, h2.ow hf k h0 (fun z a b => hr z (by omega) (by omega)) h10 (hl' _ (by omega) (by omega))⟩, ⟨m3, F3, c3, h3.ow hf k h0 (fun z a b => hr z (by omega) (by omega)) h10 (hl' _ (by omega) (by omega))⟩, d1.kp k e1 e2 (hr _ (by omega) (by omega)) (hr _ (by omega) (by omega)), d2.kp k e1 e3 (hr _ (by omega) (by omega)) (hr _ (by omega) (by omega)), d3.kp k e2 e3 (hr _ (by omega) (by omega)) (hr _ (by omega) (by omega))⟩
theorem CR.sx (h : CR D σ x md O) (hf : WF D σ) (k : Kp S' W σ τ) (hs : Sx D σ W) (hr : ∀ z, x + 18 ≤ z → z ≤ x + 29 → ¬ W z) : CR D τ x md O :=
  h.ow hf k (fun z => (hs 0 z).1 rfl) hr (fun z t w => (hs z w).2.2.1 t) (fun z w t => absurd t (hs z w).2.2.2.1)
/-- one reader has read: another stays -/
theorem RdS.other (h' : RdS D σ r' m F' c') (h : RdS D σ r md F c) (hf : WF D σ) (fr : FrR σ τ r) (hb : r + 3 < r' ∨ r' + 3 < r) (dj : RDj σ r r') : RdS D τ r' m F' c' ∧ RDj τ r r' := by
  have hl := h.2.2.2.1
  have hl' := h'.2.2.2.1
  have tB : ∀ z, r ≤ z → z ≤ r + 3 → tg_ σ z = 8 ∨ tg_ σ z = 11 ∨ tg_ σ z = 105 ∨ tg_ σ z = 102 := by
    intro z a b
    have : z = r ∨ z = r + 1 ∨ z = r + 2 ∨ z = r + 3 := by omega
    rcases this with e | e | e | e <;> subst e
    · exact Or.inl h.1.1
    · exact Or.inr (Or.inl hl.1)
    · exact Or.inr (Or.inr (Or.inl h.2.1.1))
    · exact Or.inr (Or.inr (Or.inr h.2.2.1.1))
  have tB' : ∀ z, r' ≤ z → z ≤ r' + 3 → tg_ σ z = 8 ∨ tg_ σ z = 11 ∨ tg_ σ z = 105 ∨ tg_ σ z = 102 := by
    intro z a b
    have : z = r' ∨ z = r' + 1 ∨ z = r' + 2 ∨ z = r' + 3 := by omega
    rcases this with e | e | e | e <;> subst e
    · exact Or.inl h'.1.1
    · exact Or.inr (Or.inl hl'.1)
    · exact Or.inr (Or.inr (Or.inl h'.2.1.1))
    · exact Or.inr (Or.inr (Or.inr h'.2.2.1.1))
  have n0 : 0 < r := by have := h.2.2.2.2.2.2.1; omega
  have w0 : ¬ WRd σ r 0 := by
    rintro (e | e | ⟨i, _, _, e⟩)
    · omega
    · rcases e with e | ⟨_, e⟩
      · omega
      · omega
    · exact e rfl
  have wB : ∀ z, r' ≤ z → z ≤ r' + 3 → ¬ WRd σ r z := by
    intro z a b
    have t := tB' z a b
    rintro (e | e | ⟨i, hi, e, e2⟩)
    · omega
    · rcases e with e | ⟨e, _⟩
      · omega
      · rw [e, hl.2.2.1] at t; omega
    · rcases h.2.1.2.2.1 i hi with y | ⟨y, _⟩
      · rw [← e] at y; exact e2 y
      · rw [← e] at y; omega
  have wl : ¬ WRd σ r (fR_ σ 10 1 (r' + 1)) := by
    have t := hl'.2.2.1
    rintro (e | e | ⟨i, hi, e, e2⟩)
    · have := tB _ e.1 e.2; omega
    · rcases e with e | ⟨e, e2⟩
      · rw [e, hl.1] at t; cases t
      · have := hf.2.2.2.2.2.2.2 (r' + 1) (r + 1) hl'.1 hl.1 (by omega) e
        omega
    · rcases h.2.1.2.2.1 i hi with y | ⟨y, _⟩
      · rw [← e] at y; exact e2 y
      · rw [← e] at y; omega
  have wF : ∀ i, i < F'.length → ¬ WRd σ r (aR_ σ (r' + 2) i) := by
    intro i hi
    have t := (h'.2.2.2.2.2.1 i hi).1
    have hi31 : i < 31 := by have := h'.2.2.2.2.2.2.2; omega
    rintro (e | e | ⟨j, hj, e, e2⟩)
    · have := tB _ e.1 e.2; omega
    · rcases e with e | ⟨e, _⟩
      · rw [e, hl.1] at t; cases t
      · rw [e, hl.2.2.1] at t; cases t
    · have := dj j i hj hi31 e.symm
      rw [e, this] at e2; exact e2 rfl
  refine ⟨h'.kp hf fr.1 w0 wB wl wF, fun i j hi hj e => ?_⟩
  have e2 : aR_ τ (r' + 2) j = aR_ σ (r' + 2) j := fr.1.aR (hf.lt h'.2.1.1) (wB _ (by omega) (by omega))
  rw [e2] at e
  rcases fr.2.2.1 i hi with y | y
  · rw [y] at e ⊢; exact dj i j hi hj e
  · exfalso
    have hnx := hf.2.1
    rcases h'.2.1.2.2.1 j hj with u | ⟨u, _⟩
    · omega
    · have := hf.lt u; omega
/-- a reader's writes are none of the others' -/
theorem WRd_t (h : RdS D σ r md F c) {z : Nat} (hz : WRd σ r z) : (r ≤ z ∧ z ≤ r + 3) ∨ (tg_ σ z = 104 ∧ fR_ σ 10 1 (r + 1) = z ∧ lo_ σ < z ∧ D < z) ∨ (tg_ σ z = 10 ∧ D < z) := by
  have hl := h.2.2.2.1
  rcases hz with e | e | ⟨i, hi, e, e2⟩
  · exact Or.inl e
  · rcases e with e | ⟨e, e2⟩
    · exact Or.inl (by omega)
    · refine Or.inr (Or.inl ⟨by rw [e]; exact hl.2.2.1, e.symm, e2, ?_⟩)
      rcases h.2.2.2.2.1 with y | y <;> omega
  · rcases h.2.1.2.2.1 i hi with y | ⟨y1, y2⟩
    · rw [← e] at y; exact absurd y e2
    · rw [← e] at y1 y2; exact Or.inr (Or.inr ⟨y1, y2⟩)
end
