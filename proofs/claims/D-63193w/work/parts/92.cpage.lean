/-! a page of the class -/
/-- only the ints of array a may differ -/
def AF (a : Nat) (σ σ' : Hp) : Prop := tg_ σ' = tg_ σ ∧ fI_ σ' = fI_ σ ∧ fL_ σ' = fL_ σ ∧ fR_ σ' = fR_ σ ∧ ln_ σ' = ln_ σ ∧ aL_ σ' = aL_ σ ∧ aR_ σ' = aR_ σ ∧ nx_ σ' = nx_ σ ∧ bc_ σ' = bc_ σ ∧ bs_ σ' = bs_ σ ∧ lo_ σ' = lo_ σ ∧ (∀ r, r ≠ a → ∀ i, aI_ σ' r i = aI_ σ r i)
/-- a page at p, its bytes at a -/
def PgA (D : Nat) (σ : Hp) (p a : Nat) (f : Nat → Nat) : Prop := tg_ σ p = 4 ∧ fR_ σ 3 0 p = a ∧ tg_ σ a = 100 ∧ ln_ σ a = 2048 ∧ lo_ σ < a ∧ a ≤ D ∧ (∀ i, i < 2048 → aI_ σ a i = sb_b (f i))
section
variable {S : Prop} {W : Nat → Prop} {D : Nat} {σ σ' τ : Hp} {p a b : Nat} {f : Nat → Nat}
theorem AF.refl : AF a σ σ := ⟨rfl, rfl, rfl, rfl, rfl, rfl, rfl, rfl, rfl, rfl, rfl, fun _ _ _ => rfl⟩
theorem AF.trans (h : AF a σ σ') (g : AF a σ' τ) : AF a σ τ := by
  obtain ⟨h1, h2, h3, h4, h5, h6, h7, h8, h9, h10, h11, h12⟩ := h
  obtain ⟨g1, g2, g3, g4, g5, g6, g7, g8, g9, g10, g11, g12⟩ := g
  exact ⟨g1.trans h1, g2.trans h2, g3.trans h3, g4.trans h4, g5.trans h5, g6.trans h6, g7.trans h7, g8.trans h8, g9.trans h9, g10.trans h10, g11.trans h11, fun r hr i => (g12 r hr i).trans (h12 r hr i)⟩
theorem AF.wI (h : AF a σ σ') {i : Nat} {v : Int32} : AF a σ (wI_ σ' a i v) := by
  obtain ⟨h1, h2, h3, h4, h5, h6, h7, h8, h9, h10, h11, h12⟩ := h
  exact ⟨h1, h2, h3, h4, h5, h6, h7, h8, h9, h10, h11, fun r hr j => by rw [aaI_wI, u2_r hr]; exact h12 r hr j⟩
theorem AF.kp (h : AF a σ σ') : Kp S (fun q => q = a) σ σ' := by
  obtain ⟨h1, h2, h3, h4, h5, h6, h7, h8, h9, h10, h11, h12⟩ := h
  exact ⟨h11, by omega, fun r _ => ⟨by rw [h1], by rw [h5]⟩, fun r _ hr => ⟨fun _ _ _ => by rw [h2], fun _ _ => by rw [h3], fun _ _ => by rw [h4], h12 r hr, fun _ => by rw [h6], fun _ => by rw [h7]⟩⟩
theorem AF.ws (hf : WF D σ) (h : tg_ σ a ≠ 13) (h2 : tg_ σ a = 100 → lo_ σ < a ∧ a ≤ D) (h3 : tg_ σ a ≠ 0) : WS D σ (fun q => q = a) := fun q hq => by
  subst hq
  exact ⟨h, h2, fun z => h3 (by rw [z]; exact hf.2.2.1)⟩
theorem AF.wf (hf : WF D σ) (h : AF a σ σ') (h1 : tg_ σ a ≠ 13) (h2 : tg_ σ a = 100 → lo_ σ < a ∧ a ≤ D) (h3 : tg_ σ a ≠ 0) : WF D σ' :=
  hf.same (S := False) h.kp (AF.ws hf h1 h2 h3) h.1 h.2.2.2.2.2.2.2.1 h.2.2.2.1
theorem PgA.wf (hf : WF D σ) (h : PgA D σ p a f) (g : AF a σ σ') : WF D σ' := g.wf hf (by rw [h.2.2.1]; decide) (fun _ => ⟨h.2.2.2.2.1, h.2.2.2.2.2.1⟩) (by rw [h.2.2.1]; decide)
theorem PgA.ws (hf : WF D σ) (h : PgA D σ p a f) : WS D σ (fun q => q = a) := AF.ws hf (by rw [h.2.2.1]; decide) (fun _ => ⟨h.2.2.2.2.1, h.2.2.2.2.2.1⟩) (by rw [h.2.2.1]; decide)
theorem PgA.wr (h : PgA D σ p a f) {i c : Nat} : PgA D (wI_ σ a i (sb_b c)) p a (ov f i [c]) := by
  obtain ⟨a1, a2, a3, a4, a5, a6, a7⟩ := h
  refine ⟨a1, a2, a3, a4, a5, a6, fun j hj => ?_⟩
  rw [aaI_wI]
  by_cases e : j = i
  · subst e
    rw [u2_e]
    have := ov_in (f := f) (p := j) (i := 0) (l := [c]) (by simp)
    simp at this
    rw [this]
  · rw [u2_i e, ov_out (by simp; omega)]; exact a7 j hj
theorem PgA.kp (h : PgA D σ p a f) (hf : WF D σ) (k : Kp S W σ τ) (h1 : ¬ W p) (h2 : ¬ W a) : PgA D τ p a f := by
  obtain ⟨a1, a2, a3, a4, a5, a6, a7⟩ := h
  have lp := hf.lt a1
  have la := hf.lt a3
  exact ⟨by rw [k.t lp]; exact a1, by rw [k.r lp h1]; exact a2, by rw [k.t la]; exact a3, by rw [k.n la]; exact a4, by rw [k.1]; exact a5, a6, fun i hi => by rw [k.a la h2]; exact a7 i hi⟩
theorem PgA.ext {g : Nat → Nat} (h : PgA D σ p a f) (e : ∀ i, i < 2048 → f i = g i) : PgA D σ p a g := by
  obtain ⟨a1, a2, a3, a4, a5, a6, a7⟩ := h
  exact ⟨a1, a2, a3, a4, a5, a6, fun i hi => by rw [a7 i hi, e i hi]⟩
theorem ov_step {g : Nat → Nat} {at' i : Nat} {L : List Nat} (h : i < L.length) : ov (ov g at' (L.take i)) (at' + i) [L.getD i 0] = ov g at' (L.take (i + 1)) := by
  rw [take_snoc h, ov_app]
  rw [List.length_take]; omega
theorem c_clear (h : PgA D σ p a f) {post : Hp → Prop} (k : ∀ σ', AF a σ σ' → PgA D σ' p a (fun _ => 0) → post σ') : wX4_clear p σ post := by
  unfold wX4_clear wX4_clear_L2
  refine lpG2 (B := fun R x s => wX4_clear_B2 post R p x s) (fun j x s => j ≤ 2048 ∧ x = nI (2048 - j) ∧ AF a σ s ∧ ∃ g, PgA D s p a g ∧ ∀ i, i < 2048 - j → g i = 0) 2048 ⟨Nat.le_refl _, by decide, AF.refl, f, h, fun i hi => by omega⟩ ?_
  rintro j x s R ⟨h1, rfl, h3, g, h4, h5⟩ hR
  unfold wX4_clear_B2
  rw [li_2048, nI_leI (by omega) (by omega)]
  refine ⟨fun z => k s h3 (h4.ext (fun i hi => h5 i (by omega))), fun z => ?_⟩
  obtain ⟨b1, b2, b3, b4, b5, b6, b7⟩ := id h4
  rw [b2, b4, nI_clamp (by omega)]
  refine ⟨b1, b3, b5, (vin_ (by omega)).mpr (by omega), fun s6 e6 y hy => hR (j - 1) y s6 (by omega) ⟨by omega, by rw [hy, li_1, nI_add]; congr 1; omega, by rw [e6]; exact h3.wI, ov g (2048 - j) [0], ?_, fun i hi => ?_⟩⟩
  · rw [e6]
    exact h4.wr
  · by_cases e : i = 2048 - j
    · subst e
      have := ov_in (f := g) (p := 2048 - j) (i := 0) (l := [0]) (by simp)
      simpa using this
    · rw [ov_out (by simp; omega)]; exact h5 i (by omega)
theorem lowB_get {n v i : Nat} (h : i < n) : (lowB n v).getD i 0 = v / 256 ^ i % 256 := by
  unfold lowB
  simp [List.getD_eq_getElem?_getD, h]
theorem highB_get {n v i : Nat} (h : i < n) : (highB n v).getD i 0 = v / 256 ^ (n - 1 - i) % 256 := by
  unfold highB
  simp [List.getD_eq_getElem?_getD, h]
theorem c_low (h : PgA D σ p a f) {q n v : Nat} (hn : n ≤ 4) (hq : q + n ≤ 2048) (hv : v < 2 ^ 32) {post : Hp → Prop} (k : ∀ σ', AF a σ σ' → PgA D σ' p a (ov f q (lowB n v)) → post σ') : wX4_low p (nI q) (nI n) (nI v) σ post := by
  have ll := lowB_len n v
  unfold wX4_low wX4_low_L3
  refine lpG2 (B := fun R x s => wX4_low_B3 post R p (nI q) (nI n) (nI v) x s) (fun j x s => j ≤ n ∧ x = nI (n - j) ∧ AF a σ s ∧ PgA D s p a (ov f q ((lowB n v).take (n - j)))) n ⟨Nat.le_refl _, by simp [nI_0], AF.refl, by simp [ov_nil]; exact h⟩ ?_
  rintro j x s R ⟨h1, rfl, h3, h4⟩ hR
  unfold wX4_low_B3
  rw [nI_leI (by omega) (by omega)]
  refine ⟨fun z => k s h3 ?_, fun z => ?_⟩
  · rw [List.take_of_length_le (by omega)] at h4; exact h4
  obtain ⟨b1, b2, b3, b4, b5, b6, b7⟩ := id h4
  rw [b2, b4, nI_add, nI_clamp (by omega), li_8, pk_mul, shB hv _ (by omega), nar_b]
  refine ⟨b1, b3, b5, (vin_ (by omega)).mpr (by omega), fun s6 e6 y hy => hR (j - 1) y s6 (by omega) ⟨by omega, by rw [hy, li_1, nI_add]; congr 1; omega, by rw [e6]; exact h3.wI, ?_⟩⟩
  rw [e6, show n - (j - 1) = n - j + 1 by omega, ← ov_step (by omega), lowB_get (by omega)]
  exact h4.wr
theorem c_high (h : PgA D σ p a f) {q n v : Nat} (hn : n ≤ 4) (hq : q + n ≤ 2048) (hv : v < 2 ^ 32) {post : Hp → Prop} (k : ∀ σ', AF a σ σ' → PgA D σ' p a (ov f q (highB n v)) → post σ') : wX4_high p (nI q) (nI n) (nI v) σ post := by
  have ll := highB_len n v
  unfold wX4_high wX4_high_L3
  refine lpG2 (B := fun R x s => wX4_high_B3 post R p (nI q) (nI n) (nI v) x s) (fun j x s => j ≤ n ∧ x = nI (n - j) ∧ AF a σ s ∧ PgA D s p a (ov f q ((highB n v).take (n - j)))) n ⟨Nat.le_refl _, by simp [nI_0], AF.refl, by simp [ov_nil]; exact h⟩ ?_
  rintro j x s R ⟨h1, rfl, h3, h4⟩ hR
  unfold wX4_high_B3
  rw [nI_leI (by omega) (by omega)]
  refine ⟨fun z => k s h3 ?_, fun z => ?_⟩
  · rw [List.take_of_length_le (by omega)] at h4; exact h4
  obtain ⟨b1, b2, b3, b4, b5, b6, b7⟩ := id h4
  rw [b2, b4, nI_add, nI_clamp (by omega), li_1, pk_sub (by omega), pk_sub (by omega), li_8, pk_mul, shB hv _ (by omega), nar_b]
  refine ⟨b1, b3, b5, (vin_ (by omega)).mpr (by omega), fun s6 e6 y hy => hR (j - 1) y s6 (by omega) ⟨by omega, by rw [hy, nI_add]; congr 1; omega, by rw [e6]; exact h3.wI, ?_⟩⟩
  rw [e6, show n - (j - 1) = n - j + 1 by omega, ← ov_step (by omega), highB_get (by omega)]
  exact h4.wr
theorem c_bothP (h : PgA D σ p a f) {q n v : Nat} (hn : n ≤ 4) (hq : q + 2 * n ≤ 2048) (hv : v < 2 ^ 32) {post : Hp → Prop} (k : ∀ σ', AF a σ σ' → PgA D σ' p a (ov f q (lowB n v ++ highB n v)) → post σ') : wX4_both p (nI q) (nI n) (nI v) σ post := by
  unfold wX4_both
  refine ⟨h.1, c_low h hn (by omega) hv (fun s1 f1 g1 => ⟨g1.1, ?_⟩)⟩
  rw [nI_add]
  refine c_high g1 hn (by omega) hv (fun s2 f2 g2 => k s2 (f1.trans f2) ?_)
  rw [ov_app (by rw [lowB_len])] at g2
  exact g2
theorem c_say (hf : WF D σ) (h : PgA D σ p a f) {q r : Nat} {l : List Nat} (hs : Str D σ r l) (hq : q + l.length ≤ 2048) {post : Hp → Prop} (k : ∀ σ', AF a σ σ' → PgA D σ' p a (ov f q l) → post σ') : wX4_say p (nI q) r σ post := by
  have hl := hs.2.2.2.2.2.2.2
  unfold wX4_say wX4_say_L2
  refine lpG2 (B := fun R x s => wX4_say_B2 post R p (nI q) r x s) (fun j x s => j ≤ l.length ∧ x = nI (l.length - j) ∧ AF a σ s ∧ PgA D s p a (ov f q (l.take (l.length - j)))) l.length ⟨Nat.le_refl _, by simp [nI_0], AF.refl, by simp [ov_nil]; exact h⟩ ?_
  rintro j x s R ⟨h1, rfl, h3, h4⟩ hR
  have hs' : Str D s r l := hs.kp (S := False) hf h3.kp (h.ws hf)
  unfold wX4_say_B2
  refine ⟨hs'.1, s_length hs' ?_⟩
  rw [nI_leI (by omega) (by omega)]
  refine ⟨fun z => k s h3 ?_, fun z => ?_⟩
  · rw [List.take_of_length_le (by omega)] at h4; exact h4
  obtain ⟨b1, b2, b3, b4, b5, b6, b7⟩ := id h4
  refine ⟨b1, s_char hs' (by omega) ?_⟩
  have hc : l.getD (l.length - j) 0 < 256 := hs.2.2.2.2.2.1 _ (getD_mem (by omega))
  rw [b2, b4, nI_add, nI_clamp (by omega), nI_b hc, nar_b]
  refine ⟨b3, b5, (vin_ (by omega)).mpr (by omega), fun s6 e6 y hy => hR (j - 1) y s6 (by omega) ⟨by omega, by rw [hy, li_1, nI_add]; congr 1; omega, by rw [e6]; exact h3.wI, ?_⟩⟩
  rw [e6, show l.length - (j - 1) = l.length - j + 1 by omega, ← ov_step (by omega)]
  exact h4.wr
end
