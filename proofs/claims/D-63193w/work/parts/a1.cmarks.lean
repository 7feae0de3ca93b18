/-! the class: marks; a reader works while the rest stays -/
/-- the row of marks -/
def MkR (σ : Hp) (x : Nat) (l : List Nat) : Prop := fI_ σ 0 10 x = nI l.length ∧ ∀ i, i < l.length → aI_ σ (x + 30) i = nI (l.getD i 0)
section
variable {S' : Prop} {W : Nat → Prop} {D n : Nat} {σ σ0 σ' τ υ : Hp} {x md od q la r r' m c c' : Nat} {t t' : TT} {rf : Nat → Nat} {O F F0 F' : List FT} {S S2 : AS} {B St : Nat → Nat} {Df : Nat → Bool}
theorem MkR.kp {l : List Nat} (h : MkR σ x l) (k : Kp S' W σ τ) (l1 : x < nx_ σ) (l2 : x + 30 < nx_ σ) (w1 : ¬ W x) (w2 : ¬ W (x + 30)) : MkR τ x l := ⟨by rw [k.i l1 w1 (by omega)]; exact h.1, fun i hi => by rw [k.a l2 w2]; exact h.2 i hi⟩
theorem low_le {v : Nat} (hv : v < 2 ^ 32) : (nI v ≤ 0) ↔ ¬ (0 < v ∧ v < 2 ^ 31) := by
  rw [Int32.le_iff_lt_or_eq, nI_neg' hv, li_0, nI_eq32 hv (by decide)]
  omega
theorem ix_none {v s : Nat} (hv : v < 2 ^ 32) (hs : s < 2 ^ 31) (h : ixN (nI v) s = none) : ¬ v < s := by
  intro hlt
  rcases ix_cases (nI v) hs with ⟨j, h1, h2, h3⟩ | ⟨h1, h2⟩
  · rw [h3] at h; cases h
  · rcases h1 with y | y
    · exact absurd y (nI_pos (by omega))
    · rw [nI_leI hs (by omega)] at y; omega
/-- two writes to the class's own things -/
theorem CJ.own (h : CJ D σ x md od q S) (k : Kp False (fun z => z = x ∨ z = x + 30) σ τ) (hf' : WF D τ) (hx' : CX τ x md od q (sLa S)) : CJ D τ x md od q S ∧ Cf D x σ τ := by
  obtain ⟨hf, hz, hx, hb, hp, hmd, ⟨Bo, Sto, Dfo, hod⟩, ht, hr⟩ := h
  have hm' := hz.2.1
  have hzz := hz.1
  have hs : Sx D σ (fun z => z = x ∨ z = x + 30) := fun z hz' => by
    rcases hz' with e | e
    · subst e
      rw [hx.1]
      exact ⟨by omega, by decide, by decide, by decide, by decide, by decide, by decide, fun w => absurd w (by decide)⟩
    · subst e
      rw [hz.2.2.1]
      exact ⟨by omega, by decide, by decide, by decide, by decide, by decide, by decide, fun w => absurd w (by decide)⟩
  exact ⟨⟨hf', hz.kp hf k, hx', hb.sx hf k hs (fun z a b y => by omega), hp.kp hf k (by omega), hmd.kp hf k (by omega) (by omega) (by omega) (by omega), ⟨Bo, Sto, Dfo, hod.kp hf k (by omega) (by omega) (by omega) (by omega)⟩, ht.sx hf k hs, hr.sx hf k hs (fun z a b y => by omega)⟩, k.cf (fun z y => by omega)⟩
theorem c_marks (h : CJ D σ x md od q S) {post : Nat → Hp → Prop} (k : ∀ σ', CJ D σ' x md od q S → Cf D x σ σ' → MkR σ' x (sM S) → (sM S).length ≤ sN S → post (x + 30) σ') : wX1_marks x σ post := by
  obtain ⟨hf, hz, hx, hb, hp, hmd, hod, ht, hr⟩ := id h
  have hn := hmd.med.2.1
  have hB := hmd.med.2.2.1
  have hlo : lo_ σ < x + 30 := by have := hz.1.2.1; omega
  unfold wX1_marks
  rw [hx.2.2.2.2.2.2.2.2.2.1]
  refine ⟨hx.1, fun y27 h27 => ?_⟩
  subst h27
  unfold wX1_marks_L9
  refine lpG3 (B := fun R y z s => wX1_marks_B9 post R x (x + 30) y z s) (fun j y z s => ∃ (i : Nat) (l : List Nat), i + j = sN S ∧ z = nI i ∧ y = nI l.length ∧ l.length ≤ i ∧ sM S = l ++ mkR (sN S) (sB S) (sSt S) j i ∧ AF (x + 30) σ s ∧ ∀ a, a < l.length → aI_ s (x + 30) a = nI (l.getD a 0)) (sN S) ⟨0, [], by omega, rfl, rfl, by simp, rfl, AF.refl, fun a ha => absurd ha (by simp)⟩ ?_
  rintro j y z s R ⟨i, l, g1, rfl, rfl, g4, g5, g6, g7⟩ hR
  have k6 : Kp False (fun z => z = x + 30) σ s := g6.kp
  have m6 : MdA D s md (sN S) (sB S) (sSt S) (sDf S) := hmd.kp hf k6 (by have := hz.2.1; omega) (by have := hz.2.1; omega) (by have := hz.2.1; omega) (by have := hz.2.1; omega)
  obtain ⟨⟨a1, a2, a3, a4, a5⟩, ⟨b1, b2', b3⟩, ⟨c1, c2, c3⟩, d, e, f1, f2, f3⟩ := id m6
  have f6 : WF D s := g6.wf hf (by rw [hz.2.2.1]; decide) (fun y => by rw [hz.2.2.1] at y; cases y) (by rw [hz.2.2.1]; decide)
  have t30 : tg_ s (x + 30) = 102 := by rw [g6.1]; exact hz.2.2.1
  have n30 : ln_ s (x + 30) = sN S + 1 := by rw [g6.2.2.2.2.1]; exact hz.2.2.2
  have lo6 : lo_ s = lo_ σ := k6.1
  have r6 : fR_ s 0 2 x = md := by rw [g6.2.2.2.1]; exact hx.2.2.2.1
  unfold wX1_marks_B9 wX1_marks_L103
  rw [r6, a2, a4, c2, n30, nI_leI (by omega) (by omega)]
  refine ⟨by rw [g6.1]; exact hx.1, a1, fun z => ⟨t30, by rw [lo6]; exact hlo, (vin_ (by omega)).mpr (by omega), fun s8 e8 s9 e9 => ?_⟩, fun z y10 h10 => ⟨b2', (vin_ (by omega)).mpr (by omega), ?_⟩⟩
  · have hj : j = 0 := by omega
    subst hj
    have g5' : sM S = l := by rw [g5]; simp [mkR]
    rw [nI_clamp (by omega)] at e8
    have k9 : Kp False (fun z => z = x ∨ z = x + 30) σ s9 := by
      rw [e9, e8]
      exact Kp.sI' (Kp.wI' (k6.mono (fun z => z) (fun z _ e => Or.inr e)) (Or.inl (Or.inr rfl))) (Or.inl (Or.inl rfl))
    have f9 : WF D s9 := by rw [e9, e8]; exact (f6.wI (Or.inl (by rw [t30]; decide))).sI (by decide)
    have x9 : CX s9 x md od q (sLa S) := by
      obtain ⟨o1, o2, o3, o4, o5, o6, o7, o8, o9, o10, o11⟩ := hx
      have r9 : fR_ s9 = fR_ σ := by rw [e9, e8]; exact g6.2.2.2.1
      have t9 : tg_ s9 = tg_ σ := by rw [e9, e8]; exact g6.1
      refine ⟨by rw [t9]; exact o1, by rw [r9]; exact o2, by rw [r9]; exact o3, by rw [r9]; exact o4, by rw [r9]; exact o5, by rw [r9]; exact o6, by rw [r9]; exact o7, by rw [r9]; exact o8, by rw [r9]; exact o9, by rw [r9]; exact o10, ?_⟩
      rw [e9, afI_sI, u3_k (by decide), e8, afI_wI, g6.2.1]; exact o11
    obtain ⟨j9, c9⟩ := h.own k9 f9 x9
    refine k s9 j9 c9 ⟨by rw [e9, afI_sI, u3_e, g5'], fun a ha => ?_⟩ (by rw [g5']; omega)
    rw [g5'] at ha ⊢
    rw [e9, aaI_sI, e8, aaI_wI, u2_i (by omega)]
    exact g7 a ha
  · obtain ⟨j, rfl⟩ : ∃ k, j = k + 1 := ⟨j - 1, by omega⟩
    have g5' : sM S = l ++ ic (isMk (sN S) (sB S) (sSt S) i) (i :: mkR (sN S) (sB S) (sSt S) j (i + 1)) (mkR (sN S) (sB S) (sSt S) j (i + 1)) := g5
    have skip : ¬ isMk (sN S) (sB S) (sSt S) i → ∀ y1 : Int32, y1 = nI i + 1 → R (nI l.length) y1 s := by
      intro hno y1 h1
      rw [ic_f hno] at g5'
      exact hR j _ y1 s (by omega) ⟨i + 1, l, by omega, by rw [h1, li_1, nI_add], rfl, by omega, g5', g6, g7⟩
    have e10 : y10 = lN (2048 * i) := by rw [h10, nI_l (by omega), show (2048 : Int64) = lN 2048 from rfl, lN_mul, Nat.mul_comm]
    subst e10
    have hst := e.2.2.2 i
    rw [nI_clamp (by omega), f2 i (by omega), li_1, nI_eq (by omega) (by decide), show (4 : Int64) = lN 4 from rfl, show (8 : Int64) = lN 8 from rfl, lN_add, lN_add]
    have v4 := lowN_lt hB 4 (2048 * i + 4)
    have v8 := lowN_lt hB 4 (2048 * i + 8)
    have p4 : (256 : Nat) ^ 4 = 4294967296 := by decide
    rw [p4] at v4 v8
    refine ⟨fun u => skip (fun w => u w.1.2), fun u => ?_⟩
    have sk : Str D s (fR_ s 101 1 0) [77, 65, 82, 75] := f6.2.2.2.2.1 1 (by decide)
    refine c_says m6 sk (by simp; omega) (fun u1 => ⟨fun w => absurd w (by decide), fun _ => c_mlow m6 (k := 4) (by decide) (by omega) ?_⟩) (fun u1 => ⟨fun _ => skip (fun w => u1 ?_), fun w => absurd rfl w⟩)
    rotate_left
    · obtain ⟨w0, w1, w2, w3, w4, w5⟩ := w
      intro a ha
      have ha' : a < 4 := ha
      have : a = 0 ∨ a = 1 ∨ a = 2 ∨ a = 3 := by omega
      rcases this with e | e | e | e <;> subst e
      · exact w1
      · exact w2
      · exact w3
      · exact w4
    refine c_in (by omega) (fun a ha ev ea => ⟨fun w => absurd w (by decide), fun _ => c_mlow m6 (k := 4) (by decide) (by omega) ?_⟩) (fun ea => ⟨fun _ => skip (fun w => ix_none (by omega) (by omega) ea w.2.2.2.2.2.1), fun w => absurd rfl w⟩)
    rw [nI_eq32 (by omega) (by omega)] at ev
    rw [low_le (by omega)]
    refine ⟨fun w => skip (fun w' => w w'.2.2.2.2.2.2), fun w => ⟨t30, by rw [lo6]; exact hlo, (vin_ (by omega)).mpr (by omega), fun s24 e24 y25 h25 y1 h1 => ?_⟩⟩
    have w' : 0 < lowN (sB S) (2048 * i + 8) 4 ∧ lowN (sB S) (2048 * i + 8) 4 < 2 ^ 31 := Classical.not_not.mp w
    have hmk : isMk (sN S) (sB S) (sSt S) i := ⟨⟨by omega, u⟩, u1 0 (by decide), u1 1 (by decide), u1 2 (by decide), u1 3 (by decide), by omega, w'.1, w'.2⟩
    rw [ic_t hmk] at g5'
    rw [nI_clamp (by omega)] at e24
    refine hR j y25 y1 s24 (by omega) ⟨i + 1, l ++ [i], by omega, by rw [h1, nI_add], by rw [h25, nI_add, List.length_append]; rfl, by rw [List.length_append]; simp; omega, by rw [g5']; simp, by rw [e24]; exact g6.wI, fun a ha => ?_⟩
    rw [e24, aaI_wI]
    by_cases ea : a = l.length
    · subst ea
      rw [u2_e, List.getD_eq_getElem?_getD, List.getElem?_append_right (Nat.le_refl _)]; simp
    · have ha' : a < l.length := by simp at ha; omega
      rw [u2_i ea, gD_app ha']; exact g7 a ha'
theorem mk_at {i : Nat} (hi : i < (sM S).length) : isMk (sN S) (sB S) (sSt S) ((sM S).getD i 0) := (mkR_mem (getD_mem (d := 0) hi : (sM S).getD i 0 ∈ mkR (sN S) (sB S) (sSt S) (sN S) 0)).1
theorem c_base (h : CJ D σ x md od q S) {s : Nat} (hs : s < sN S) {post : Int32 → Prop} (k : post (nI (lowN (sB S) (2048 * s + 4) 4))) : wX1_base x (nI s) σ post := by
  obtain ⟨hf, hz, hx, hb, hp, hmd, hod, ht, hr⟩ := id h
  have hn := hmd.med.2.1
  unfold wX1_base
  rw [hx.2.2.2.1, nI_l (by omega), show (2048 : Int64) = lN 2048 from rfl, lN_mul, show (4 : Int64) = lN 4 from rfl, lN_add, Nat.mul_comm]
  exact ⟨hx.1, hmd.tag, c_mlow hmd (k := 4) (by decide) (by omega) k⟩
theorem FrR.trans (h : FrR σ0 σ r) (g : FrR σ τ r) : FrR σ0 τ r := by
  refine h.step g.1 (fun z hz hW => ?_) g.2.1 g.2.2.1
  rcases hW with e | e | ⟨i, hi, e, e2⟩
  · exact Or.inl e
  · rcases e with e | ⟨e, e2⟩
    · exact Or.inr (Or.inl (Or.inl e))
    · refine Or.inr (Or.inl (Or.inr ⟨?_, by rw [← h.1.1]; exact e2⟩))
      rcases h.2.1 with y | y
      · rw [e, y]
      · omega
  · rcases h.2.2.1 i hi with y | y
    · exact Or.inr (Or.inr ⟨i, hi, by rw [e, y], e2⟩)
    · omega
/-- all but the readers -/
def CK (D : Nat) (σ : Hp) (x md od q : Nat) (S : AS) : Prop := WF D σ ∧ CZ D σ x md od (sN S) ∧ CX σ x md od q (sLa S) ∧ CB D σ x ∧ PwA σ (x + 1) (sBS S) ∧ MdA D σ md (sN S) (sB S) (sSt S) (sDf S) ∧ (∃ Bo Sto Dfo, MdA D σ od (sN S) Bo Sto Dfo) ∧ CT D σ x q (sT S)
theorem CK.rd (h : CK D σ x md od q S) (hr : r = x + 18 ∨ r = x + 22 ∨ r = x + 26) (hS : RdS D σ r m F c) (fr : FrR σ τ r) (hf' : WF D τ) : CK D τ x md od q S ∧ Cf D x σ τ := by
  obtain ⟨hf, hz, hx, hb, hp, hmd, ⟨Bo, Sto, Dfo, hod⟩, ht⟩ := h
  have hm' := hz.2.1
  have hzz := hz.1
  have k := fr.1
  have wt := fun z (hz' : WRd σ r z) => WRd_t hS hz'
  have nb : ∀ z, x ≤ z → z ≤ D → ¬ (x + 18 ≤ z ∧ z ≤ x + 29) → ¬ WRd σ r z := fun z a b c' y => by
    rcases wt z y with e | e | e <;> omega
  have w0 : ¬ WRd σ r 0 := fun y => by rcases wt 0 y with e | e | e <;> omega
  have t8 : ∀ z, r ≤ z → z ≤ r + 3 → tg_ σ z = 8 ∨ tg_ σ z = 11 ∨ tg_ σ z = 105 ∨ tg_ σ z = 102 := by
    intro z a b
    have : z = r ∨ z = r + 1 ∨ z = r + 2 ∨ z = r + 3 := by omega
    rcases this with e | e | e | e <;> subst e
    · exact Or.inl hS.1.1
    · exact Or.inr (Or.inl hS.2.2.2.1.1)
    · exact Or.inr (Or.inr (Or.inl hS.2.1.1))
    · exact Or.inr (Or.inr (Or.inr hS.2.2.1.1))
  obtain ⟨_, _, R, ct, htb⟩ := id hb
  obtain ⟨rf, c2, htr, htz⟩ := id ht
  obtain ⟨y1, y2, y3, y4⟩ := id htz
  unfold dz at y1 y2 y3 y4
  -- no list's array but its own
  have wa : ∀ l, tg_ σ l = 11 → l ≠ r + 1 → ∀ z, fR_ σ 10 1 l = z → tg_ σ z = 104 → ¬ WRd σ r z := by
    intro l h1 h2 z h3 h4 y
    rcases wt z y with e | e | e
    · have := t8 z e.1 e.2; omega
    · have := hf.2.2.2.2.2.2.2 l (r + 1) h1 hS.2.2.2.1.1 h2 (h3.trans e.2.1.symm)
      omega
    · omega
  have tT : ¬ WRd σ r q := fun y => by
    have t5 := htr.1
    rcases wt q y with e | e | e
    · have := t8 q e.1 e.2; omega
    · omega
    · omega
  have tL' : ¬ WRd σ r (fR_ σ 4 0 q) := fun y => by
    have t5 := htr.2.2.1.1
    rcases wt _ y with e | e | e
    · omega
    · omega
    · omega
  have hws : WS D σ (WRd σ r) := fun z y => by
    rcases wt z y with e | e | e
    · have := t8 z e.1 e.2
      exact ⟨by omega, fun w => by omega, by omega⟩
    · exact ⟨by omega, fun w => by omega, by omega⟩
    · exact ⟨by omega, fun w => by omega, by omega⟩
  refine ⟨⟨hf', hz.kp hf k, hx.kp hf k (nb _ (by omega) (by omega) (by omega)), hb.kp hf k w0 (fun z a b => nb _ (by omega) (by omega) (by omega)) (wa (x + 3) htb.1.1 (by omega) _ rfl htb.1.2.2.1), hp.kp hf k (nb _ (by omega) (by omega) (by omega)), hmd.kp hf k (nb _ (by omega) (by omega) (by omega)) (nb _ (by omega) (by omega) (by omega)) (nb _ (by omega) (by omega) (by omega)) (nb _ (by omega) (by omega) (by omega)), ⟨Bo, Sto, Dfo, hod.kp hf k (nb _ (by omega) (by omega) (by omega)) (nb _ (by omega) (by omega) (by omega)) (nb _ (by omega) (by omega) (by omega)) (nb _ (by omega) (by omega) (by omega))⟩, ht.kp hf k hws tT tL' (wa _ htr.2.2.1.1 (by omega) _ rfl htr.2.2.1.2.2.1) (fun z t6 y => ?_)⟩, k.cf (fun z y => by rcases wt z y with e | e | e <;> omega)⟩
  rcases wt z y with e | e | e
  · have := t8 z e.1 e.2; omega
  · omega
  · omega
theorem CJ.ck (h : CJ D σ x md od q S) : CK D σ x md od q S := ⟨h.1, h.2.1, h.2.2.1, h.2.2.2.1, h.2.2.2.2.1, h.2.2.2.2.2.1, h.2.2.2.2.2.2.1, h.2.2.2.2.2.2.2.1⟩
theorem CK.cj (h : CK D σ x md od q S) {O' : List FT} (hr : CR D σ x md O') : CJ D σ x md od q (wO S O') := ⟨h.1, h.2.1, h.2.2.1, h.2.2.2.1, h.2.2.2.2.1, h.2.2.2.2.2.1, h.2.2.2.2.2.2.1, h.2.2.2.2.2.2.2, hr⟩
theorem CJ.rd (h : CJ D σ x md od q S) (hr : r = x + 18 ∨ r = x + 22 ∨ r = x + 26) (hS : RdS D σ r m F c) (fr : FrR σ τ r) (hf' : WF D τ) {O' : List FT} (hCR : CR D τ x md O') : CJ D τ x md od q (wO S O') ∧ Cf D x σ τ :=
  ⟨(h.ck.rd hr hS fr hf').1.cj hCR, (h.ck.rd hr hS fr hf').2⟩
theorem CR.rd18 (h : CR D σ x md O) (hf : WF D σ) (hS : RdS D σ (x + 18) md F0 c) (fr : FrR σ τ (x + 18)) (hS' : RdS D τ (x + 18) m F c') : CR D τ x m F := by
  obtain ⟨_, ⟨m2, F2, c2, h2⟩, ⟨m3, F3, c3, h3⟩, d1, d2, d3⟩ := h
  obtain ⟨g2, e1⟩ := h2.other hS hf fr (by omega) d1
  obtain ⟨g3, e2⟩ := h3.other hS hf fr (by omega) d2
  refine ⟨⟨c', hS'⟩, ⟨m2, F2, c2, g2⟩, ⟨m3, F3, c3, g3⟩, e1, e2, ?_⟩
  intro i j hi hj e
  have ea : aR_ τ (x + 22 + 2) i = aR_ σ (x + 22 + 2) i := by
    refine fr.1.aR (hf.lt h2.2.1.1) (fun y => ?_)
    rcases WRd_t hS y with z | z | z
    · omega
    · have := h2.2.1.1; omega
    · have := h2.2.1.1; omega
  have eb : aR_ τ (x + 26 + 2) j = aR_ σ (x + 26 + 2) j := by
    refine fr.1.aR (hf.lt h3.2.1.1) (fun y => ?_)
    rcases WRd_t hS y with z | z | z
    · omega
    · have := h3.2.1.1; omega
    · have := h3.2.1.1; omega
  rw [ea, eb] at e
  rw [ea]; exact d3 i j hi hj e
theorem CR.rd22 (h : CR D σ x md O) (hf : WF D σ) (hS : RdS D σ (x + 22) m F0 c) (fr : FrR σ τ (x + 22)) {m' : Nat} (hS' : RdS D τ (x + 22) m' F c') : CR D τ x md O := by
  obtain ⟨⟨c1, h1⟩, _, ⟨m3, F3, c3, h3⟩, d1, d2, d3⟩ := h
  obtain ⟨g1, e1⟩ := h1.other hS hf fr (by omega) d1.symm
  obtain ⟨g3, e3⟩ := h3.other hS hf fr (by omega) d3
  refine ⟨⟨c1, g1⟩, ⟨m', F, c', hS'⟩, ⟨m3, F3, c3, g3⟩, e1.symm, ?_, e3⟩
  intro i j hi hj e
  have ea : aR_ τ (x + 18 + 2) i = aR_ σ (x + 18 + 2) i := by
    refine fr.1.aR (hf.lt h1.2.1.1) (fun y => ?_)
    rcases WRd_t hS y with z | z | z
    · omega
    · have := h1.2.1.1; omega
    · have := h1.2.1.1; omega
  have eb : aR_ τ (x + 26 + 2) j = aR_ σ (x + 26 + 2) j := by
    refine fr.1.aR (hf.lt h3.2.1.1) (fun y => ?_)
    rcases WRd_t hS y with z | z | z
    · omega
    · have := h3.2.1.1; omega
    · have := h3.2.1.1; omega
  rw [ea, eb] at e
  rw [ea]; exact d2 i j hi hj e
theorem CR.rd26 (h : CR D σ x md O) (hf : WF D σ) (hS : RdS D σ (x + 26) m F0 c) (fr : FrR σ τ (x + 26)) {m' : Nat} (hS' : RdS D τ (x + 26) m' F c') : CR D τ x md O := by
  obtain ⟨⟨c1, h1⟩, ⟨m2, F2, c2, h2⟩, _, d1, d2, d3⟩ := h
  obtain ⟨g1, e1⟩ := h1.other hS hf fr (by omega) d2.symm
  obtain ⟨g2, e2⟩ := h2.other hS hf fr (by omega) d3.symm
  refine ⟨⟨c1, g1⟩, ⟨m2, F2, c2, g2⟩, ⟨m', F, c', hS'⟩, ?_, e1.symm, e2.symm⟩
  intro i j hi hj e
  have ea : aR_ τ (x + 18 + 2) i = aR_ σ (x + 18 + 2) i := by
    refine fr.1.aR (hf.lt h1.2.1.1) (fun y => ?_)
    rcases WRd_t hS y with z | z | z
    · omega
    · have := h1.2.1.1; omega
    · have := h1.2.1.1; omega
  have eb : aR_ τ (x + 22 + 2) j = aR_ σ (x + 22 + 2) j := by
    refine fr.1.aR (hf.lt h2.2.1.1) (fun y => ?_)
    rcases WRd_t hS y with z | z | z
    · omega
    · have := h2.2.1.1; omega
    · have := h2.2.1.1; omega
  rw [ea, eb] at e
  rw [ea]; exact d1 i j hi hj e
end
