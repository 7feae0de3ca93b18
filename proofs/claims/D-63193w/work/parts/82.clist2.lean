/-! lists: an element is added, all are cleared, one is removed -/
section
variable {S : Prop} {W : Nat → Prop} {D : Nat} {σ τ : Hp} {tk r x : Nat} {R : List Nat} {c : Nat}
def capA (R : List Nat) (c : Nat) : Nat := if R.length = c then capN c else c
theorem capN_ok {c : Nat} (h : capOK c) (hc : c < 33) : capOK (capN c) ∧ c < capN c ∧ capN c ≤ 33 := by
  unfold capOK at h
  rcases h with e | e | e | e | e
  · subst e; exact ⟨Or.inr (Or.inl rfl), by decide, by decide⟩
  · subst e; exact ⟨Or.inr (Or.inr (Or.inl rfl)), by decide, by decide⟩
  · subst e; exact ⟨Or.inr (Or.inr (Or.inr (Or.inl rfl))), by decide, by decide⟩
  · subst e; exact ⟨Or.inr (Or.inr (Or.inr (Or.inr rfl))), by decide, by decide⟩
  · omega
/-- what adding to a list leaves -/
def Add (D : Nat) (σ σ' : Hp) (tk r : Nat) (R : List Nat) (c x : Nat) : Prop := WF D σ' ∧ Kp False (WL σ r) σ σ' ∧ Lst σ' tk r (R ++ [x]) (capA R c) ∧ (fR_ σ' 10 1 r = fR_ σ 10 1 r ∨ nx_ σ ≤ fR_ σ' 10 1 r) ∧ (∀ q, tg_ σ' q ≠ 0 → nx_ σ ≤ q → tg_ σ' q = 104)
theorem l_add (h : Lst σ tk r R c) (hf : WF D σ) (hx : tg_ σ x = tk) (htk : tk = 6 ∨ tk = 10) (hlen : R.length < 33) (h1 : R.length = c → 1 ≤ bc_ σ ∧ capN c ≤ bs_ σ) {post : Int32 → Hp → Prop} (k : ∀ σ', Add D σ σ' tk r R c x → post 1 σ') : wJ2_add r x σ post := by
  obtain ⟨a1, a2, a3, a4, a5, a6, a7, a8, a9, a10⟩ := id h
  have hrn := hf.lt a1
  have hen := hf.lt a3
  have hxn : x < nx_ σ := hf.1 x (by omega)
  have hc33 : capOK c := a5
  unfold wJ2_add
  refine ⟨a1, fun σ2 e2 => ?_⟩
  have h2 : Lst σ2 tk r R c := by
    rw [e2]
    exact ⟨a1, a2, a3, a4, a5, by rw [afI_sI, u3_k (by decide)]; exact a6, a7, a8, a9, a10⟩
  have k2 : Kp False (WL σ r) σ σ2 := by rw [e2]; exact Kp.sI' Kp.refl (Or.inl (Or.inl rfl))
  have f2 : WF D σ2 := by rw [e2]; exact hf
  have b2 : bc_ σ2 = bc_ σ ∧ bs_ σ2 = bs_ σ := by rw [e2]; exact ⟨rfl, rfl⟩
  have n2 : nx_ σ2 = nx_ σ := by rw [e2]; rfl
  have t2 : tg_ σ2 = tg_ σ := by rw [e2]; rfl
  have r2 : fR_ σ2 = fR_ σ := by rw [e2]; rfl
  have l2 : lo_ σ2 = lo_ σ := by rw [e2]; rfl
  have hst : ∀ σ' : Hp, tg_ σ' x = tk → st_ σ' 104 x := fun σ' z => Or.inr ⟨tk - 1, by omega, by omega, fun z => by omega⟩
  -- the store
  have L11 : ∀ (τ : Hp) (e n : Nat) (post' : Hp → Prop), Kp False (WL σ r) σ τ → tg_ τ e = 104 → lo_ σ < e → ln_ τ e = n → R.length < n → n ≤ 33 → capOK n → fR_ τ 10 1 r = e → fI_ τ 10 2 r = nI R.length → (∀ i, i < R.length → aR_ τ e i = R.getD i 0) → (e = fR_ σ 10 1 r ∨ nx_ σ ≤ e) → e < nx_ τ → n = capA R c → (∀ q, tg_ τ q ≠ 0 → q < nx_ τ) → (∀ q, tg_ τ q ≠ 0 → nx_ σ ≤ q → tg_ τ q = 104) → (∀ q, tg_ σ q = 11 → q ≠ r → fR_ τ 10 1 q = fR_ σ 10 1 q) → (∀ σ', Add D σ σ' tk r R c x → post' σ') → wJ2_add_2_L11 post' r x e (nI R.length) τ := by
    intro τ e n post' q1 q2 q3 q4 q5 q6 q7 q8 q9 q10 q11 q12 q13 q14 q15 q16 kk
    have tr : tg_ τ r = 11 := by rw [q1.t hrn]; exact a1
    unfold wJ2_add_2_L11
    refine ⟨q2, by rw [q1.1]; exact q3, by rw [q4]; exact (vin_ (by omega)).mpr (by omega), hst τ (by rw [q1.t hxn]; exact hx), fun σ5 e5 => ⟨by rw [e5]; exact tr, fun σ7 e7 => ?_⟩⟩
    rw [nI_clamp (by omega)] at e5
    have kp : Kp False (WL σ r) σ σ7 := by
      rw [e7, e5]
      refine Kp.sI' (Kp.wR' q1 ?_) (Or.inl (Or.inl rfl))
      rcases q11 with z | z
      · exact Or.inl (Or.inr ⟨z, q3⟩)
      · exact Or.inr z
    have t7 : tg_ σ7 = tg_ τ := by rw [e7, e5]; rfl
    have r7 : fR_ σ7 = fR_ τ := by rw [e7, e5]; rfl
    have n7 : nx_ σ7 = nx_ τ := by rw [e7, e5]; rfl
    refine kk σ7 ⟨hf.kpq r kp (WL_WS h hf) (by rw [t7, n7]; exact q14) (fun q z1 z2 z3 => ?_) (fun q z1 z2 => by rw [r7]; exact q16 q z1 z2) (fun _ => ⟨by rw [r7, n7, q8]; exact q12, ?_⟩), kp, ⟨by rw [t7]; exact tr, by rw [kp.1]; exact a2, by rw [r7, t7, q8]; exact q2, by rw [r7, q8, e7, e5]; show ln_ τ e = _; rw [q4, q13], by rw [← q13]; exact q7, ?_, by rw [← q13]; simp; omega, fun i hi => ?_, Or.inl ⟨by rw [r7, q8, kp.1]; exact q3, by omega⟩, fun y hy => ?_⟩, by rw [r7, q8]; exact q11, by rw [t7]; exact q15⟩
    · rw [t7] at z1
      have := q15 q (by rw [z1]; decide) z2
      rw [this] at z1; cases z1
    · rw [r7, q8]
      rcases q11 with z | z
      · exact Or.inr (Or.inr ⟨a1, z⟩)
      · exact Or.inr (Or.inl z)
    · rw [e7, afI_sI, u3_e, List.length_append, li_1, nI_add]; rfl
    · rw [r7, q8, e7, e5, aaR_sI, aaR_wR]
      by_cases z : i = R.length
      · subst z
        rw [u2_e, List.getD_eq_getElem?_getD, List.getElem?_append_right (Nat.le_refl _)]; simp
      · have hi' : i < R.length := by simp at hi; omega
        rw [u2_i z, q10 i hi', gD_app hi']
    · rw [t7]
      rcases List.mem_append.mp hy with z | z
      · rw [q1.t (h.lt hf (by omega) y z)]; exact a10 y z
      · simp at z
        rw [z, q1.t hxn]; exact hx
  by_cases hc : R.length = c
  · -- it grows
    obtain ⟨w1, w2⟩ := h1 hc
    have c33 : c < 33 := by omega
    obtain ⟨v1, v2, v3⟩ := capN_ok a5 c33
    refine ⟨1, capN c, by rw [b2.1]; exact w1, by rw [b2.2]; exact w2, ?_⟩
    unfold wJ2_add_2
    refine ⟨by rw [r2]; show tg_ σ2 _ = 104; rw [t2]; exact a3, fun z => absurd ?_ z, fun _ => ⟨by show tg_ σ2 r = 11; rw [t2]; exact a1, 1, capN c, Nat.le_refl _, Nat.le_refl _, ?_⟩⟩
    · show fI_ σ2 10 2 r = nI (ln_ σ2 (fR_ σ2 10 1 r))
      rw [h2.2.2.2.2.2.1, h2.2.2.2.1, hc]
    · unfold wJ2_grow
      refine ⟨by show tg_ σ2 r = 11; rw [t2]; exact a1, 1, capN c, Nat.le_refl _, Nat.le_refl _, ?_⟩
      have e6 : fI_ σ2 10 2 r + 1 = nI (c + 1) := by rw [h2.2.2.2.2.2.1, hc, li_1, nI_add]
      show wJ2_grow_2 r (fI_ σ2 10 2 r + 1) _ _
      rw [e6]
      refine l_grow2 (σ := bu_ (bu_ (bu_ σ2 1 (capN c)) 1 (capN c)) 1 (capN c)) h2 f2 htk hc c33 (Nat.le_refl _) (Nat.le_refl _) (fun σ9 g => ?_)
      intro σ10 e10 σ11 e11
      obtain ⟨g1, g2, g3, g4, g5, g6, g7, g8, g9⟩ := g
      have g1' : Kp False (fun q => q = r) σ2 σ9 := g1
      have g3' : tg_ σ9 = u1_ (tg_ σ2) (nx_ σ2) 104 := g3
      have g6' : nx_ σ9 = nx_ σ2 + 1 := g6
      have ka : Kp False (WL σ r) σ σ11 := by
        rw [e11, e10]
        exact k2.trans g1' (fun q _ z => Or.inl z)
      show wJ2_add_2_L11 _ r x (nx_ σ2) (fI_ σ2 10 2 r) σ11
      rw [h2.2.2.2.2.2.1]
      refine L11 σ11 (nx_ σ2) (capN c) _ ka ?_ ?_ ?_ (by omega) v3 v1 ?_ ?_ (fun i hi => ?_) (Or.inr (by omega)) ?_ (by unfold capA; rw [if_pos hc]) (fun q hq => ?_) (fun q hq hq2 => ?_) (fun q hq hq2 => ?_) (fun σ' hA σ'' e'' => ?_)
      · rw [e11, e10]; show tg_ σ9 _ = _; rw [g3', u1_e]
      · have := hf.2.1; omega
      · rw [e11, e10]; exact g4
      · rw [e11, e10]; exact g2
      · rw [e11, e10]
        have := g7 10 2 r
        show fI_ σ9 10 2 r = _
        rw [this]; exact h2.2.2.2.2.2.1
      · rw [e11, e10]; exact g5 i hi
      · rw [e11, e10]; show _ < nx_ σ9; omega
      · rw [e11, e10] at hq ⊢
        have hq' : tg_ σ9 q ≠ 0 := hq
        show q < nx_ σ9
        rw [g3'] at hq'
        by_cases z : q = nx_ σ2
        · omega
        · rw [u1_k z, t2] at hq'
          have := hf.1 q hq'; omega
      · rw [e11, e10] at hq ⊢
        have hq' : tg_ σ9 q ≠ 0 := hq
        show tg_ σ9 q = 104
        rw [g3'] at hq' ⊢
        by_cases z : q = nx_ σ2
        · rw [z, u1_e]
        · rw [u1_k z, t2] at hq'
          have := hf.1 q hq'; omega
      · rw [e11, e10]
        show fR_ σ9 10 1 q = _
        rw [g9 10 1 q (by omega)]
        show fR_ σ2 10 1 q = _
        rw [r2]
      · rw [e'']
        exact k _ hA
  · -- it doesn't
    refine ⟨0, 0, Nat.zero_le _, Nat.zero_le _, ?_⟩
    unfold wJ2_add_2
    have hlt : R.length < c := by omega
    have c33 : c ≤ 33 := by unfold capOK at a5; omega
    have hlo : lo_ σ < fR_ σ 10 1 r := by
      rcases a9 with z | z
      · exact z.1
      · omega
    refine ⟨by rw [r2]; show tg_ σ2 _ = 104; rw [t2]; exact a3, fun _ => ?_, fun z => ?_⟩
    · rw [h2.2.2.2.2.2.1, r2]
      refine L11 (bu_ σ2 0 0) (fR_ σ 10 1 r) c _ k2 (by show tg_ σ2 _ = 104; rw [t2]; exact a3) hlo (by show ln_ σ2 _ = c; rw [e2]; exact a4) hlt c33 a5 (by show fR_ σ2 10 1 r = _; rw [r2]) h2.2.2.2.2.2.1 (fun i hi => by show aR_ σ2 _ i = _; rw [e2]; exact a8 i hi) (Or.inl rfl) (by show _ < nx_ σ2; omega) (by unfold capA; rw [if_neg hc]) (by show ∀ q, tg_ σ2 q ≠ 0 → q < nx_ σ2; rw [t2, n2]; exact hf.1) (fun q hq hq2 => ?_) (fun q _ _ => by show fR_ σ2 10 1 q = _; rw [r2]) (fun σ' hA σ'' e'' => ?_)
      · have hq' : tg_ σ2 q ≠ 0 := hq
        rw [t2] at hq'
        have := hf.1 q hq'; omega
      · rw [e'']; exact k _ hA
    · exfalso
      have z' : fI_ σ2 10 2 r = nI (ln_ σ2 (fR_ σ2 10 1 r)) := z
      rw [h2.2.2.2.2.2.1, h2.2.2.2.1, nI_eq (by omega) (by omega)] at z'
      exact hc z'
/-- a call of add: what it costs -/
def g1A (R : List Nat) (c : Nat) : Nat := if R.length = c then 1 else 0
def g2A (R : List Nat) (c : Nat) : Nat := if R.length = c then capN c else 0
theorem Add.bu {σ' : Hp} {k n : Nat} (h : Add D σ σ' tk r R c x) : Add D σ (bu_ σ' k n) tk r R c x := h
theorem l_addC (h : Lst σ tk r R c) (hf : WF D σ) (hx : tg_ σ x = tk) (htk : tk = 6 ∨ tk = 10) (hlen : R.length < 33) (h1 : g1A R c ≤ bc_ σ) (h2 : g2A R c ≤ bs_ σ) {post : Int32 → Hp → Prop} (k : ∀ σ', Add D σ σ' tk r R c x → bc_ σ' = bc_ σ - g1A R c → bs_ σ' = bs_ σ - g2A R c → post 1 σ') :
    ∃ mc ms : Nat, mc ≤ bc_ σ ∧ ms ≤ bs_ σ ∧ wJ2_add r x (bu_ σ mc ms) (fun r' σ' => ∀ σ'', σ'' = bu_ σ' (bc_ σ - mc) (bs_ σ - ms) → post r' σ'') := by
  refine ⟨g1A R c, g2A R c, h1, h2, l_add (σ := bu_ σ (g1A R c) (g2A R c)) h hf hx htk hlen (fun e => ⟨?_, ?_⟩) (fun σ' hA σ'' e'' => ?_)⟩
  · show 1 ≤ g1A R c
    unfold g1A; rw [if_pos e]; exact Nat.le_refl _
  · show capN c ≤ g2A R c
    unfold g2A; rw [if_pos e]; exact Nat.le_refl _
  · rw [e'']
    exact k _ hA.bu rfl rfl
end
