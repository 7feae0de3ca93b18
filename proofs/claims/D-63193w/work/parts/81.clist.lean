/-! lists: made, grown, cleared, an element removed -/
section
variable {S : Prop} {W : Nat → Prop} {D : Nat} {σ τ : Hp} {tk r : Nat} {R : List Nat} {c : Nat}
/-- a list is made -/
theorem l_init (hf : WF D σ) (ht : tg_ σ r = 11) (hlo : lo_ σ < r) (h0 : fI_ σ 10 2 r = 0) (tk : Nat) {post : Hp → Prop} (k : ∀ σ', WF D σ' → Kp False (fun q => q = r) σ σ' → Lst σ' tk r [] 0 → nx_ σ' = nx_ σ → post σ') : wJ2_init r σ post := by
  unfold wJ2_init wJ1_init wJ0_init
  refine ⟨ht, ht, ht, fun σ2 e2 => ⟨by rw [e2]; exact ht, fun σ4 e4 => ?_⟩⟩
  obtain ⟨a1, a2, a3, a4, a5, ⟨a61, a62, a63⟩, a7, a8⟩ := id hf
  have r0 : r ≠ 0 := by omega
  have kp : Kp False (fun q => q = r) σ σ4 := by rw [e4, e2]; (repeat' first | with_reducible exact Kp.refl | with_reducible assumption | with_reducible apply Kp.sI' | with_reducible apply Kp.sL' | with_reducible apply Kp.sR' | with_reducible apply Kp.wI' | with_reducible apply Kp.wR' | with_reducible apply Kp.cI' | with_reducible apply Kp.cR' | with_reducible apply Kp.mO' | with_reducible apply Kp.mA' | with_reducible apply Kp.bu' | exact Or.inl rfl | exact Or.inr (Nat.le_refl _) | exact Or.inr (by omega) | exact Or.inr (Or.inl (by omega)))
  have et : tg_ σ4 = tg_ σ := by rw [e4, e2]; rfl
  have ee : fR_ σ4 10 1 r = fR_ σ 100 1 0 := by rw [e4, e2, afR_sR, u3_e]; rfl
  have ec : fR_ σ4 100 1 0 = fR_ σ 100 1 0 := by rw [e4, e2, afR_sR, u3_c (by decide)]; rfl
  refine k σ4 (hf.kpq r kp (fun q hq => ?_) (by rw [et, e4, e2]; exact a1) (fun r' z1 z2 _ => ?_) (fun r' z1 z2 => ?_) (fun _ => ⟨?_, Or.inl ?_⟩)) kp ⟨by rw [et]; exact ht, by rw [e4, e2]; exact hlo, by rw [et, ee]; exact a61, by rw [ee, e4, e2]; exact a62, Or.inl rfl, ?_, by simp, fun i hi => absurd hi (by simp), Or.inr ⟨rfl, by rw [ee, ec]⟩, fun x hx => by cases hx⟩ (by rw [e4, e2]; rfl)
  · subst hq
    exact ⟨by rw [ht]; decide, fun z => by rw [ht] at z; omega, r0⟩
  · rw [et] at z1
    have := hf.lt z1; omega
  · rw [e4, e2, afR_sR, u3_r z2]; rfl
  · rw [ee, e4, e2]
    show _ < nx_ σ
    omega
  · rw [ee, e4, e2]; exact a63
  · rw [e4, e2, afI_sR, afI_sI, u3_k (by decide), h0]; rfl
/-- what growing a list leaves -/
def Grn (σ σ' : Hp) (r n : Nat) (R : List Nat) : Prop := Kp False (fun q => q = r) σ σ' ∧ fR_ σ' 10 1 r = nx_ σ ∧ tg_ σ' = u1_ (tg_ σ) (nx_ σ) 104 ∧ ln_ σ' (nx_ σ) = n ∧ (∀ i, i < R.length → aR_ σ' (nx_ σ) i = R.getD i 0) ∧ nx_ σ' = nx_ σ + 1 ∧ (∀ c k r', fI_ σ' c k r' = fI_ σ c k r') ∧ lo_ σ' = lo_ σ ∧ (∀ c k r', (c ≠ 10 ∨ k ≠ 1 ∨ r' ≠ r) → fR_ σ' c k r' = fR_ σ c k r')
theorem l_grow2 (h : Lst σ tk r R c) (hf : WF D σ) (htk : tk = 6 ∨ tk = 10) (hc : R.length = c) (hc33 : c < 33) (h1 : 1 ≤ bc_ σ) (h2 : capN c ≤ bs_ σ) {post : Nat → Hp → Prop} (k : ∀ σ', Grn σ σ' r (capN c) R → post (nx_ σ) σ') : wJ2_grow_2 r (nI (c + 1)) σ post := by
  obtain ⟨a1, a2, a3, a4, a5, a6, a7, a8, a9, a10⟩ := id h
  have hrn := hf.lt a1
  have hen := hf.lt a3
  have hlo := hf.2.1
  unfold wJ2_grow_2
  refine ⟨a1, a3, fun y hy => ?_⟩
  rw [a4] at hy
  subst hy
  have L20 : c ≠ 0 → wJ2_grow_2_L20 post r (nI (c + 1)) (nI c) σ := by
    intro h0
    have hcN : c + (if 1 < c / 2 then c / 2 else 1) = capN c ∧ capN c ≤ 33 ∧ c < capN c ∧ 1 < c / 2 := by
      unfold capOK at a5
      unfold capN
      rcases a5 with e | e | e | e | e
      · exact absurd e h0
      · subst e; decide
      · subst e; decide
      · subst e; decide
      · omega
    unfold wJ2_grow_2_L20 wJ7_newLength
    intro y1 hy1
    rw [pk_sub (by omega), pk_shrN (by omega) _ 1 (by decide), show c + 1 - c = 1 by omega, show (2 ^ 1 : Nat) = 2 from rfl] at hy1
    have ey : y1 = nI (capN c) := by
      rw [hy1, ← hcN.1]
      have e2 : (nI 1 < nI (c / 2)) ↔ 1 < c / 2 := nI_ltI (by decide) (by omega)
      rw [if_pos (e2.mpr hcN.2.2.2), if_pos hcN.2.2.2, nI_add]
    subst ey
    refine ⟨fun z => ?_, fun _ => ⟨fun z => ?_, fun _ => ⟨a1, 1, capN c, h1, h2, ?_⟩⟩⟩
    · rw [li_0, nI_leI (by omega) (by omega)] at z; omega
    · rw [show (2147483639 : Int32) = nI 2147483639 from rfl, nI_ltI (by omega) (by omega)] at z; omega
    · unfold wJ9_copyOf_2
      refine ⟨a3, 1, capN c, Nat.le_refl _, Nat.le_refl _, ?_⟩
      unfold wJ9_copyOf_3
      refine ⟨fun z => absurd rfl z, fun _ => ⟨nI_pos (by omega), by rw [nI_clamp (by omega)]; omega, Nat.le_refl _, by rw [nI_clamp (by omega)]; exact Nat.le_refl _, fun σ3 e3 => ?_⟩⟩
      rw [nI_clamp (by omega)] at e3
      unfold wJ9_copyOf_3_L24
      have t3 : tg_ σ3 = u1_ (tg_ σ) (nx_ σ) 104 := by rw [e3]; rfl
      have n3 : ln_ σ3 = u1_ (ln_ σ) (nx_ σ) (capN c) := by rw [e3]; rfl
      have g1 : tg_ σ3 (fR_ σ 10 1 r) = 104 := by rw [t3, u1_k (by omega)]; exact a3
      have g2 : tg_ σ3 (nx_ σ) = 104 := by rw [t3, u1_e]
      have g3 : ln_ σ3 (fR_ σ 10 1 r) = c := by rw [n3, u1_k (by omega)]; exact a4
      have g4 : ln_ σ3 (nx_ σ) = capN c := by rw [n3, u1_e]
      have hmin : (if nI (capN c) < nI c then nI (capN c) else nI c) = nI c := by
        have hlt : ¬ nI (capN c) < nI c := by rw [nI_ltI (by omega) (by omega)]; omega
        rw [if_neg hlt]
      have hcl : (nI c).toNatClampNeg = c := nI_clamp (by omega)
      have h0c : ((0 : Int32)).toNatClampNeg = 0 := by decide
      have aR3 : ∀ i, aR_ σ3 (fR_ σ 10 1 r) i = aR_ σ (fR_ σ 10 1 r) i := fun i => by rw [e3, aaR_mA, z2_r (by rw [anx_bu, anx_bu]; omega)]; rfl
      refine ⟨g1, g2, by rw [e3]; exact hlo, by decide, by decide, ?_, ?_, ?_, fun i hi => ?_, fun σ10 e10 => ?_⟩
      · show ¬ (if nI (capN c) < nI (ln_ σ3 (fR_ σ 10 1 r)) then nI (capN c) else nI (ln_ σ3 (fR_ σ 10 1 r))) < 0
        rw [g3, hmin]; exact nI_pos (by omega)
      · show ((0 : Int32)).toNatClampNeg + (if nI (capN c) < nI (ln_ σ3 (fR_ σ 10 1 r)) then nI (capN c) else nI (ln_ σ3 (fR_ σ 10 1 r))).toNatClampNeg ≤ ln_ σ3 (fR_ σ 10 1 r)
        rw [g3, hmin, hcl, h0c]; omega
      · show ((0 : Int32)).toNatClampNeg + (if nI (capN c) < nI (ln_ σ3 (fR_ σ 10 1 r)) then nI (capN c) else nI (ln_ σ3 (fR_ σ 10 1 r))).toNatClampNeg ≤ ln_ σ3 (nx_ σ)
        rw [g3, g4, hmin, hcl, h0c]; omega
      · have hi' : i < (if nI (capN c) < nI (ln_ σ3 (fR_ σ 10 1 r)) then nI (capN c) else nI (ln_ σ3 (fR_ σ 10 1 r))).toNatClampNeg := hi
        rw [g3, hmin, hcl] at hi'
        show st_ σ3 104 (aR_ σ3 (fR_ σ 10 1 r) (((0 : Int32)).toNatClampNeg + i))
        rw [h0c, Nat.zero_add, aR3, a8 i (by omega)]
        have hx := a10 _ (getD_mem (d := 0) (show i < R.length by omega))
        have hxn := h.lt hf (by omega) _ (getD_mem (d := 0) (show i < R.length by omega))
        refine Or.inr ⟨tk - 1, by omega, ?_, fun z => by omega⟩
        rw [t3, u1_k (by omega), hx]; omega
      · have e10' : σ10 = cR_ σ3 (fR_ σ 10 1 r) 0 (nx_ σ) 0 c := by
          rw [e10]
          show cR_ σ3 (fR_ σ 10 1 r) ((0 : Int32)).toNatClampNeg (nx_ σ) ((0 : Int32)).toNatClampNeg (if nI (capN c) < nI (ln_ σ3 (fR_ σ 10 1 r)) then nI (capN c) else nI (ln_ σ3 (fR_ σ 10 1 r))).toNatClampNeg = _
          rw [g3, hmin, hcl, h0c]
        intro σ12 e12 σ13 e13
        refine ⟨?_, fun σ11 e11 => ?_⟩
        · rw [e13, e12, e10']
          show tg_ σ3 r = 11
          rw [t3, u1_k (by omega)]; exact a1
        · have := k σ11 ⟨?_, ?_, ?_, ?_, fun i hi => ?_, ?_, fun c' k' r' => ?_, ?_, fun c' k' r' hne => ?_⟩
          · exact this
          · rw [e11, e13, e12, e10', e3]
            (repeat' first | with_reducible exact Kp.refl | with_reducible assumption | with_reducible apply Kp.sI' | with_reducible apply Kp.sL' | with_reducible apply Kp.sR' | with_reducible apply Kp.wI' | with_reducible apply Kp.wR' | with_reducible apply Kp.cI' | with_reducible apply Kp.cR' | with_reducible apply Kp.mO' | with_reducible apply Kp.mA' | with_reducible apply Kp.bu' | exact Or.inl rfl | exact Or.inr (Nat.le_refl _) | exact Or.inr (by omega) | exact Or.inr (Or.inl (by omega)))
          · rw [e11, afR_sR, u3_e]; rfl
          · rw [e11, e13, e12, e10']; exact t3
          · rw [e11, e13, e12, e10']; exact g4
          · rw [e11, e13, e12, e10']
            show cp_ (aR_ σ3) (fR_ σ 10 1 r) 0 (nx_ σ) 0 c (nx_ σ) i = _
            rw [cp_i (by omega) (by omega), aR3, show 0 + (i - 0) = i by omega]
            exact a8 i hi
          · rw [e11, e13, e12, e10', e3]; rfl
          · rw [e11, e13, e12, e10', e3]; rfl
          · rw [e11, e13, e12, e10', e3]; rfl
          · rw [e11, e13, e12, e10', e3, afR_sR]
            unfold u3_
            rw [if_neg (by omega)]; rfl
  refine ⟨fun z => ?_, fun z => ?_⟩
  · refine L20 (fun e => ?_)
    rw [li_0, nI_ltI (by decide) (by omega)] at z
    omega
  · have c0 : c = 0 := by
      rw [li_0, nI_ltI (by decide) (by omega)] at z
      omega
    subst c0
    refine ⟨fun ee => ?_, fun ee => ?_⟩
    · have e10 : (if (10 : Int32) < nI (0 + 1) then nI (0 + 1) else (10 : Int32)) = nI 10 := by decide
      rw [e10]
      refine ⟨by decide, by decide, h1, by rw [nI_clamp (by decide)]; exact h2, fun σ3 e3 => ⟨?_, fun σ4 e4 => ?_⟩⟩
      · rw [e3]; show u1_ (tg_ σ) _ _ r = 11; rw [u1_k (by omega)]; exact a1
      · rw [nI_clamp (by decide)] at e3
        refine k σ4 ⟨?_, ?_, ?_, ?_, fun i hi => by omega, ?_, fun c' k' r' => ?_, ?_, fun c' k' r' hne => ?_⟩
        · rw [e4, e3]; (repeat' first | with_reducible exact Kp.refl | with_reducible assumption | with_reducible apply Kp.sI' | with_reducible apply Kp.sL' | with_reducible apply Kp.sR' | with_reducible apply Kp.wI' | with_reducible apply Kp.wR' | with_reducible apply Kp.cI' | with_reducible apply Kp.cR' | with_reducible apply Kp.mO' | with_reducible apply Kp.mA' | with_reducible apply Kp.bu' | exact Or.inl rfl | exact Or.inr (Nat.le_refl _) | exact Or.inr (by omega) | exact Or.inr (Or.inl (by omega)))
        · rw [e4, afR_sR, u3_e]
        · rw [e4, e3]; rfl
        · rw [e4, e3]; show u1_ _ _ _ _ = _; rw [u1_e]; rfl
        · rw [e4, e3]; rfl
        · rw [e4, e3]; rfl
        · rw [e4, e3]; rfl
        · rw [e4, e3, afR_sR]
          unfold u3_
          rw [if_neg (by omega)]; rfl
    · exfalso
      rcases a9 with y | y
      · exact y.2 rfl
      · exact ee y.2
end
