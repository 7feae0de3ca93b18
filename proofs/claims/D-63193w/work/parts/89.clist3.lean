/-! lists: all are cleared, one is removed -/
section
variable {S : Prop} {W : Nat → Prop} {D n : Nat} {σ0 σ σ' τ : Hp} {q c tk r : Nat} {t : TT} {rf : Nat → Nat} {R : List Nat}
/-- the order stays where tags and lists' arrays do -/
theorem WF.same (hf : WF D σ) (k : Kp S W σ σ') (hw : WS D σ W) (ht : tg_ σ' = tg_ σ) (hn : nx_ σ' = nx_ σ) (hr : fR_ σ' = fR_ σ) : WF D σ' :=
  hf.kp k hw (by rw [ht, hn]; exact hf.1) (fun r z => by rw [ht] at z; exact hf.lt z) (fun r _ => by rw [hr])
theorem l_clear (h : Lst σ tk r R c) (hf : WF D σ) {post : Hp → Prop} (k : ∀ σ', WF D σ' → Kp False (WL σ r) σ σ' → Lst σ' tk r [] c → fR_ σ' = fR_ σ → tg_ σ' = tg_ σ → nx_ σ' = nx_ σ → bc_ σ' = bc_ σ → bs_ σ' = bs_ σ → post σ') : wJ2_clear r σ post := by
  have hl := h.len
  have hws := WL_WS h hf
  obtain ⟨a1, a2, a3, a4, a5, a6, a7, a8, a9, a10⟩ := id h
  unfold wJ2_clear
  refine ⟨a1, fun σ9 e9 y10 hy10 y11 hy11 σ12 e12 => ?_⟩
  have hy10' : y10 = fR_ σ 10 1 r := by rw [hy10, e9]; rfl
  have hy11' : y11 = nI R.length := by rw [hy11, e9, afI_sI, u3_k (by decide)]; exact a6
  subst hy10' hy11'
  unfold wJ2_clear_L27
  refine lpG2 (B := fun Rc x s => wJ2_clear_B27 post Rc (fR_ σ 10 1 r) (nI R.length) x s) (fun j x s => j ≤ R.length ∧ x = nI (R.length - j) ∧ Kp False (WL σ r) σ s ∧ tg_ s = tg_ σ ∧ ln_ s = ln_ σ ∧ nx_ s = nx_ σ ∧ fR_ s = fR_ σ ∧ fI_ s 10 2 r = nI 0 ∧ bc_ s = bc_ σ ∧ bs_ s = bs_ σ) R.length ⟨Nat.le_refl _, by simp [nI_0], ?_, by rw [e12, e9]; rfl, by rw [e12, e9]; rfl, by rw [e12, e9]; rfl, by rw [e12, e9]; rfl, by rw [e12, afI_sI, u3_e]; rfl, by rw [e12, e9]; rfl, by rw [e12, e9]; rfl⟩ ?_
  · rw [e12, e9]
    exact Kp.sI' (Kp.sI' Kp.refl (Or.inl (Or.inl rfl))) (Or.inl (Or.inl rfl))
  rintro j x s Rc ⟨h1, rfl, h3, h4, h5, h6, h7, h8, h9, h10⟩ hR
  unfold wJ2_clear_B27
  rw [nI_leI (by omega) (by omega)]
  refine ⟨fun z => ?_, fun z => ?_⟩
  · have f : WF D s := hf.same h3 hws h4 h6 h7
    refine k s f h3 ⟨by rw [h4]; exact a1, by rw [h3.1]; exact a2, by rw [h7, h4]; exact a3, by rw [h7, h5]; exact a4, a5, h8, Nat.zero_le _, fun i hi => absurd hi (by simp), by rw [h7, h3.1]; exact a9, fun x hx => by cases hx⟩ h7 h4 h6 h9 h10
  · have hlo : lo_ σ < fR_ σ 10 1 r := by
      rcases a9 with z | z
      · exact z.1
      · omega
    refine ⟨by rw [h4]; exact a3, by rw [h3.1]; exact hlo, by rw [h5, a4]; exact (vin_ (by omega)).mpr (by omega), Or.inl rfl, fun s6 e6 y hy => hR (j - 1) y s6 (by omega) ⟨by omega, by rw [hy, li_1, nI_add]; congr 1; omega, ?_, by rw [e6]; exact h4, by rw [e6]; exact h5, by rw [e6]; exact h6, by rw [e6]; exact h7, by rw [e6]; exact h8, by rw [e6]; exact h9, by rw [e6]; exact h10⟩⟩
    rw [e6]
    exact Kp.wR' h3 (Or.inl (Or.inr ⟨rfl, hlo⟩))
theorem getD_erase {l : List Nat} {i k : Nat} : (l.eraseIdx i).getD k 0 = if k < i then l.getD k 0 else l.getD (k + 1) 0 := by
  rw [List.getD_eq_getElem?_getD, List.getElem?_eraseIdx]
  split <;> rw [List.getD_eq_getElem?_getD]
theorem l_remove (h : Lst σ tk r R c) (hf : WF D σ) {i : Nat} (hi : i < R.length) (htk : tk = 6 ∨ tk = 10) {post : Nat → Hp → Prop} (k : ∀ y σ', WF D σ' → Kp False (WL σ r) σ σ' → Lst σ' tk r (R.eraseIdx i) c → fR_ σ' = fR_ σ → tg_ σ' = tg_ σ → nx_ σ' = nx_ σ → bc_ σ' = bc_ σ → bs_ σ' = bs_ σ → post y σ') : wJ2_remove r (nI i) σ post := by
  have hl := h.len
  have hws := WL_WS h hf
  obtain ⟨a1, a2, a3, a4, a5, a6, a7, a8, a9, a10⟩ := id h
  have hlo : lo_ σ < fR_ σ 10 1 r := by
    rcases a9 with z | z
    · exact z.1
    · omega
  unfold wJ2_remove
  rw [a6]
  refine ⟨a1, l_ci hi (by omega) (fun y3 hy3 => ?_)⟩
  subst hy3
  refine ⟨a3, by rw [a4]; exact (vin_ (by omega)).mpr (by omega), fun y6 hy6 => ?_⟩
  unfold wJ2_fastRemove
  refine ⟨a1, fun σ9 e9 y10 hy10 => ?_⟩
  have i9 : fI_ σ9 10 2 r = nI R.length := by rw [e9, afI_sI, u3_k (by decide)]; exact a6
  rw [i9, li_1, pk_sub (by omega)] at hy10
  subst hy10
  rw [i9, li_1, pk_sub (by omega), nI_leI (by omega) (by omega)]
  have L34 : ∀ s : Hp, Kp False (WL σ r) σ s → tg_ s = tg_ σ → ln_ s = ln_ σ → nx_ s = nx_ σ → fR_ s = fR_ σ → bc_ s = bc_ σ → bs_ s = bs_ σ → (∀ k, k < R.length - 1 → aR_ s (fR_ σ 10 1 r) k = (R.eraseIdx i).getD k 0) → wJ2_fastRemove_L34 (fun σ7 => post y6 σ7) r (fR_ σ 10 1 r) (nI (R.length - 1)) s := by
    intro s h3 h4 h5 h6 h7 h9 h10 h11
    unfold wJ2_fastRemove_L34
    refine ⟨by rw [h4]; exact a1, fun s2 e2 => ⟨by rw [e2]; show tg_ s _ = _; rw [h4]; exact a3, by rw [e2]; show lo_ s < _; rw [h3.1]; exact hlo, by rw [e2]; show vp_in _ (ln_ s _); rw [h5, a4]; exact (vin_ (by omega)).mpr (by omega), Or.inl rfl, fun s7 e7 => ?_⟩⟩
    rw [nI_clamp (by omega)] at e7
    have k7 : Kp False (WL σ r) σ s7 := by
      rw [e7, e2]
      exact Kp.wR' (Kp.sI' h3 (Or.inl (Or.inl rfl))) (Or.inl (Or.inr ⟨rfl, hlo⟩))
    have t7 : tg_ s7 = tg_ σ := by rw [e7, e2]; exact h4
    have r7 : fR_ s7 = fR_ σ := by rw [e7, e2]; exact h7
    have n7 : nx_ s7 = nx_ σ := by rw [e7, e2]; exact h6
    have le : (R.eraseIdx i).length = R.length - 1 := by rw [List.length_eraseIdx, if_pos hi]
    refine k _ s7 (hf.same k7 hws t7 n7 r7) k7 ⟨by rw [t7]; exact a1, by rw [k7.1]; exact a2, by rw [r7, t7]; exact a3, by rw [r7, e7, e2]; show ln_ s _ = _; rw [h5]; exact a4, a5, by rw [e7, afI_wR, e2, afI_sI, u3_e, le], by omega, fun k hk => ?_, by rw [r7, k7.1]; exact a9, fun x hx => by rw [t7]; exact a10 x (List.mem_of_mem_eraseIdx hx)⟩ r7 t7 n7 (by rw [e7, e2]; exact h9) (by rw [e7, e2]; exact h10)
    rw [r7, e7, aaR_wR, u2_i (by omega), e2, aaR_sI]
    exact h11 k (by omega)
  have k9 : Kp False (WL σ r) σ σ9 := by rw [e9]; exact Kp.sI' Kp.refl (Or.inl (Or.inl rfl))
  refine ⟨fun z => L34 σ9 k9 (by rw [e9]; rfl) (by rw [e9]; rfl) (by rw [e9]; rfl) (by rw [e9]; rfl) (by rw [e9]; rfl) (by rw [e9]; rfl) (fun k hk => ?_), fun z => ?_⟩
  · rw [e9, aaR_sI, a8 k (by omega), getD_erase, if_pos (by omega)]
  · have e1 : nI i + nI 1 = nI (i + 1) := nI_add _ _
    rw [e1, pk_sub (by omega)]
    have c1 : (nI (i + 1)).toNatClampNeg = i + 1 := nI_clamp (by omega)
    have c2 : (nI i).toNatClampNeg = i := nI_clamp (by omega)
    have c3 : (nI (R.length - 1 - i)).toNatClampNeg = R.length - 1 - i := nI_clamp (by omega)
    rw [c1, c2, c3]
    have t9 : tg_ σ9 = tg_ σ := by rw [e9]; rfl
    have l9 : ln_ σ9 = ln_ σ := by rw [e9]; rfl
    refine ⟨by rw [t9]; exact a3, by rw [k9.1]; exact hlo, nI_pos (by omega), nI_pos (by omega), nI_pos (by omega), by rw [l9, a4]; omega, by rw [l9, a4]; omega, fun m hm => ?_, fun s20 e20 => ?_⟩
    · rw [e9, aaR_sI, a8 _ (by omega)]
      have hx := a10 _ (getD_mem (d := 0) (show i + 1 + m < R.length by omega))
      exact Or.inr ⟨tk - 1, by omega, by show tg_ σ _ = _; rw [hx]; omega, fun z => by omega⟩
    · refine L34 s20 ?_ (by rw [e20]; exact t9) (by rw [e20]; exact l9) (by rw [e20, e9]; rfl) (by rw [e20, e9]; rfl) (by rw [e20, e9]; rfl) (by rw [e20, e9]; rfl) (fun k hk => ?_)
      · rw [e20]
        exact Kp.cR' k9 (Or.inl (Or.inr ⟨rfl, hlo⟩))
      · rw [e20, aaR_cR, getD_erase]
        by_cases y : k < i
        · rw [if_pos y, cp_o (by omega), e9, aaR_sI, a8 k (by omega)]
        · rw [if_neg y, cp_i (by omega) (by omega), e9, aaR_sI, a8 _ (by omega)]
          congr 1; omega
end
