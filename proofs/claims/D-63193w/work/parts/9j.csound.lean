/-! the reader: a record is sound -/
/-- only numbers of the reader r may differ -/
def RF (r : Nat) (σ σ' : Hp) : Prop := tg_ σ' = tg_ σ ∧ fR_ σ' = fR_ σ ∧ ln_ σ' = ln_ σ ∧ aI_ σ' = aI_ σ ∧ aL_ σ' = aL_ σ ∧ aR_ σ' = aR_ σ ∧ nx_ σ' = nx_ σ ∧ bc_ σ' = bc_ σ ∧ bs_ σ' = bs_ σ ∧ lo_ σ' = lo_ σ ∧ (∀ c k q, q ≠ r → fI_ σ' c k q = fI_ σ c k q) ∧ (∀ c k q, q ≠ r → fL_ σ' c k q = fL_ σ c k q)
section
variable {S : Prop} {D n : Nat} {σ σ' τ : Hp} {r md p L : Nat} {B St : Nat → Nat} {Df : Nat → Bool}
theorem RF.refl : RF r σ σ := ⟨rfl, rfl, rfl, rfl, rfl, rfl, rfl, rfl, rfl, rfl, fun _ _ _ _ => rfl, fun _ _ _ _ => rfl⟩
theorem RF.trans (h : RF r σ σ') (g : RF r σ' τ) : RF r σ τ := by
  obtain ⟨h1, h2, h3, h4, h5, h6, h7, h8, h9, h10, h11, h12⟩ := h
  obtain ⟨g1, g2, g3, g4, g5, g6, g7, g8, g9, g10, g11, g12⟩ := g
  exact ⟨g1.trans h1, g2.trans h2, g3.trans h3, g4.trans h4, g5.trans h5, g6.trans h6, g7.trans h7, g8.trans h8, g9.trans h9, g10.trans h10, fun c k q hq => (g11 c k q hq).trans (h11 c k q hq), fun c k q hq => (g12 c k q hq).trans (h12 c k q hq)⟩
theorem RF.sI (h : RF r σ σ') {c k : Nat} {v : Int32} : RF r σ (sI_ σ' c k r v) := by
  obtain ⟨h1, h2, h3, h4, h5, h6, h7, h8, h9, h10, h11, h12⟩ := h
  exact ⟨h1, h2, h3, h4, h5, h6, h7, h8, h9, h10, fun c k q hq => by rw [afI_sI, u3_r hq]; exact h11 c k q hq, h12⟩
theorem RF.sL (h : RF r σ σ') {c k : Nat} {v : Int64} : RF r σ (sL_ σ' c k r v) := by
  obtain ⟨h1, h2, h3, h4, h5, h6, h7, h8, h9, h10, h11, h12⟩ := h
  exact ⟨h1, h2, h3, h4, h5, h6, h7, h8, h9, h10, h11, fun c k q hq => by rw [afL_sL, u3_r hq]; exact h12 c k q hq⟩
theorem RF.kp (h : RF r σ σ') : Kp S (fun q => q = r) σ σ' := by
  obtain ⟨h1, h2, h3, h4, h5, h6, h7, h8, h9, h10, h11, h12⟩ := h
  exact ⟨h10, by omega, fun q _ => ⟨by rw [h1], by rw [h3]⟩, fun q _ hq => ⟨fun c k _ => h11 c k q hq, fun c k => h12 c k q hq, fun _ _ => by rw [h2], fun _ => by rw [h4], fun _ => by rw [h5], fun _ => by rw [h6]⟩⟩
theorem RdC.rf (h : RdC σ r md) (f : RF r σ σ') : RdC σ' r md := by
  unfold RdC at h ⊢
  rw [f.1, f.2.1]; exact h
theorem MdA.rf (h : MdA D σ md n B St Df) (hr : tg_ σ r = 8) (f : RF r σ σ') : MdA D σ' md n B St Df := by
  have hne : md ≠ r := fun e => by
    have := h.tag
    rw [e, hr] at this; cases this
  unfold MdA at h ⊢
  rw [f.1, f.2.1, f.2.2.1, f.2.2.2.1, f.2.2.2.2.2.2.2.2.2.1, f.2.2.2.2.2.2.2.2.2.2.1 _ _ _ hne]; exact h
theorem c_bad (h : RdC σ r md) {q : Nat} {post : Int32 → Hp → Prop} (k : ∀ σ', RF r σ σ' → fI_ σ' 7 8 r = nI q → post 0 σ') : wX8_bad r (lN q) σ post := by
  unfold wX8_bad
  refine ⟨h.1, fun s e => k s (by rw [e]; exact RF.refl.sI) ?_⟩
  rw [e, afI_sI, u3_e, lN_i]
end
