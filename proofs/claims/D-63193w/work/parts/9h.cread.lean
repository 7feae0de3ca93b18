/-! the reader of the class: letters -/
/-- a reader at r of the medium md; its identifier lies at p, L bytes long -/
def RdC (σ : Hp) (r md : Nat) : Prop := tg_ σ r = 8 ∧ fR_ σ 7 0 r = r + 1 ∧ fR_ σ 7 1 r = r + 2 ∧ fR_ σ 7 3 r = md ∧ fR_ σ 7 9 r = r + 3
def RdI (σ : Hp) (r p L : Nat) : Prop := fL_ σ 7 4 r = lN p ∧ fI_ σ 7 6 r = nI L
section
variable {D n : Nat} {σ : Hp} {r md p L : Nat} {B St : Nat → Nat} {Df : Nat → Bool}
theorem c_letter (h : RdC σ r md) (hm : MdA D σ md n B St Df) (hi : RdI σ r p L) {i : Nat} (hp : p + i < 2048 * n) {post : Int32 → Prop} (k : post (nI (B (p + i)))) : wX8_letter r (nI i) σ post := by
  have hn := hm.med.2.1
  unfold wX8_letter
  rw [h.2.2.2.1, hi.1, nI_l (by omega), lN_add]
  exact ⟨h.1, hm.tag, c_at hm hp k⟩
theorem c_isPlain (h : RdC σ r md) (hm : MdA D σ md n B St Df) (hi : RdI σ r p L) {m : Nat} (hm2 : m < 300) (hp : p + m ≤ 2048 * n) {post : Int32 → Prop} (k1 : nameOK B p m → post 1) (k0 : ¬ nameOK B p m → post 0) : wX8_isPlain r (nI m) σ post := by
  have hB := hm.med.2.2.1
  have loop : ∀ y : Int32, (y = 1 ∧ 1 ≤ m ∧ m ≤ 8) ∨ (y = 0 ∧ ¬ (1 ≤ m ∧ m ≤ 8)) → wX8_isPlain_L15 post r (nI m) y σ := by
    intro y hy
    unfold wX8_isPlain_L15 wX8_isPlain_L18
    refine lpG2 (B := fun R y z => wX8_isPlain_B18 post R r (nI m) y z σ) (fun j y z => j ≤ m ∧ z = nI (m - j) ∧ ((y = 1 ∧ 1 ≤ m ∧ m ≤ 8 ∧ ∀ i, i < m - j → isL (B (p + i))) ∨ (y = 0 ∧ ¬ nameOK B p m))) m ⟨Nat.le_refl _, by simp [nI_0], ?_⟩ ?_
    · rcases hy with z | z
      · exact Or.inl ⟨z.1, z.2.1, z.2.2, fun i hi => by omega⟩
      · exact Or.inr ⟨z.1, fun w => z.2 ⟨w.1, w.2.1⟩⟩
    rintro j y z R ⟨g1, rfl, g3⟩ hR
    unfold wX8_isPlain_B18
    have nr : nr_ .boolean y := nr_b (by rcases g3 with z | z; exact Or.inr z.1; exact Or.inl z.1)
    have e : ∀ y : Int32, y = nI (m - j) + 1 → 1 ≤ j → y = nI (m - (j - 1)) := fun y hy hj => by rw [hy, li_1, nI_add]; congr 1; omega
    rw [nI_leI (by omega) (by omega)]
    refine ⟨fun z => ⟨nr, ?_⟩, fun z => ⟨fun w => ⟨nr, ?_⟩, fun w => ?_⟩⟩
    · rcases g3 with ⟨v, v1, v2, v3⟩ | ⟨v, v2⟩
      · rw [v]; exact k1 ⟨v1, v2, fun i hi => v3 i (by omega)⟩
      · rw [v]; exact k0 v2
    · rcases g3 with ⟨v, _⟩ | ⟨v, v2⟩
      · rw [v] at w; exact absurd w (by decide)
      · rw [v]; exact k0 v2
    · rcases g3 with ⟨v, v1, v2, v3⟩ | ⟨v, v2⟩
      · refine ⟨h.1, c_letter h hm hi (by omega) (c_isName (hB _) (fun hl y8 hy8 => hR (j - 1) 1 y8 (by omega) ⟨by omega, e y8 hy8 (by omega), Or.inl ⟨rfl, v1, v2, fun i hi => ?_⟩⟩) (fun hl y8 hy8 => hR (j - 1) 0 y8 (by omega) ⟨by omega, e y8 hy8 (by omega), Or.inr ⟨rfl, fun w => hl (w.2.2 _ (by omega))⟩⟩))⟩
        by_cases e : i < m - j
        · exact v3 i e
        · rw [show i = m - j by omega]; exact hl
      · exact absurd v w
  unfold wX8_isPlain wX8_isPlain_L14
  rw [li_0, li_9, nI_leI (by omega) (by decide), nI_leI (by decide) (by omega)]
  exact ⟨fun z => loop 0 (Or.inr ⟨rfl, by omega⟩), fun z => ⟨fun w => loop 0 (Or.inr ⟨rfl, by omega⟩), fun w => loop 1 (Or.inl ⟨rfl, by omega, by omega⟩)⟩⟩
end
