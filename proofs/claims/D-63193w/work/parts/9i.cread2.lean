/-! the reader: identifiers -/
section
variable {D n : Nat} {σ : Hp} {r md p L : Nat} {B St : Nat → Nat} {Df : Nat → Bool}
theorem c_isId (hf : WF D σ) (h : RdC σ r md) (hm : MdA D σ md n B St Df) (hi : RdI σ r p L) (hL : L < 256) (hp : p + L ≤ 2048 * n) {s : Nat} (hs : s ≤ 3) {post : Int32 → Prop}
    (k1 : (if s < 2 then L = 1 ∧ B p = s else if s = 2 then nameOK B p L else 3 < L ∧ nameOK B p (L - 3) ∧ B (p + L - 3) = 46 ∧ B (p + L - 2) = 59 ∧ B (p + L - 1) = 49) → post 1)
    (k0 : (¬ if s < 2 then L = 1 ∧ B p = s else if s = 2 then nameOK B p L else 3 < L ∧ nameOK B p (L - 3) ∧ B (p + L - 3) = 46 ∧ B (p + L - 2) = 59 ∧ B (p + L - 1) = 49) → post 0) : wX8_isIdentifier r (nI s) σ post := by
  have hB := hm.med.2.2.1
  have hn := hm.med.2.1
  unfold wX8_isIdentifier
  rw [hi.2]
  refine ⟨h.1, fun y hy => ?_⟩
  subst hy
  rw [li_2, nI_leI (by decide) (by omega), nI_eq (by omega) (by decide), li_3, nI_leI (by omega) (by decide), li_1, nI_eq (by omega) (by decide)]
  refine ⟨fun z => ⟨fun z2 => ⟨fun z3 => k0 ?_, fun z3 => ?_⟩, fun z2 => c_isPlain h hm hi (by omega) (by omega) (fun v => ⟨rfl, k1 ?_⟩) (fun v => ⟨rfl, k0 ?_⟩)⟩, fun z => ⟨fun z2 => k0 ?_, fun z2 => ?_⟩⟩
  · rw [if_neg (by omega), if_neg z2]; intro v; omega
  · rw [if_neg (by omega), if_neg z2] at k1 k0
    have e1 : fL_ σ 7 4 r + (nI L).toInt64 - (3 : Int64) = lN (p + L - 3) := by
      rw [hi.1, nI_l (by omega), lN_add, show (3 : Int64) = lN 3 from rfl, lN_sub (by omega)]
    rw [e1, h.2.2.2.1, pk_sub (by omega)]
    have sk : Str D σ (fR_ σ 101 8 0) [46, 59, 49] := hf.2.2.2.2.1 8 (by decide)
    have key : (∀ i, i < ([46, 59, 49] : List Nat).length → B (p + L - 3 + i) = ([46, 59, 49] : List Nat).getD i 0) ↔ (B (p + L - 3) = 46 ∧ B (p + L - 2) = 59 ∧ B (p + L - 1) = 49) := by
      constructor
      · intro v
        have v0 := v 0 (by decide)
        have v1 := v 1 (by decide)
        have v2 := v 2 (by decide)
        rw [show p + L - 3 + 1 = p + L - 2 by omega] at v1
        rw [show p + L - 3 + 2 = p + L - 1 by omega] at v2
        exact ⟨v0, v1, v2⟩
      · rintro ⟨v0, v1, v2⟩ i hi
        have hi' : i < 3 := hi
        have : i = 0 ∨ i = 1 ∨ i = 2 := by omega
        rcases this with e | e | e
        · subst e; exact v0
        · subst e; rw [show p + L - 3 + 1 = p + L - 2 by omega]; exact v1
        · subst e; rw [show p + L - 3 + 2 = p + L - 1 by omega]; exact v2
    refine ⟨hm.tag, c_says hm sk (by simp; omega) (fun v => ⟨fun w => absurd w (by decide), fun _ => ?_⟩) (fun v => ⟨fun _ => k0 (fun w => v (key.mpr ⟨w.2.2.1, w.2.2.2.1, w.2.2.2.2⟩)), fun w => absurd rfl w⟩)⟩
    have kv := key.mp v
    refine c_isPlain h hm hi (by omega) (by omega) (fun v2 => ⟨fun w => absurd w (by decide), fun _ => k1 ⟨by omega, v2, kv⟩⟩) (fun v2 => ⟨fun _ => k0 (fun w => v2 w.2.1), fun w => absurd rfl w⟩)
  · rw [if_neg (by omega), if_pos z2]; exact v
  · rw [if_neg (by omega), if_pos z2]; exact v
  · rw [if_pos (by omega)]; intro v; exact z2 v.1
  · rw [if_pos (by omega)] at k1 k0
    have hb := hB p
    refine c_letter h hm hi (i := 0) (by omega) ?_
    rw [Nat.add_zero, nI_eq (by omega) (by omega)]
    exact ⟨fun v => k0 (fun w => v w.2), fun v => k1 ⟨z2, v⟩⟩
end
