/-! the reader: a record is sound -/
theorem lN_div {a b : Nat} (ha : a < 2 ^ 31) (hb : b < 2 ^ 31) (h0 : 0 < b) : lN a / lN b = lN (a / b) := by
  apply Int64.toInt_inj.mp
  rw [lg_ldiv_nonneg (by rw [lN_toInt ha]; omega) (by rw [lN_toInt hb]; omega), lN_toInt ha, lN_toInt hb, lN_toInt (Nat.lt_of_le_of_lt (Nat.div_le_self _ _) ha)]
  rfl
/-- how many are used and the identifier ahead stay -/
def RU (r : Nat) (σ σ' : Hp) : Prop := fI_ σ' 7 2 r = fI_ σ 7 2 r ∧ fL_ σ' 7 5 r = fL_ σ 7 5 r ∧ fI_ σ' 7 7 r = fI_ σ 7 7 r
theorem evm_ : ∀ m, m < 256 → (33 + nI m + 1) &&& (-2 : Int32) = nI (33 + m + (33 + m) % 2) := by decide +kernel
section
variable {S : Prop} {D n : Nat} {σ σ' τ : Hp} {r md p L : Nat} {B St : Nat → Nat} {Df : Nat → Bool}
theorem c_read (h : RdC σ r md) (hm : MdA D σ md n B St Df) {q : Nat} (hq : q + 32 < 2048 * n) {post : Hp → Prop} (k : ∀ σ', RF r σ σ' → RdI σ' r (q + 33) (B (q + 32)) ∧ RU r σ σ' → post σ') : wX8_read r (lN q) σ post := by
  unfold wX8_read
  refine ⟨h.1, fun s2 e2 => ?_⟩
  have f2 : RF r σ s2 := by rw [e2]; exact RF.refl.sL
  have h2 := h.rf f2
  have m2 := hm.rf h.1 f2
  rw [h2.2.2.2.1, show (32 : Int64) = lN 32 from rfl, lN_add]
  refine ⟨m2.tag, c_at m2 hq (fun s5 e5 => k s5 (by rw [e5]; exact f2.sI) ⟨⟨?_, by rw [e5, afI_sI, u3_e]⟩, ?_, ?_, ?_⟩)⟩
  · rw [e5, afL_sI, e2, afL_sL, u3_e, show (33 : Int64) = lN 33 from rfl, lN_add]
  · rw [e5, afI_sI, u3_k (by decide), e2, afI_sL]
  · rw [e5, afL_sI, e2, afL_sL, u3_k (by decide)]
  · rw [e5, afI_sI, u3_k (by decide), e2, afI_sL]
end
