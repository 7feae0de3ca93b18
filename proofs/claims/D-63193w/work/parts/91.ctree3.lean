/-! a tree is made -/
def isRootT (t : TT) : Prop := tL t = [0] ∧ tN t = 1 ∧ tD t 0 = 1 ∧ tP t 0 = 4294967295 ∧ tM t 0 = [] ∧ tS t 0 = 0 ∧ tE t 0 = 0 ∧ tX t 0 = 0 ∧ tW t 0 = false
section
variable {S : Prop} {W : Nat → Prop} {D n : Nat} {σ0 σ σ' τ : Hp} {q c tk r : Nat} {t t' : TT} {rf : Nat → Nat} {R : List Nat}
theorem NewN.nd {num par : Int32} {d k : Nat} {l : List Nat} (h : NewN D σ σ' r num par d l) (h0 : num = nI k) (h1 : tD t k = d) (h2 : par = nI (tP t k)) (h3 : tM t k = l) (h4 : tS t k = 0) (h5 : tE t k = 0) (h6 : tX t k = 0) (h7 : tW t k = false) : NdA D σ' r t k := by
  obtain ⟨a1, a2, a3, a4, a5, a6, a7, a8, a9, a10⟩ := h
  unfold NdA tI
  rw [h1, h3, h4, h5, h6, h7]
  exact ⟨a3, by rw [a5, h0], a6, by rw [a7, h2], a8 3 (by decide), a8 4 (by decide), a8 5 (by decide), a8 8 (by decide), a9, a10⟩
theorem c_tinit (hf : WF D σ) (ht : tg_ σ q = 5) (h0 : fI_ σ 4 1 q = 0) (hr : isRootT t) (h1 : 7 ≤ bc_ σ) (h2 : 60 ≤ bs_ σ) {post : Hp → Prop}
    (k : ∀ σ' rf, WF D σ' → Kp False (fun p => p = q) σ σ' → TrA D σ' q t rf 10 → nx_ σ ≤ fR_ σ' 4 0 q → nx_ σ ≤ fR_ σ' 10 1 (fR_ σ' 4 0 q) → nx_ σ ≤ rf 0 → post σ') : wX5_init q σ post := by
  obtain ⟨r1, r2, r3, r4, r5, r6, r7, r8, r9⟩ := hr
  have hq0 : q ≠ 0 := fun z => by rw [z, hf.2.2.1] at ht; cases ht
  have hqn := hf.lt ht
  have hlo := hf.2.1
  unfold wX5_init
  refine ⟨ht, nl_new hf 6 (by omega) (by omega) (fun s7 g7 n7 v1 v2 => ⟨by rw [g7.2.1.t hqn]; exact ht, fun s9 e9 => ?_⟩)⟩
  have wq : ∀ s : Hp, tg_ s q = 5 → WS D s (fun p => p = q) := fun s hs p hp => by subst hp; exact ⟨by omega, fun z => by omega, hq0⟩
  have k79 : Kp False (fun p => p = q) s7 s9 := by rw [e9]; exact Kp.sR' Kp.refl (Or.inl rfl)
  have k9 : Kp False (fun p => p = q) σ s9 := (g7.2.1.mono (fun z => z) (fun _ _ z => z.elim)).trans k79 (fun _ _ z => z)
  have f9 : WF D s9 := by rw [e9]; exact g7.1.sR (by decide)
  have b9 : bc_ s9 = bc_ σ - 1 ∧ bs_ s9 = bs_ σ - 3 := by rw [e9]; exact ⟨v1, v2⟩
  have n9 : nx_ s9 = nx_ σ + 1 := by rw [e9]; exact n7
  have t7 : tg_ s7 q = 5 := by rw [g7.2.1.t hqn]; exact ht
  refine ⟨by omega, by omega, fun s12 e12 => ⟨by rw [e12, atg_mO, u1_e], c_nnew f9 (d := 1) (l := []) (by decide) (Or.inl rfl) ?_ (by simp) 0 (-1) e12 (by omega) (by omega) (fun s19 hN w1 w2 => ?_)⟩⟩
  · have : fR_ s12 101 5 0 = fR_ s9 101 5 0 := by rw [e12, afR_mO, z3_r (by omega)]
    rw [this]; exact f9.2.2.2.2.1 5 (by decide)
  have k719 : Kp False (fun p => p = q) s7 s19 := k79.trans (hN.2.1.mono (W' := fun p => p = q) (fun z => z) (fun _ _ z => z.elim)) (fun _ _ z => z)
  have k19 : Kp False (fun p => p = q) σ s19 := k9.trans (hN.2.1.mono (W' := fun p => p = q) (fun z => z) (fun _ _ z => z.elim)) (fun _ _ z => z)
  have r19 : fR_ s19 4 0 q = nx_ σ := by rw [hN.2.1.r (by omega) (fun z => z), e9, afR_sR, u3_e]
  have lo7 : lo_ s7 = lo_ σ := g7.2.1.1
  have a7 : fR_ s7 10 1 (nx_ σ) ≤ lo_ s7 := by
    rcases g7.2.2.1.2.2.2.2.2.2.2.2.1 with z | z
    · exact absurd rfl z.2
    · rw [z.2]; exact g7.1.2.2.2.2.2.1.2.2
  have hq7 : fR_ s7 10 1 (nx_ σ) ≠ q := fun z => by
    have := g7.2.2.1.2.2.1
    rw [z, t7] at this; cases this
  have l19 : Lst s19 6 (nx_ σ) [] 0 := g7.2.2.1.kp g7.1 k719 (by omega) hq7 (by omega) (fun x hx => by cases hx)
  have tr : TrA D s19 q (0, t.2) (fun _ => 0) 0 := by
    refine ⟨by rw [k19.t hqn]; exact ht, ?_, by rw [r19]; exact l19, fun k hk => by cases hk⟩
    rw [hN.2.1.i (by omega) (fun z => z) (by omega), e9, afI_sR, g7.2.1.i hqn (fun z => z) (by omega), h0]; rfl
  refine ⟨by rw [k19.t hqn]; exact ht, 1, 10, by omega, by omega, ?_⟩
  have nd : NdA D s19 (nx_ s9) t 0 := hN.nd rfl r3 (by rw [r4]; decide) r5 r6 r7 r8 r9
  refine c_tadd (σ := bu_ s19 1 10) hN.1 tr (t' := t) (k' := 0) nd (by rw [r1]; rfl) (by rw [r2]) (fun k hk => by cases hk) (show 0 < 33 by decide) (show 1 ≤ 1 by decide) (show 10 ≤ 10 by decide) (fun s25 f25 k25 tr25 u1 u2 s26 e26 => ?_)
  have u1' : fR_ s25 4 0 q = nx_ σ := u1.trans r19
  have k25' : Kp False (WT s19 q) s19 s25 := k25
  have a19 : fR_ s19 10 1 (nx_ σ) = fR_ s7 10 1 (nx_ σ) := k719.r (by rw [n7]; omega) (by omega)
  have kk : Kp False (fun p => p = q) σ s25 := k19.trans k25' (fun p hp z => by
    rcases z with z | z | ⟨z, z2⟩
    · exact z
    · rw [r19] at z; omega
    · rw [r19, a19] at z
      have := k19.1
      omega)
  rw [e26]
  refine k (bu_ s25 _ _) (upA (fun _ => 0) 0 (nx_ s9)) f25 kk tr25 (by show nx_ σ ≤ fR_ s25 4 0 q; rw [u1']; exact Nat.le_refl _) ?_ (by rw [upA_e]; omega)
  show nx_ σ ≤ fR_ s25 10 1 (fR_ s25 4 0 q)
  rw [u1']
  have u2' : fR_ s25 10 1 (fR_ s19 4 0 q) = fR_ s19 10 1 (fR_ s19 4 0 q) ∨ nx_ s19 ≤ fR_ s25 10 1 (fR_ s19 4 0 q) := u2
  rw [r19] at u2'
  rcases u2' with z | z
  · exfalso
    have := tr25.2.2.1.2.2.2.2.2.2.2.2.1
    rw [u1'] at this
    rcases this with y | y
    · rw [z, a19, kk.1] at y
      omega
    · exact absurd y.1 (show ¬ (10 = 0) by decide)
  · have := k19.2.1; omega
end
