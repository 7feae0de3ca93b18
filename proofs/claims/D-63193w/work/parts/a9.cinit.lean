/-! the class is made -/
section
variable {S : Prop} {W : Nat → Prop} {D n : Nat} {σ0 σ σ' τ : Hp} {q c tk r m md x : Nat} {t t' : TT} {rf : Nat → Nat} {R : List Nat} {B St : Nat → Nat} {Df : Nat → Bool}
theorem c_minit (hf : WF D σ) (ht : tg_ σ m = 7) (hn : nx_ σ = m + 1) (hlo : lo_ σ < m) (hD : m + 3 ≤ D) (h40 : 40 ≤ n) (h200 : n ≤ 200) (h1 : 3 ≤ bc_ σ) (h2 : 2050 * n ≤ bs_ σ) {post : Hp → Prop}
    (k : ∀ σ', WF D σ' → Kp False (fun z => z = m) σ σ' → MdA D σ' m n (fun _ => 0) (fun _ => 0) (fun _ => false) → nx_ σ' = m + 4 → post σ') : wX7_init m (nI n) σ post := by
  have m0 : m ≠ 0 := by omega
  unfold wX7_init
  rw [li_2048, pk_mul, nI_clamp (by omega), nI_clamp (by omega)]
  refine ⟨ht, fun s2 e2 => ⟨nI_pos (by omega), by omega, by rw [e2]; show 1 ≤ bc_ σ; omega, by rw [e2]; show n * 2048 ≤ bs_ σ; omega, fun s7 e7 => ⟨?_, fun s9 e9 => ⟨nI_pos (by omega), by omega, ?_, ?_, fun s14 e14 => ⟨?_, fun s16 e16 => ⟨nI_pos (by omega), by omega, ?_, ?_, fun s21 e21 => ⟨?_, fun s23 e23 => ?_⟩⟩⟩⟩⟩⟩⟩
  all_goals (have n2 : nx_ s2 = m + 1 := by rw [e2]; exact hn)
  all_goals (have b2' : bc_ s2 = bc_ σ ∧ bs_ s2 = bs_ σ := by rw [e2]; exact ⟨rfl, rfl⟩)
  all_goals (have t2 : tg_ s2 = tg_ σ := by rw [e2]; rfl)
  · rw [e7, atg_mA, u1_k (by omega), t2]; exact ht
  all_goals (have n9 : nx_ s9 = m + 2 := by rw [e9, e7]; show nx_ s2 + 1 = _; omega)
  all_goals (have b9 : bc_ s9 = bc_ σ - 1 ∧ bs_ s9 = bs_ σ - n * 2048 := by rw [e9, e7]; exact ⟨by show bc_ s2 - 1 = _; omega, by show bs_ s2 - n * 2048 = _; omega⟩)
  · omega
  · omega
  all_goals (have t9 : tg_ s9 = u1_ (tg_ σ) (m + 1) 100 := by rw [e9, e7, atg_sR, atg_mA, t2, n2])
  · rw [e14, atg_mA, u1_k (by omega), t9, u1_k (by omega)]; exact ht
  all_goals (have n16 : nx_ s16 = m + 3 := by rw [e16, e14]; show nx_ s9 + 1 = _; omega)
  all_goals (have b16 : bc_ s16 = bc_ σ - 2 ∧ bs_ s16 = bs_ σ - n * 2048 - n := by rw [e16, e14]; exact ⟨by show bc_ s9 - 1 = _; omega, by show bs_ s9 - n = _; omega⟩)
  · omega
  · omega
  have t16 : tg_ s16 = u1_ (u1_ (tg_ σ) (m + 1) 100) (m + 2) 102 := by rw [e16, e14, atg_sR, atg_mA, t9, n9]
  · rw [e21, atg_mA, u1_k (by omega), t16, u1_k (by omega), u1_k (by omega)]; exact ht
  have t16 : tg_ s16 = u1_ (u1_ (tg_ σ) (m + 1) 100) (m + 2) 102 := by rw [e16, e14, atg_sR, atg_mA, t9, n9]
  have t23 : tg_ s23 = u1_ (u1_ (u1_ (tg_ σ) (m + 1) 100) (m + 2) 102) (m + 3) 101 := by rw [e23, e21, atg_sR, atg_mA, t16, n16]
  have l23 : ln_ s23 = u1_ (u1_ (u1_ (ln_ σ) (m + 1) (n * 2048)) (m + 2) n) (m + 3) n := by rw [e23, e21, aln_sR, aln_mA, n16, e16, e14, aln_sR, aln_mA, n9, e9, e7, aln_sR, aln_mA, n2, e2]; rfl
  have a23 : aI_ s23 = z2_ (z2_ (z2_ (aI_ σ) (m + 1) 0) (m + 2) 0) (m + 3) 0 := by rw [e23, e21, aaI_sR, aaI_mA, n16, e16, e14, aaI_sR, aaI_mA, n9, e9, e7, aaI_sR, aaI_mA, n2, e2]; rfl
  have kp : Kp False (fun z => z = m) σ s23 := by
    rw [e23, e21, e16, e14, e9, e7, e2]
    (repeat' first | with_reducible exact Kp.refl | with_reducible assumption | with_reducible apply Kp.sI' | with_reducible apply Kp.sL' | with_reducible apply Kp.sR' | with_reducible apply Kp.wI' | with_reducible apply Kp.wR' | with_reducible apply Kp.cI' | with_reducible apply Kp.cR' | with_reducible apply Kp.mO' | with_reducible apply Kp.mA' | with_reducible apply Kp.bu' | exact Or.inl rfl | exact Or.inr (Nat.le_refl _) | exact Or.inr (by omega) | exact Or.inr (Or.inl (by omega)))
  have f23 : WF D s23 := by
    rw [e23, e21, e16, e14, e9, e7, e2]
    exact WF.sR (WF.mA (WF.sR (WF.mA (WF.sR (WF.mA (hf.sI (by decide)) (by decide)) (by decide)) (by decide)) (by decide)) (by decide)) (by decide)
  refine k s23 f23 kp ⟨⟨by rw [t23, u1_k (by omega), u1_k (by omega), u1_k (by omega)]; exact ht, ?_, ?_, ?_, ?_⟩, ⟨by rw [t23, u1_k (by omega), u1_k (by omega), u1_e], by rw [t23, u1_k (by omega), u1_e], by rw [t23, u1_e]⟩, ⟨by rw [l23, u1_k (by omega), u1_k (by omega), u1_e, Nat.mul_comm], by rw [l23, u1_k (by omega), u1_e], by rw [l23, u1_e]⟩, ⟨by rw [kp.1]; exact hlo, hD⟩, ⟨h40, h200, fun _ => (by decide : 0 < 256), fun _ => (by decide : 0 < 3)⟩, fun i hi => ?_, fun i hi => ?_, fun i hi => ?_⟩ (by rw [e23, e21]; show nx_ s16 + 1 = _; omega)
  · rw [e23, afI_sR, e21, afI_mA, e16, afI_sR, e14, afI_mA, e9, afI_sR, e7, afI_mA, e2, afI_sI, u3_e]
  · rw [e23, afR_sR, u3_k (by decide), e21, afR_mA, e16, afR_sR, u3_k (by decide), e14, afR_mA, e9, afR_sR, u3_e, n2]
  · rw [e23, afR_sR, u3_k (by decide), e21, afR_mA, e16, afR_sR, u3_e, n9]
  · rw [e23, afR_sR, u3_e, n16]
  · rw [a23, z2_r (by omega), z2_r (by omega), z2_e]; exact (by decide : (0 : Int32) = sb_b 0)
  · rw [a23, z2_r (by omega), z2_e]; rfl
  · rw [a23, z2_e]; rfl
theorem c_rinit (hf : WF D σ) (ht : tg_ σ r = 8) (hn : nx_ σ = r + 1) (hlo : lo_ σ < r) (hD : r + 3 ≤ D) (h1 : 3 ≤ bc_ σ) (h2 : 64 ≤ bs_ σ) {post : Hp → Prop}
    (k : ∀ σ', WF D σ' → Kp False (fun z => z = r) σ σ' → RdS D σ' r md [] 0 → (∀ i, aR_ σ' (r + 2) i = 0) → nx_ σ' = r + 4 → post σ') : wX8_init r md σ post := by
  unfold wX8_init
  have e31 : ((31 : Int32)).toNatClampNeg = 31 := by decide
  have e30 : ((30 : Int32)).toNatClampNeg = 30 := by decide
  rw [e31, e30]
  refine ⟨ht, nl_new hf 10 (by omega) (by omega) (fun s7 g7 n7 v1 v2 => ⟨by rw [g7.2.1.t (by omega)]; exact ht, fun s9 e9 => ⟨by decide, by decide, ?_, ?_, fun s14 e14 => ⟨?_, fun s16 e16 => ⟨by decide, by decide, ?_, ?_, fun s21 e21 => ⟨?_, fun s23 e23 s24 e24 => ?_⟩⟩⟩⟩⟩)⟩
  all_goals (have t7 : tg_ s7 r = 8 := by rw [g7.2.1.t (by omega)]; exact ht)
  all_goals (have n9 : nx_ s9 = r + 2 := by rw [e9]; show nx_ s7 = _; omega)
  all_goals (have b9 : bc_ s9 = bc_ σ - 1 ∧ bs_ s9 = bs_ σ - 3 := by rw [e9]; exact ⟨v1, v2⟩)
  · omega
  · omega
  all_goals (have t9 : tg_ s9 = tg_ s7 := by rw [e9]; rfl)
  · rw [e14, atg_mA, u1_k (by omega), t9]; exact t7
  all_goals (have n16 : nx_ s16 = r + 3 := by rw [e16, e14]; show nx_ s9 + 1 = _; omega)
  all_goals (have b16 : bc_ s16 = bc_ σ - 2 ∧ bs_ s16 = bs_ σ - 34 := by rw [e16, e14]; exact ⟨by show bc_ s9 - 1 = _; omega, by show bs_ s9 - 31 = _; omega⟩)
  · omega
  · omega
  all_goals (have t16 : tg_ s16 = u1_ (tg_ s7) (r + 2) 105 := by rw [e16, e14, atg_sR, atg_mA, t9, n9])
  · rw [e21, atg_mA, u1_k (by omega), t16, u1_k (by omega)]; exact t7
  have k24 : Kp False (fun z => z = r) s7 s24 := by
    rw [e24, e23, e21, e16, e14, e9]
    (repeat' first | with_reducible exact Kp.refl | with_reducible assumption | with_reducible apply Kp.sI' | with_reducible apply Kp.sL' | with_reducible apply Kp.sR' | with_reducible apply Kp.wI' | with_reducible apply Kp.wR' | with_reducible apply Kp.cI' | with_reducible apply Kp.cR' | with_reducible apply Kp.mO' | with_reducible apply Kp.mA' | with_reducible apply Kp.bu' | exact Or.inl rfl | exact Or.inr (Nat.le_refl _) | exact Or.inr (by omega) | exact Or.inr (Or.inl (by omega)))
  have f24 : WF D s24 := by
    rw [e24, e23, e21, e16, e14, e9]
    exact WF.sR (WF.sR (WF.mA (WF.sR (WF.mA (WF.sR g7.1 (by decide)) (by decide)) (by decide)) (by decide)) (by decide)) (by decide)
  have t24 : tg_ s24 = u1_ (u1_ (tg_ s7) (r + 2) 105) (r + 3) 102 := by rw [e24, e23, e21, atg_sR, atg_sR, atg_mA, t16, n16]
  have l24 : ln_ s24 = u1_ (u1_ (ln_ s7) (r + 2) 31) (r + 3) 30 := by rw [e24, e23, e21, aln_sR, aln_sR, aln_mA, n16, e16, e14, aln_sR, aln_mA, n9, e9]; rfl
  have aR24 : ∀ i, aR_ s24 (r + 2) i = 0 := fun i => by rw [e24, e23, e21, aaR_sR, aaR_sR, aaR_mA, n16, z2_r (by omega), e16, e14, aaR_sR, aaR_mA, n9, z2_e]
  have g71 : Lst s7 10 (r + 1) [] 0 := by have := g7.2.2.1; rw [hn] at this; exact this
  have arr : fR_ s7 10 1 (r + 1) ≤ lo_ s7 := by
    rcases g71.2.2.2.2.2.2.2.2.1 with z | z
    · exact absurd rfl z.2
    · rw [z.2]; exact g7.1.2.2.2.2.2.1.2.2
  have hlo7 : lo_ s7 = lo_ σ := g7.2.1.1
  have l24' : Lst s24 10 (r + 1) [] 0 := g71.kp g7.1 k24 (by omega) (by omega) (by omega) (fun x hx => by cases hx)
  have ra : fR_ s24 10 1 (r + 1) = fR_ s7 10 1 (r + 1) := k24.r (by omega) (by omega)
  refine k s24 f24 ((g7.2.1.mono (fun z => z) (fun _ _ z => z.elim)).trans k24 (fun _ _ z => z)) ⟨⟨by rw [t24, u1_k (by omega), u1_k (by omega)]; exact t7, ?_, ?_, ?_, ?_⟩, ⟨by rw [t24, u1_k (by omega), u1_e], by rw [l24, u1_k (by omega), u1_e], fun i _ => Or.inl (aR24 i), fun i j _ _ _ z => absurd (aR24 i) z⟩, ⟨by rw [t24, u1_e], by rw [l24, u1_e]⟩, l24', Or.inl (by rw [ra, k24.1]; exact arr), fun i hi => absurd hi (by simp), ⟨by rw [k24.1, hlo7]; exact hlo, hD⟩, by simp⟩ aR24 (by rw [e24, e23, e21]; show nx_ s16 + 1 = _; omega)
  · rw [e24, afR_sR, u3_k (by decide), e23, afR_sR, u3_k (by decide), e21, afR_mA, e16, afR_sR, u3_k (by decide), e14, afR_mA, e9, afR_sR, u3_e, hn]
  · rw [e24, afR_sR, u3_k (by decide), e23, afR_sR, u3_k (by decide), e21, afR_mA, e16, afR_sR, u3_e, n9]
  · rw [e24, afR_sR, u3_e]
  · rw [e24, afR_sR, u3_k (by decide), e23, afR_sR, u3_e, n16]
/-- the burner is made -/
theorem c_binit (hf : WF D σ) (hx : tg_ σ (x + 2) = 3) (hn : nx_ σ = x + 3) (hlo : lo_ σ < x) (hD : x + 30 ≤ D) (h1 : 3 ≤ bc_ σ) (h2 : 2052 ≤ bs_ σ) {post : Hp → Prop}
    (k : ∀ σ', WF D σ' → Kp False (fun z => z = x + 2) σ σ' → CB D σ' x → nx_ σ' = x + 6 → post σ') : wX3_init (x + 2) (x + 1) σ post := by
  unfold wX3_init
  refine ⟨hx, nl_new hf 6 (by omega) (by omega) (fun s7 g7 n7 v1 v2 => ⟨by rw [g7.2.1.t (by omega)]; exact hx, fun s9 e9 => ?_⟩)⟩
  have t7 : tg_ s7 (x + 2) = 3 := by rw [g7.2.1.t (by omega)]; exact hx
  have n9 : nx_ s9 = x + 4 := by rw [e9]; show nx_ s7 = _; omega
  have b9 : bc_ s9 = bc_ σ - 1 ∧ bs_ s9 = bs_ σ - 3 := by rw [e9]; exact ⟨v1, v2⟩
  have t9 : tg_ s9 = tg_ s7 := by rw [e9]; rfl
  refine ⟨by omega, by omega, fun s12 e12 => ⟨by rw [e12, atg_mO, u1_e], ?_⟩⟩
  obtain ⟨mc, hmc⟩ : ∃ m, m = 1 := ⟨_, rfl⟩
  obtain ⟨ms, hms⟩ : ∃ m, m = 2048 := ⟨_, rfl⟩
  have n12 : nx_ s12 = x + 5 := by rw [e12]; show nx_ s9 + 1 = _; omega
  have b12 : bc_ s12 = bc_ σ - 2 ∧ bs_ s12 = bs_ σ - 4 := by rw [e12]; exact ⟨by show bc_ s9 - 1 = _; omega, by show bs_ s9 - 1 = _; omega⟩
  have t12 : tg_ s12 = u1_ (tg_ s7) (x + 4) 4 := by rw [e12, atg_mO, t9, n9]
  refine ⟨mc, ms, by omega, by omega, ?_⟩
  unfold wX4_init
  have e2048 : ((2048 : Int32)).toNatClampNeg = 2048 := by decide
  rw [e2048, n9]
  refine ⟨by show tg_ s12 _ = 4; rw [t12, u1_e], by decide, by decide, by show 1 ≤ mc; omega, by show 2048 ≤ ms; omega, fun s6 e6 => ?_⟩
  have n6 : nx_ s6 = x + 6 := by rw [e6]; show nx_ s12 + 1 = _; omega
  have t6 : tg_ s6 = u1_ (u1_ (tg_ s7) (x + 4) 4) (x + 5) 100 := by
    rw [e6, atg_mA]
    show u1_ (tg_ s12) (nx_ s12) 100 = _
    rw [t12, n12]
  refine ⟨by rw [t6, u1_k (by omega), u1_e], fun s8 e8 s19 e19 => ⟨?_, fun s21 e21 s22 e22 => ?_⟩⟩
  · rw [e19, e8]; show tg_ s6 _ = 3; rw [t6, u1_k (by omega), u1_k (by omega)]; exact t7
  have k22 : Kp False (fun z => z = x + 2) s7 s22 := by
    have k6 : Kp False (fun z => z = x + 2) s7 s6 := by
      rw [e6]
      refine Kp.mA' (Kp.bu' ?_)
      rw [e12, e9]
      (repeat' first | with_reducible exact Kp.refl | with_reducible assumption | with_reducible apply Kp.sI' | with_reducible apply Kp.sL' | with_reducible apply Kp.sR' | with_reducible apply Kp.wI' | with_reducible apply Kp.wR' | with_reducible apply Kp.cI' | with_reducible apply Kp.cR' | with_reducible apply Kp.mO' | with_reducible apply Kp.mA' | with_reducible apply Kp.bu' | exact Or.inl rfl | exact Or.inr (Nat.le_refl _) | exact Or.inr (by omega) | exact Or.inr (Or.inl (by omega)))
    have k8 : Kp False (fun z => z = x + 2) s7 s8 := by rw [e8]; exact Kp.sR' k6 (Or.inr (by omega))
    rw [e22, e21, e19]
    exact Kp.sR' (Kp.sR' (Kp.bu' k8) (Or.inl rfl)) (Or.inl rfl)
  have f22 : WF D s22 := by
    rw [e22, e21, e19, e8, e6]
    refine WF.sR (WF.sR (WF.bu (WF.sR (WF.mA (WF.bu ?_) (by decide)) (by decide))) (by decide)) (by decide)
    rw [e12, e9]
    exact WF.mO (g7.1.sR (by decide))
  have t22 : tg_ s22 = u1_ (u1_ (tg_ s7) (x + 4) 4) (x + 5) 100 := by rw [e22, e21, e19, e8]; exact t6
  have r22 : ∀ c k r, fR_ s22 c k r = u3_ (u3_ (u3_ (fR_ s6) 3 0 (x + 4) (nx_ (bu_ s12 mc ms))) 2 5 (x + 2) (x + 4)) 2 2 (x + 2) (x + 1) c k r := fun c k r => by
    rw [e22, afR_sR, e21, afR_sR, e19, afR_bu, e8, afR_sR]
  have r6 : ∀ c k r, r ≠ x + 4 → fR_ s6 c k r = u3_ (fR_ s7) 2 4 (x + 2) (nx_ σ) c k r := fun c k r hr => by
    rw [e6, afR_mA, afR_bu, e12, afR_mO, n9, z3_r hr, e9, afR_sR]
  have g71 : Lst s7 6 (x + 3) [] 0 := by have := g7.2.2.1; rw [hn] at this; exact this
  have arr : fR_ s7 10 1 (x + 3) ≤ lo_ s7 := by
    rcases g71.2.2.2.2.2.2.2.2.1 with z | z
    · exact absurd rfl z.2
    · rw [z.2]; exact g7.1.2.2.2.2.2.1.2.2
  have hlo7 : lo_ s7 = lo_ σ := g7.2.1.1
  have l22 : Lst s22 6 (x + 3) [] 0 := g71.kp g7.1 k22 (by omega) (by omega) (by omega) (fun x hx => by cases hx)
  have ra : fR_ s22 10 1 (x + 3) = fR_ s7 10 1 (x + 3) := k22.r (by omega) (by omega)
  refine k s22 f22 ((g7.2.1.mono (fun z => z) (fun _ _ z => z.elim)).trans k22 (fun _ _ z => z)) ⟨⟨by rw [t22, u1_k (by omega), u1_k (by omega)]; exact t7, ?_, ?_, ?_⟩, ⟨fun _ => 0, by rw [t22, u1_k (by omega), u1_e], ?_, by rw [t22, u1_e], ?_, by rw [k22.1, hlo7]; omega, by omega, fun i hi => ?_⟩, [], 0, l22, Or.inl (by rw [ra, k22.1]; exact arr)⟩ (by rw [e22, e21, e19, e8]; exact n6)
  · rw [r22, u3_e]
  · rw [r22, u3_k (by decide), u3_k (by decide), u3_c (by decide), r6 _ _ _ (by omega), u3_e, hn]
  · rw [r22, u3_k (by decide), u3_e]
  · rw [r22, u3_c (by decide), u3_c (by decide), u3_e]
    show nx_ s12 = _
    exact n12
  · rw [e22, e21, e19, e8, e6]
    show u1_ (ln_ s12) (nx_ s12) 2048 (x + 5) = 2048
    rw [n12, u1_e]
  · rw [e22, e21, e19, e8, e6]
    show z2_ (aI_ s12) (nx_ s12) 0 (x + 5) i = _
    rw [n12, z2_e]; exact (by decide : (0 : Int32) = sb_b 0)
end
