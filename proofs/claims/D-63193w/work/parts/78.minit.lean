/-! the reference is made -/
/-- what lies below m is as it was -/
def Bel (m : Nat) (σ σ' : Hp) : Prop := lo_ σ' = lo_ σ ∧ ∀ r, r < m → tg_ σ' r = tg_ σ r ∧ ln_ σ' r = ln_ σ r ∧ (∀ c k, fI_ σ' c k r = fI_ σ c k r) ∧ (∀ c k, fL_ σ' c k r = fL_ σ c k r) ∧ (∀ c k, fR_ σ' c k r = fR_ σ c k r) ∧ (∀ i, aI_ σ' r i = aI_ σ r i) ∧ (∀ i, aL_ σ' r i = aL_ σ r i) ∧ (∀ i, aR_ σ' r i = aR_ σ r i)
theorem Bel.refl {m : Nat} {σ : Hp} : Bel m σ σ := ⟨rfl, fun _ _ => ⟨rfl, rfl, fun _ _ => rfl, fun _ _ => rfl, fun _ _ => rfl, fun _ => rfl, fun _ => rfl, fun _ => rfl⟩⟩
theorem Bel.trans {m : Nat} {σ σ' σ'' : Hp} (h : Bel m σ σ') (g : Bel m σ' σ'') : Bel m σ σ'' := by
  refine ⟨g.1.trans h.1, fun r hr => ?_⟩
  obtain ⟨a1, a2, a3, a4, a5, a6, a7, a8⟩ := h.2 r hr
  obtain ⟨b1, b2, b3, b4, b5, b6, b7, b8⟩ := g.2 r hr
  exact ⟨b1.trans a1, b2.trans a2, fun c k => (b3 c k).trans (a3 c k), fun c k => (b4 c k).trans (a4 c k), fun c k => (b5 c k).trans (a5 c k), fun i => (b6 i).trans (a6 i), fun i => (b7 i).trans (a7 i), fun i => (b8 i).trans (a8 i)⟩
theorem MFr.bel {m : Nat} {σ σ' : Hp} {P : Nat → Nat → Prop} {Q : Nat → Prop} (f : MFr m σ σ' P Q) : Bel m σ σ' := by
  obtain ⟨⟨a1, a2, a3, a4, a5, a6, a7, a8, a9⟩, b, c⟩ := f
  refine ⟨a9, fun r hr => ⟨by rw [a1], by rw [a2], fun c' k => b c' k r (fun z => by omega), fun _ _ => by rw [a4], fun _ _ => by rw [a3], fun i => (c r i (fun ⟨j, z, _⟩ => by omega)).1, fun i => (c r i (fun ⟨j, z, _⟩ => by omega)).2, fun _ => by rw [a5]⟩⟩
theorem mwF_ne : ∀ i, i < 28 → ∀ j, j < i → mwF.getD j 0 ≠ mwF.getD i 0 := by decide
/-- i arrays are made -/
def INi (σ0 σ : Hp) (m i c s : Nat) : Prop := tg_ σ m = 9 ∧ lo_ σ < m ∧ nx_ σ = m + 1 + i ∧ bc_ σ = c ∧ bs_ σ = s ∧ (∀ j, j < i → fR_ σ 8 (mwF.getD j 0) m = m + (1 + j) ∧ tg_ σ (m + (1 + j)) = mwT.getD j 0 ∧ ln_ σ (m + (1 + j)) = mwL.getD j 0 ∧ ∀ x, aI_ σ (m + (1 + j)) x = 0 ∧ aL_ σ (m + (1 + j)) x = 0) ∧ (∀ k, fI_ σ 8 k m = 0) ∧ Bel m σ0 σ
theorem INi_s {σ0 σ : Hp} {m i c s t n f c' s' : Nat} (h : INi σ0 σ m i c s) (hc : c' = c - 1) (hs : s' = s - n) (hi : i < 28) (ht : mwT.getD i 0 = t) (hn : mwL.getD i 0 = n) (hf : mwF.getD i 0 = f) : INi σ0 (sR_ (mA_ σ t n) 8 f m (nx_ σ)) m (i + 1) c' s' := by
  subst hc hs
  obtain ⟨h1, h2, h3, h4, h5, h6, h7, h8⟩ := h
  refine ⟨?_, h2, ?_, ?_, ?_, fun j hj => ?_, fun k => ?_, h8.trans ⟨rfl, fun r hr => ?_⟩⟩
  · rw [atg_sR, atg_mA, u1_k (by omega)]; exact h1
  · rw [anx_sR, anx_mA, h3]; omega
  · rw [abc_sR, abc_mA, h4]
  · rw [abs_sR, abs_mA, h5]
  · rw [afR_sR, atg_sR, aln_sR, aaI_sR, aaL_sR, afR_mA, atg_mA, aln_mA, aaI_mA, aaL_mA]
    by_cases e : j = i
    · subst e
      have en : m + (1 + j) = nx_ σ := by omega
      rw [hf, u3_e, en, u1_e, u1_e, ht, hn]
      exact ⟨rfl, rfl, rfl, fun x => ⟨z2_e, z2_e⟩⟩
    · obtain ⟨a, b, c', d⟩ := h6 j (by omega)
      rw [u3_k (by rw [← hf]; exact mwF_ne i hi j (by omega)), u1_k (by omega), u1_k (by omega)]
      exact ⟨a, b, c', fun x => by rw [z2_r (by omega), z2_r (by omega)]; exact d x⟩
  · rw [afI_sR, afI_mA]; exact h7 k
  · refine ⟨?_, ?_, fun _ _ => rfl, fun _ _ => rfl, fun c k => ?_, fun i => ?_, fun i => ?_, fun i => ?_⟩
    · rw [atg_sR, atg_mA, u1_k (by omega)]
    · rw [aln_sR, aln_mA, u1_k (by omega)]
    · rw [afR_sR, afR_mA, u3_r (by omega)]
    · rw [aaI_sR, aaI_mA, z2_r (by omega)]
    · rw [aaL_sR, aaL_mA, z2_r (by omega)]
    · rw [aaR_sR, aaR_mA, z2_r (by omega)]
/-- how many sectors -/
def nOf (x : Int32) : Nat := match ixN x 201 with
  | some k => if 40 ≤ k then k else 100
  | none => 100
/-- the state at first -/
def S0 (x : Int32) : AS := ((nOf x, fun _ => 0, fun _ => 0, fun _ => false), (false, -1, 0), treeOf [rootF], 0, [])
theorem nOf_b (x : Int32) : 40 ≤ nOf x ∧ nOf x ≤ 200 := by
  unfold nOf
  rcases ix_cases x (n := 201) (by decide) with ⟨j, h1, h2, h3⟩ | ⟨h1, h2⟩
  · rw [h3]
    simp only
    split <;> omega
  · rw [h2]; simp
theorem nOf_s {x : Int32} (h1 : ¬ x < 40) (h2 : ¬ 200 < x) : x = nI (nOf x) := by
  obtain ⟨j, a, b, e⟩ := nI_rng (a := 40) (b := 200) (by decide) h1 h2 (by decide)
  subst e
  unfold nOf
  rw [ix_some (by omega) (by decide)]
  simp only
  rw [if_pos a]
theorem nOf_o {x : Int32} (h : x < 40 ∨ 200 < x) : nOf x = 100 := by
  unfold nOf
  rcases ix_cases x (n := 201) (by decide) with ⟨j, h1, h2, h3⟩ | ⟨h1, h2⟩
  · rw [h3]
    simp only
    subst h2
    have h' : nI j < nI 40 ∨ nI 200 < nI j := h
    rw [nI_ltI (by omega) (by decide), nI_ltI (by decide) (by omega)] at h'
    rw [if_neg (by omega)]
  · rw [h2]
section
variable {σ : Hp} {m : Nat}
theorem cl_i {a : Nat} (h : a < 2 ^ 31) {x : Int32} (e : x = nI a) : x.toNatClampNeg = a := by rw [e, nI_clamp h]
theorem M_init (h1 : tg_ σ m = 9) (h2 : lo_ σ < m) (h3 : nx_ σ = m + 1) (h4 : 28 ≤ bc_ σ) (h5 : 993759 ≤ bs_ σ) (h6 : ∀ k, fI_ σ 8 k m = 0) {x : Int32} {post : Hp → Prop}
    (k : ∀ σ', MI σ' m (S0 x) → Bel m σ σ' → nx_ σ' = m + 29 → bc_ σ' = bc_ σ - 28 → bs_ σ' = bs_ σ - 993759 → post σ') : wX9_init m x σ post := by
  have z0 : INi σ σ m 0 (bc_ σ) (bs_ σ) := ⟨h1, h2, h3, rfl, rfl, fun j hj => by omega, h6, Bel.refl⟩
  unfold wX9_init
  refine ⟨z0.1, by decide, by decide, by rw [z0.2.2.2.1]; omega, by rw [z0.2.2.2.2.1, cl_i (a := 819200) (x := 819200) (by decide) rfl]; omega, fun a0 b0 => ⟨?_, fun τ1 c1 => ?_⟩⟩
  · rw [b0, atg_mA, u1_k (by have := z0.2.2.1; omega)]; exact z0.1
  have z1 : INi σ τ1 m 1 (bc_ σ - 1) (bs_ σ - 819200) := by rw [c1, b0, cl_i (a := 819200) (x := 819200) (by decide) rfl]; exact INi_s z0 (by omega) (by omega) (by decide) rfl rfl rfl
  refine ⟨by decide, by decide, by rw [z1.2.2.2.1]; omega, by rw [z1.2.2.2.2.1, cl_i (a := 400) (x := 400) (by decide) rfl]; omega, fun a1 b1 => ⟨?_, fun τ2 c2 => ?_⟩⟩
  · rw [b1, atg_mA, u1_k (by have := z1.2.2.1; omega)]; exact z1.1
  have z2 : INi σ τ2 m 2 (bc_ σ - 2) (bs_ σ - 819600) := by rw [c2, b1, cl_i (a := 400) (x := 400) (by decide) rfl]; exact INi_s z1 (by omega) (by omega) (by decide) rfl rfl rfl
  refine ⟨by decide, by decide, by rw [z2.2.2.2.1]; omega, by rw [z2.2.2.2.2.1, cl_i (a := 200) (x := 200) (by decide) rfl]; omega, fun a2 b2 => ⟨?_, fun τ3 c3 => ?_⟩⟩
  · rw [b2, atg_mA, u1_k (by have := z2.2.2.1; omega)]; exact z2.1
  have z3 : INi σ τ3 m 3 (bc_ σ - 3) (bs_ σ - 819800) := by rw [c3, b2, cl_i (a := 200) (x := 200) (by decide) rfl]; exact INi_s z2 (by omega) (by omega) (by decide) rfl rfl rfl
  refine ⟨by decide, by decide, by rw [z3.2.2.2.1]; omega, by rw [z3.2.2.2.2.1, cl_i (a := 2048) (x := 2048) (by decide) rfl]; omega, fun a3 b3 => ⟨?_, fun τ4 c4 => ?_⟩⟩
  · rw [b3, atg_mA, u1_k (by have := z3.2.2.1; omega)]; exact z3.1
  have z4 : INi σ τ4 m 4 (bc_ σ - 4) (bs_ σ - 821848) := by rw [c4, b3, cl_i (a := 2048) (x := 2048) (by decide) rfl]; exact INi_s z3 (by omega) (by omega) (by decide) rfl rfl rfl
  refine ⟨by decide, by decide, by rw [z4.2.2.2.1]; omega, by rw [z4.2.2.2.2.1, cl_i (a := 700) (x := 700) (by decide) rfl]; omega, fun a4 b4 => ⟨?_, fun τ5 c5 => ?_⟩⟩
  · rw [b4, atg_mA, u1_k (by have := z4.2.2.1; omega)]; exact z4.1
  have z5 : INi σ τ5 m 5 (bc_ σ - 5) (bs_ σ - 822548) := by rw [c5, b4, cl_i (a := 700) (x := 700) (by decide) rfl]; exact INi_s z4 (by omega) (by omega) (by decide) rfl rfl rfl
  refine ⟨by decide, by decide, by rw [z5.2.2.2.1]; omega, by rw [z5.2.2.2.2.1, cl_i (a := 700) (x := 700) (by decide) rfl]; omega, fun a5 b5 => ⟨?_, fun τ6 c6 => ?_⟩⟩
  · rw [b5, atg_mA, u1_k (by have := z5.2.2.1; omega)]; exact z5.1
  have z6 : INi σ τ6 m 6 (bc_ σ - 6) (bs_ σ - 823248) := by rw [c6, b5, cl_i (a := 700) (x := 700) (by decide) rfl]; exact INi_s z5 (by omega) (by omega) (by decide) rfl rfl rfl
  refine ⟨by decide, by decide, by rw [z6.2.2.2.1]; omega, by rw [z6.2.2.2.2.1, cl_i (a := 700) (x := 700) (by decide) rfl]; omega, fun a6 b6 => ⟨?_, fun τ7 c7 => ?_⟩⟩
  · rw [b6, atg_mA, u1_k (by have := z6.2.2.1; omega)]; exact z6.1
  have z7 : INi σ τ7 m 7 (bc_ σ - 7) (bs_ σ - 823948) := by rw [c7, b6, cl_i (a := 700) (x := 700) (by decide) rfl]; exact INi_s z6 (by omega) (by omega) (by decide) rfl rfl rfl
  refine ⟨by decide, by decide, by rw [z7.2.2.2.1]; omega, by rw [z7.2.2.2.2.1, cl_i (a := 700) (x := 700) (by decide) rfl]; omega, fun a7 b7 => ⟨?_, fun τ8 c8 => ?_⟩⟩
  · rw [b7, atg_mA, u1_k (by have := z7.2.2.1; omega)]; exact z7.1
  have z8 : INi σ τ8 m 8 (bc_ σ - 8) (bs_ σ - 824648) := by rw [c8, b7, cl_i (a := 700) (x := 700) (by decide) rfl]; exact INi_s z7 (by omega) (by omega) (by decide) rfl rfl rfl
  refine ⟨by decide, by decide, by rw [z8.2.2.2.1]; omega, by rw [z8.2.2.2.2.1, cl_i (a := 700) (x := 700) (by decide) rfl]; omega, fun a8 b8 => ⟨?_, fun τ9 c9 => ?_⟩⟩
  · rw [b8, atg_mA, u1_k (by have := z8.2.2.1; omega)]; exact z8.1
  have z9 : INi σ τ9 m 9 (bc_ σ - 9) (bs_ σ - 825348) := by rw [c9, b8, cl_i (a := 700) (x := 700) (by decide) rfl]; exact INi_s z8 (by omega) (by omega) (by decide) rfl rfl rfl
  refine ⟨by decide, by decide, by rw [z9.2.2.2.1]; omega, by rw [z9.2.2.2.2.1, cl_i (a := 700) (x := 700) (by decide) rfl]; omega, fun a9 b9 => ⟨?_, fun τ10 c10 => ?_⟩⟩
  · rw [b9, atg_mA, u1_k (by have := z9.2.2.1; omega)]; exact z9.1
  have z10 : INi σ τ10 m 10 (bc_ σ - 10) (bs_ σ - 826048) := by rw [c10, b9, cl_i (a := 700) (x := 700) (by decide) rfl]; exact INi_s z9 (by omega) (by omega) (by decide) rfl rfl rfl
  refine ⟨by decide, by decide, by rw [z10.2.2.2.1]; omega, by rw [z10.2.2.2.2.1, cl_i (a := 700) (x := 700) (by decide) rfl]; omega, fun a10 b10 => ⟨?_, fun τ11 c11 => ?_⟩⟩
  · rw [b10, atg_mA, u1_k (by have := z10.2.2.1; omega)]; exact z10.1
  have z11 : INi σ τ11 m 11 (bc_ σ - 11) (bs_ σ - 826748) := by rw [c11, b10, cl_i (a := 700) (x := 700) (by decide) rfl]; exact INi_s z10 (by omega) (by omega) (by decide) rfl rfl rfl
  refine ⟨by decide, by decide, by rw [z11.2.2.2.1]; omega, by rw [z11.2.2.2.2.1, cl_i (a := 700) (x := 700) (by decide) rfl]; omega, fun a11 b11 => ⟨?_, fun τ12 c12 => ?_⟩⟩
  · rw [b11, atg_mA, u1_k (by have := z11.2.2.1; omega)]; exact z11.1
  have z12 : INi σ τ12 m 12 (bc_ σ - 12) (bs_ σ - 827448) := by rw [c12, b11, cl_i (a := 700) (x := 700) (by decide) rfl]; exact INi_s z11 (by omega) (by omega) (by decide) rfl rfl rfl
  refine ⟨by decide, by decide, by rw [z12.2.2.2.1]; omega, by rw [z12.2.2.2.2.1, cl_i (a := 700) (x := 700) (by decide) rfl]; omega, fun a12 b12 => ⟨?_, fun τ13 c13 => ?_⟩⟩
  · rw [b12, atg_mA, u1_k (by have := z12.2.2.1; omega)]; exact z12.1
  have z13 : INi σ τ13 m 13 (bc_ σ - 13) (bs_ σ - 828148) := by rw [c13, b12, cl_i (a := 700) (x := 700) (by decide) rfl]; exact INi_s z12 (by omega) (by omega) (by decide) rfl rfl rfl
  refine ⟨by decide, by decide, by rw [z13.2.2.2.1]; omega, by rw [z13.2.2.2.2.1, cl_i (a := 163840) (x := 163840) (by decide) rfl]; omega, fun a13 b13 => ⟨?_, fun τ14 c14 => ?_⟩⟩
  · rw [b13, atg_mA, u1_k (by have := z13.2.2.1; omega)]; exact z13.1
  have z14 : INi σ τ14 m 14 (bc_ σ - 14) (bs_ σ - 991988) := by rw [c14, b13, cl_i (a := 163840) (x := 163840) (by decide) rfl]; exact INi_s z13 (by omega) (by omega) (by decide) rfl rfl rfl
  refine ⟨by decide, by decide, by rw [z14.2.2.2.1]; omega, by rw [z14.2.2.2.2.1, cl_i (a := 30) (x := 30) (by decide) rfl]; omega, fun a14 b14 => ⟨?_, fun τ15 c15 => ?_⟩⟩
  · rw [b14, atg_mA, u1_k (by have := z14.2.2.1; omega)]; exact z14.1
  have z15 : INi σ τ15 m 15 (bc_ σ - 15) (bs_ σ - 992018) := by rw [c15, b14, cl_i (a := 30) (x := 30) (by decide) rfl]; exact INi_s z14 (by omega) (by omega) (by decide) rfl rfl rfl
  refine ⟨by decide, by decide, by rw [z15.2.2.2.1]; omega, by rw [z15.2.2.2.2.1, cl_i (a := 700) (x := 700) (by decide) rfl]; omega, fun a15 b15 => ⟨?_, fun τ16 c16 => ?_⟩⟩
  · rw [b15, atg_mA, u1_k (by have := z15.2.2.1; omega)]; exact z15.1
  have z16 : INi σ τ16 m 16 (bc_ σ - 16) (bs_ σ - 992718) := by rw [c16, b15, cl_i (a := 700) (x := 700) (by decide) rfl]; exact INi_s z15 (by omega) (by omega) (by decide) rfl rfl rfl
  refine ⟨by decide, by decide, by rw [z16.2.2.2.1]; omega, by rw [z16.2.2.2.2.1, cl_i (a := 700) (x := 700) (by decide) rfl]; omega, fun a16 b16 => ⟨?_, fun τ17 c17 => ?_⟩⟩
  · rw [b16, atg_mA, u1_k (by have := z16.2.2.1; omega)]; exact z16.1
  have z17 : INi σ τ17 m 17 (bc_ σ - 17) (bs_ σ - 993418) := by rw [c17, b16, cl_i (a := 700) (x := 700) (by decide) rfl]; exact INi_s z16 (by omega) (by omega) (by decide) rfl rfl rfl
  refine ⟨by decide, by decide, by rw [z17.2.2.2.1]; omega, by rw [z17.2.2.2.2.1, cl_i (a := 31) (x := 31) (by decide) rfl]; omega, fun a17 b17 => ⟨?_, fun τ18 c18 => ?_⟩⟩
  · rw [b17, atg_mA, u1_k (by have := z17.2.2.1; omega)]; exact z17.1
  have z18 : INi σ τ18 m 18 (bc_ σ - 18) (bs_ σ - 993449) := by rw [c18, b17, cl_i (a := 31) (x := 31) (by decide) rfl]; exact INi_s z17 (by omega) (by omega) (by decide) rfl rfl rfl
  refine ⟨by decide, by decide, by rw [z18.2.2.2.1]; omega, by rw [z18.2.2.2.2.1, cl_i (a := 31) (x := 31) (by decide) rfl]; omega, fun a18 b18 => ⟨?_, fun τ19 c19 => ?_⟩⟩
  · rw [b18, atg_mA, u1_k (by have := z18.2.2.1; omega)]; exact z18.1
  have z19 : INi σ τ19 m 19 (bc_ σ - 19) (bs_ σ - 993480) := by rw [c19, b18, cl_i (a := 31) (x := 31) (by decide) rfl]; exact INi_s z18 (by omega) (by omega) (by decide) rfl rfl rfl
  refine ⟨by decide, by decide, by rw [z19.2.2.2.1]; omega, by rw [z19.2.2.2.2.1, cl_i (a := 31) (x := 31) (by decide) rfl]; omega, fun a19 b19 => ⟨?_, fun τ20 c20 => ?_⟩⟩
  · rw [b19, atg_mA, u1_k (by have := z19.2.2.1; omega)]; exact z19.1
  have z20 : INi σ τ20 m 20 (bc_ σ - 20) (bs_ σ - 993511) := by rw [c20, b19, cl_i (a := 31) (x := 31) (by decide) rfl]; exact INi_s z19 (by omega) (by omega) (by decide) rfl rfl rfl
  refine ⟨by decide, by decide, by rw [z20.2.2.2.1]; omega, by rw [z20.2.2.2.2.1, cl_i (a := 31) (x := 31) (by decide) rfl]; omega, fun a20 b20 => ⟨?_, fun τ21 c21 => ?_⟩⟩
  · rw [b20, atg_mA, u1_k (by have := z20.2.2.1; omega)]; exact z20.1
  have z21 : INi σ τ21 m 21 (bc_ σ - 21) (bs_ σ - 993542) := by rw [c21, b20, cl_i (a := 31) (x := 31) (by decide) rfl]; exact INi_s z20 (by omega) (by omega) (by decide) rfl rfl rfl
  refine ⟨by decide, by decide, by rw [z21.2.2.2.1]; omega, by rw [z21.2.2.2.2.1, cl_i (a := 31) (x := 31) (by decide) rfl]; omega, fun a21 b21 => ⟨?_, fun τ22 c22 => ?_⟩⟩
  · rw [b21, atg_mA, u1_k (by have := z21.2.2.1; omega)]; exact z21.1
  have z22 : INi σ τ22 m 22 (bc_ σ - 22) (bs_ σ - 993573) := by rw [c22, b21, cl_i (a := 31) (x := 31) (by decide) rfl]; exact INi_s z21 (by omega) (by omega) (by decide) rfl rfl rfl
  refine ⟨by decide, by decide, by rw [z22.2.2.2.1]; omega, by rw [z22.2.2.2.2.1, cl_i (a := 31) (x := 31) (by decide) rfl]; omega, fun a22 b22 => ⟨?_, fun τ23 c23 => ?_⟩⟩
  · rw [b22, atg_mA, u1_k (by have := z22.2.2.1; omega)]; exact z22.1
  have z23 : INi σ τ23 m 23 (bc_ σ - 23) (bs_ σ - 993604) := by rw [c23, b22, cl_i (a := 31) (x := 31) (by decide) rfl]; exact INi_s z22 (by omega) (by omega) (by decide) rfl rfl rfl
  refine ⟨by decide, by decide, by rw [z23.2.2.2.1]; omega, by rw [z23.2.2.2.2.1, cl_i (a := 31) (x := 31) (by decide) rfl]; omega, fun a23 b23 => ⟨?_, fun τ24 c24 => ?_⟩⟩
  · rw [b23, atg_mA, u1_k (by have := z23.2.2.1; omega)]; exact z23.1
  have z24 : INi σ τ24 m 24 (bc_ σ - 24) (bs_ σ - 993635) := by rw [c24, b23, cl_i (a := 31) (x := 31) (by decide) rfl]; exact INi_s z23 (by omega) (by omega) (by decide) rfl rfl rfl
  refine ⟨by decide, by decide, by rw [z24.2.2.2.1]; omega, by rw [z24.2.2.2.2.1, cl_i (a := 31) (x := 31) (by decide) rfl]; omega, fun a24 b24 => ⟨?_, fun τ25 c25 => ?_⟩⟩
  · rw [b24, atg_mA, u1_k (by have := z24.2.2.1; omega)]; exact z24.1
  have z25 : INi σ τ25 m 25 (bc_ σ - 25) (bs_ σ - 993666) := by rw [c25, b24, cl_i (a := 31) (x := 31) (by decide) rfl]; exact INi_s z24 (by omega) (by omega) (by decide) rfl rfl rfl
  refine ⟨by decide, by decide, by rw [z25.2.2.2.1]; omega, by rw [z25.2.2.2.2.1, cl_i (a := 31) (x := 31) (by decide) rfl]; omega, fun a25 b25 => ⟨?_, fun τ26 c26 => ?_⟩⟩
  · rw [b25, atg_mA, u1_k (by have := z25.2.2.1; omega)]; exact z25.1
  have z26 : INi σ τ26 m 26 (bc_ σ - 26) (bs_ σ - 993697) := by rw [c26, b25, cl_i (a := 31) (x := 31) (by decide) rfl]; exact INi_s z25 (by omega) (by omega) (by decide) rfl rfl rfl
  refine ⟨by decide, by decide, by rw [z26.2.2.2.1]; omega, by rw [z26.2.2.2.2.1, cl_i (a := 31) (x := 31) (by decide) rfl]; omega, fun a26 b26 => ⟨?_, fun τ27 c27 => ?_⟩⟩
  · rw [b26, atg_mA, u1_k (by have := z26.2.2.1; omega)]; exact z26.1
  have z27 : INi σ τ27 m 27 (bc_ σ - 27) (bs_ σ - 993728) := by rw [c27, b26, cl_i (a := 31) (x := 31) (by decide) rfl]; exact INi_s z26 (by omega) (by omega) (by decide) rfl rfl rfl
  refine ⟨by decide, by decide, by rw [z27.2.2.2.1]; omega, by rw [z27.2.2.2.2.1, cl_i (a := 31) (x := 31) (by decide) rfl]; omega, fun a27 b27 => ⟨?_, fun τ28 c28 => ?_⟩⟩
  · rw [b27, atg_mA, u1_k (by have := z27.2.2.1; omega)]; exact z27.1
  have z28 : INi σ τ28 m 28 (bc_ σ - 28) (bs_ σ - 993759) := by rw [c28, b27, cl_i (a := 31) (x := 31) (by decide) rfl]; exact INi_s z27 (by omega) (by omega) (by decide) rfl rfl rfl
  obtain ⟨y1, y2, y3, y4, y5, y6, y7, y8⟩ := z28
  have hw : MW τ28 m := ⟨y1, y2, fun i hi => ⟨(y6 i hi).1, (y6 i hi).2.1, (y6 i hi).2.2.1⟩⟩
  have hbc : bc_ τ28 = bc_ σ - 28 := y4
  have hbs : bs_ τ28 = bs_ σ - 993759 := y5
  have zI : ∀ j x, 1 ≤ j → j ≤ 28 → aI_ τ28 (m + j) x = 0 := fun j x a b => by have := ((y6 (j - 1) (by omega)).2.2.2 x).1; rw [show 1 + (j - 1) = j by omega] at this; exact this
  have hnb := nOf_b x
  have fin : ∀ v : Int32, v = nI (nOf x) → wX9_init_L262 post m v m τ28 := by
    intro v hv
    unfold wX9_init_L262
    refine ⟨mw_tag hw, fun σ1 e1 => ⟨?_, fun σ2 e2 => ?_⟩⟩
    · rw [e1]; exact mw_tag hw
    have f2 : MFr m τ28 σ2 (fun _ _ => False) (fun k => k = 1 ∨ k = 7) := by rw [e2, e1]; exact (MFr.sI (Or.inl rfl)).trans (MFr.sI (Or.inr rfl))
    have e17 : fI_ σ2 8 1 m = nI (nOf x) ∧ fI_ σ2 8 7 m = -1 := by
      rw [e2, e1, hv]
      constructor
      · rw [afI_sI, u3_k (by decide), afI_sI, u3_e]
      · rw [afI_sI, u3_e]
    refine m_rootAlone (f2.mw hw) (fun σ3 f3 q1 q2 q3 σ4 e4 => ?_)
    have fa : MFr m τ28 σ3 PT (fun k => k = 1 ∨ k = 7 ∨ k = 10) := (f2.mono (fun _ _ z => z.elim) (fun k z => by omega)).trans (f3.mono (fun _ _ z => z) (fun k z => by unfold QT at z; omega))
    have z3I : ∀ j x, 1 ≤ j → j ≤ 4 → aI_ σ3 (m + j) x = 0 := fun j x a b => by rw [fa.a (by unfold PT; omega)]; exact zI j x a (by omega)
    have zf : ∀ k, k ≠ 1 → k ≠ 7 → k ≠ 10 → fI_ σ3 8 k m = 0 := fun k a b c => by rw [fa.f (by omega)]; exact y7 k
    have hMI : MI σ3 m (S0 x) := by
      refine ⟨⟨0, fa.mw hw, ⟨hnb.1, hnb.2, fun q => by show 0 < 256; omega, fun q => by show 0 < 3; omega⟩, by rw [f3.f (by unfold QT; omega)]; exact e17.1, by rw [zf 2 (by omega) (by omega) (by omega)]; rfl, Or.inl rfl, fun p hp => by rw [z3I 1 _ (by omega) (by omega)]; rfl, fun s hs => by rw [z3I 2 _ (by omega) (by omega)]; rfl⟩, ⟨fun s hs _ => by rw [z3I 3 _ (by omega) (by omega)]; rfl, by rw [zf 6 (by omega) (by omega) (by omega)]; rfl, fun _ => by rw [f3.f (by unfold QT; omega)]; exact e17.2, by rw [zf 8 (by omega) (by omega) (by omega)]; rfl, by rw [zf 20 (by omega) (by omega) (by omega)]; rfl⟩, ⟨q1, fun i hi => ?_, fun i hi _ => ?_⟩, ⟨by rw [zf 35 (by omega) (by omega) (by omega)]; rfl, fun i hi => absurd hi (by simp [sO, S0])⟩⟩
      · have : i = 0 := by have : i < 1 := hi; omega
        rw [this, q2]; rfl
      · have : i = 0 := by have : i < 1 := hi; omega
        rw [this]
        exact q3 [rootF] rfl rfl rfl
    rw [e4]
    refine k _ hMI (y8.trans fa.bel) ?_ ?_ ?_
    · rw [anx_bu, fa.1.2.2.2.2.2.1, y3]
    · rw [abc_bu, f2.1.2.2.2.2.2.2.1]; exact hbc
    · rw [abs_bu, f2.1.2.2.2.2.2.2.2.1]; exact hbs
  unfold wX9_init_L260
  refine ⟨fun q => fin 100 (by rw [nOf_o (Or.inl q)]; rfl), fun q => ⟨fun q2 => fin 100 (by rw [nOf_o (Or.inr q2)]; rfl), fun q2 => fin x (nOf_s q q2)⟩⟩
end
