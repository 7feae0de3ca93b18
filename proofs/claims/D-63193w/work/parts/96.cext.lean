/-! the burner lays a file -/
/-- what burning may change of what was there at σ0 -/
def WC (σ0 : Hp) (x md : Nat) (P : Nat → Prop) : Nat → Prop := fun r => (x + 1 ≤ r ∧ r ≤ x + 5) ∨ r = md + 1 ∨ r = md + 2 ∨ WL σ0 (x + 3) r ∨ P r
def FrC (σ0 σ : Hp) (x md : Nat) (P : Nat → Prop) : Prop := Kp True (WC σ0 x md P) σ0 σ ∧ (fR_ σ 10 1 (x + 3) = fR_ σ0 10 1 (x + 3) ∨ nx_ σ0 ≤ fR_ σ 10 1 (x + 3)) ∧ x + 3 < nx_ σ0
def BF (D : Nat) (σ0 σ : Hp) (x n md od q : Nat) (t : TT) (rf : Nat → Nat) (c : Nat) (R : List Nat) (ct : Nat) (f : Nat → Nat) (b : BS) (Df : Nat → Bool) (Bo : Nat → Nat) (P : Nat → Prop) : Prop :=
  BuE D σ x n md od q t rf c R ct f b Df Bo ∧ FrC σ0 σ x md P
section
variable {S : Prop} {W : Nat → Prop} {D n : Nat} {σ0 σ σ' τ : Hp} {x md od q : Nat} {t : TT} {rf : Nat → Nat} {c : Nat} {R : List Nat} {ct : Nat} {f : Nat → Nat} {b : BS} {Df : Nat → Bool} {Bo : Nat → Nat} {P : Nat → Prop}
theorem FrC.step (h : FrC σ0 σ x md P) (k : Kp True W σ τ) (hw : ∀ r, W r → (x + 1 ≤ r ∧ r ≤ x + 5 ∧ r ≠ x + 3) ∨ r = md + 1 ∨ r = md + 2 ∨ P r) (h3 : ¬ W (x + 3)) : FrC σ0 τ x md P := by
  obtain ⟨h1, h2, h4⟩ := h
  refine ⟨h1.trans k (fun r _ hr => ?_), ?_, h4⟩
  · rcases hw r hr with e | e | e | e
    · exact Or.inl (by omega)
    · exact Or.inr (Or.inl e)
    · exact Or.inr (Or.inr (Or.inl e))
    · exact Or.inr (Or.inr (Or.inr (Or.inr e)))
  · have : fR_ τ 10 1 (x + 3) = fR_ σ 10 1 (x + 3) := k.r (by have := h1.2.1; omega) h3
    rw [this]; exact h2
theorem FrC.tb (h : FrC σ0 σ x md P) (k : Kp False (WL σ (x + 3)) σ τ) (ha : fR_ τ 10 1 (x + 3) = fR_ σ 10 1 (x + 3) ∨ nx_ σ ≤ fR_ τ 10 1 (x + 3)) : FrC σ0 τ x md P := by
  obtain ⟨h1, h2, h4⟩ := h
  have hn := h1.2.1
  refine ⟨h1.trans (k.mono (fun z => z.elim) (fun _ _ z => z)) (fun r hr0 hr => ?_), ?_, h4⟩
  · rcases hr with e | ⟨e, e2⟩
    · exact Or.inl (by omega)
    · refine Or.inr (Or.inr (Or.inr (Or.inl (Or.inr ⟨?_, by rw [← h1.1]; exact e2⟩))))
      rcases h2 with z | z
      · rw [e, z]
      · omega
  · rcases ha with e | e
    · rw [e]; exact h2
    · right; omega
theorem BF.made (F : BF D σ0 σ x n md od q t rf c R ct f b Df Bo P) (hf' : WF D τ) (k : Kp False (fun _ => False) σ τ) : BF D σ0 τ x n md od q t rf c R ct f b Df Bo P :=
  ⟨F.1.made hf' k, F.2.step (k.mono (fun z => z.elim) (fun _ _ z => z)) (fun _ z => z.elim) (fun z => z)⟩
theorem BF.bu (F : BF D σ0 σ x n md od q t rf c R ct f b Df Bo P) {i j : Nat} : BF D σ0 (bu_ σ i j) x n md od q t rf c R ct f b Df Bo P := F
theorem BF.pg {g : Nat → Nat} (F : BF D σ0 σ x n md od q t rf c R ct f b Df Bo P) (k : AF (x + 5) σ τ) (h : PgA D τ (x + 4) (x + 5) g) : BF D σ0 τ x n md od q t rf c R ct g b Df Bo P :=
  ⟨F.1.pg k h, F.2.step k.kp (fun r z => Or.inl (by omega)) (by omega)⟩
theorem BF.tb {R' : List Nat} {ct' : Nat} (F : BF D σ0 σ x n md od q t rf c R ct f b Df Bo P) (hf' : WF D τ) (k : Kp False (WL σ (x + 3)) σ τ) (h : Lst τ 6 (x + 3) R' ct') (ha : fR_ τ 10 1 (x + 3) = fR_ σ 10 1 (x + 3) ∨ nx_ σ ≤ fR_ τ 10 1 (x + 3)) : BF D σ0 τ x n md od q t rf c R' ct' f b Df Bo P :=
  ⟨F.1.tb hf' k h ha, F.2.tb k ha⟩
theorem BF.sc (F : BF D σ0 σ x n md od q t rf c R ct f b Df Bo P) {k' r : Nat} {v : Int32} (hk : 9 ≤ k') : BF D σ0 (sI_ σ 5 k' r v) x n md od q t rf c R ct f b Df Bo P :=
  ⟨F.1.sc hk, F.2.step (W := fun _ => False) (Kp.sI' Kp.refl (Or.inr (Or.inr ⟨trivial, rfl, hk⟩))) (fun _ z => z.elim) (fun z => z)⟩
theorem BF.md2 (F : BF D σ0 σ x n md od q t rf c R ct f b Df Bo P) : md = x + 10 ∨ md = x + 14 := F.1.2.1.2.2.1
theorem c_writesF (F : BF D σ0 σ x n md od q t rf c R ct f b Df Bo P) (hlo : bLo b = false) {s : Nat} (hs : s < n) (hg : ∀ i, f i < 256) {post : Int32 → Hp → Prop}
    (k : ∀ σ', BF D σ0 σ' x n md od q t rf c R ct f (burn1 Df s f b).2 Df Bo P → nx_ σ' = nx_ σ → bc_ σ' = bc_ σ → bs_ σ' = bs_ σ → post (if (burn1 Df s f b).1 = 0 then 1 else 0) σ') : wX3_writes (x + 2) (nI s) (x + 5) 0 σ post :=
  c_writes F.1 hlo hs hg (fun σ' E' k' h1 h2 h3 => k σ' ⟨E', F.2.step (k'.mono (fun z => z.elim) (fun _ _ z => z)) (by
    have := F.md2
    rintro r (e | e | e)
    · exact Or.inl (by omega)
    · exact Or.inr (Or.inl e)
    · exact Or.inr (Or.inr (Or.inl e))) (by have := F.md2; rintro (e | e | e) <;> omega)⟩ h1 h2 h3)
theorem c_blank (F : BF D σ0 σ x n md od q t rf c R ct f b Df Bo P) {post : Nat → Hp → Prop} (k : ∀ σ', BF D σ0 σ' x n md od q t rf c R ct (fun _ => 0) b Df Bo P → AF (x + 5) σ σ' → post (x + 4) σ') : wX3_blank (x + 2) σ post := by
  obtain ⟨hf, hx, hb, hp, hpg, hmd, hod, htr, htz, htb, ok, hD⟩ := id F.1
  unfold wX3_blank
  rw [hb.2.2.2.2.2.2]
  refine ⟨hb.1, hpg.1, c_clear hpg (fun s1 a1 g1 => ?_)⟩
  have F1 := F.pg a1 g1
  have hb1 := F1.1.2.2.1
  rw [hb1.2.2.2.2.2.2]
  exact ⟨hb1.1, k s1 F1 a1⟩
theorem c_contentOf (F : BF D σ0 σ x n md od q t rf c R ct f b Df Bo P) {k' j : Nat} (hk : k' ∈ tL t) (h0 : 0 < k') (hd : tD t k' = 0) (hj : j < 300) (hw : tW t k' = true → md ≠ od) {post : Nat → Hp → Prop} (k : ∀ σ', BF D σ0 σ' x n md od q t rf c R ct (filP t Bo k' (tW t k') j) b Df Bo P → nx_ σ' = nx_ σ → bc_ σ' = bc_ σ → bs_ σ' = bs_ σ → post (x + 5) σ') : wX3_contentOf (x + 2) (rf k') (nI j) σ post := by
  have hb := F.1.2.2.1
  unfold wX3_contentOf
  refine ⟨hb.1, c_blank F (fun s1 F1 a1 => ?_)⟩
  obtain ⟨hf, hx, hb1, hp, hpg, hmd, hod, htr, htz, htb, ok, hD⟩ := id F1.1
  obtain ⟨m1, m2⟩ := mem_tL.mp hk
  obtain ⟨o1, o2, o3, o4, o5, o6, o7, o8, o9⟩ := ok.2.2.2.1 k' h0 m1 m2
  have hn := hmd.med.2.1
  refine ⟨hpg.1, fun y hy => ?_⟩
  have hy' : y = x + 5 := by rw [hy]; exact hpg.2.1
  subst hy'
  obtain ⟨g, hg⟩ : ∃ g, g = filP t Bo k' (tW t k') j := ⟨_, rfl⟩
  rw [← hg] at k
  unfold wX3_contentOf_L11
  refine lpG2 (B := fun R y s => wX3_contentOf_B11 post R (x + 2) (rf k') (nI j) (x + 5) y s) (fun i y s => i ≤ 2048 ∧ y = nI (2048 - i) ∧ AF (x + 5) s1 s ∧ PgA D s (x + 4) (x + 5) (fun i' => if i' < 2048 - i then g i' else 0)) 2048 ⟨Nat.le_refl _, by decide, AF.refl, hpg.ext (fun i _ => by rw [if_neg (by omega)])⟩ ?_
  rintro i y s R' ⟨g1, rfl, g3, g4⟩ hR
  have F3 := F1.pg g3 g4
  obtain ⟨hf3, hx3, hb3, hp3, hpg3, hmd3, hod3, htr3, htz3, htb3, ok3, hD3⟩ := id F3.1
  obtain ⟨n1, n2, n3, n4, n5, n6, n7, n8, n9, n10⟩ := htr3.2.2.2 k' hk
  have fin : (∀ i', 2048 - i ≤ i' → i' < 2048 → g i' = 0) → post (x + 5) s := by
    intro hz
    refine k s (F1.pg g3 (g4.ext (fun i' hi' => ?_))) ?_ ?_ ?_
    · by_cases e : i' < 2048 - i
      · rw [if_pos e]
      · rw [if_neg e, hz i' (by omega) hi']
    · rw [g3.2.2.2.2.2.2.2.1, a1.2.2.2.2.2.2.2.1]
    · rw [g3.2.2.2.2.2.2.2.2.1, a1.2.2.2.2.2.2.2.2.1]
    · rw [g3.2.2.2.2.2.2.2.2.2.1, a1.2.2.2.2.2.2.2.2.2.1]
  unfold wX3_contentOf_B11
  rw [li_2048, nI_leI (by omega) (by omega)]
  refine ⟨fun z => fin (fun i' h1 h2 => by omega), fun z => ⟨n1, ?_⟩⟩
  rw [n5, pk_mul, nI_add, nI_leI (by omega) (by omega)]
  refine ⟨fun z2 => fin (fun i' h1 h2 => ?_), fun z2 y9 hy9 => ?_⟩
  · rw [hg]; unfold filP; rw [if_neg (by omega)]
  subst hy9
  have step : ∀ v : Int32, v = sb_b (g (2048 - i)) → wX3_contentOf_L93 post R' (x + 2) (rf k') (nI j) (x + 5) (nI (2048 - i)) v (nI (2048 - i)) (x + 5) s := by
    intro v hv
    unfold wX3_contentOf_L93
    rw [hv, nar_b, nI_clamp (by omega), hpg3.2.2.2.1]
    refine ⟨hpg3.2.2.1, hpg3.2.2.2.2.1, (vin_ (by omega)).mpr (by omega), fun s4 e4 y hy => hR (i - 1) y s4 (by omega) ⟨by omega, by rw [hy, li_1, nI_add]; congr 1; omega, by rw [e4]; exact g3.wI, ?_⟩⟩
    rw [e4]
    refine (g4.wr (i := 2048 - i) (c := g (2048 - i))).ext (fun i' hi' => ?_)
    by_cases e : i' = 2048 - i
    · subst e
      have := ov_in (f := fun i' => if i' < 2048 - i then g i' else 0) (p := 2048 - i) (i := 0) (l := [g (2048 - i)]) (by simp)
      simp only [Nat.add_zero, List.getD_cons_zero] at this
      rw [this, if_pos (by omega)]
    · rw [ov_out (by simp; omega)]
      by_cases e2 : i' < 2048 - i
      · rw [if_pos e2, if_pos (by omega)]
      · rw [if_neg e2, if_neg (by omega)]
  have hgv : g (2048 - i) = (if tW t k' then Bo (2048 * tX t k' + (2048 * j + (2048 - i))) else (tE t k' + 3 * (2048 * j + (2048 - i)) + (2048 * j + (2048 - i)) / 128) % 256) := by
    rw [hg]; unfold filP; rw [if_pos (by omega)]
  rw [n8, n6, n7]
  refine ⟨fun z3 => step _ ?_, fun z3 => ?_⟩
  · have hwf : tW t k' = false := b2_0.mp z3
    have hE := (o9 hd hwf).2.1
    rw [hgv, hwf, li_3, pk_mul, li_128, pk_div (by omega) (by decide) (by decide), nI_add, nI_add]
    have e : j * 2048 + (2048 - i) = 2048 * j + (2048 - i) := by omega
    rw [e]
    show sb_b _ = sb_b _
    unfold sb_b
    rw [byt_b, byt_b]
    congr 1
    unfold byt nI
    simp
  · have hwt : tW t k' = true := by
      cases hh : tW t k' with
      | true => rfl
      | false => rw [hh] at z3; exact absurd rfl z3
    obtain ⟨Sto, Dfo, hold⟩ := hod3 (hw hwt)
    obtain ⟨⟨q1, q2, q3, q4, q5⟩, ⟨q6, q7, q8⟩, ⟨q9, q10, q11⟩, q12, q13, q14, q15, q16⟩ := id hold
    have hX := o8 hd hwt
    rw [hb3.2.2.1, q3, q9, pk_mul, nI_add, nI_clamp (by omega), q14 _ (by omega)]
    refine ⟨hb3.1, q1, q6, (vin_ (by omega)).mpr (by omega), step _ ?_⟩
    rw [hgv, hwt]
    congr 2
    omega
end
