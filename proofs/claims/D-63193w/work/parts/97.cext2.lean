/-! the burner gives a file its extent -/
section
variable {S : Prop} {W : Nat → Prop} {D n : Nat} {σ0 σ σ' τ : Hp} {x md od q : Nat} {t : TT} {rf : Nat → Nat} {c : Nat} {R : List Nat} {ct : Nat} {f : Nat → Nat} {b : BS} {Df : Nat → Bool} {Bo : Nat → Nat} {P : Nat → Prop}
theorem c_need (h : NdA D σ q t c) (hs : tS t c ≤ 409600) {post : Int32 → Prop} (k : post (nI ((tS t c + 2047) / 2048))) : wX6_need q σ post := by
  unfold wX6_need
  refine ⟨h.1, ?_⟩
  rw [h.2.2.2.2.1, li_2048, nI_add, li_1, pk_sub (by omega), pk_div (by omega) (by decide) (by decide)]
  exact k
/-- a node's extent is written -/
theorem BF.lay (F : BF D σ0 σ x n md od q t rf c R ct f b Df Bo P) {k s : Nat} (hk : k ∈ tL t) (h0 : 0 < k) (hf' : s ≤ 200) (hfn : s + (tS t k + 2047) / 2048 ≤ n) (hS : 0 < tS t k) (hD : tD t k = 0) (hP : P (rf k)) : BF D σ0 (sI_ (sI_ σ 5 5 (rf k) (nI s)) 5 8 (rf k) 1) x n md od q (tLay t k s) rf c R ct f b Df Bo P := by
  obtain ⟨⟨hf, ⟨x1, x2, x3, x4⟩, hb, hp, hpg, hmd, hod, htr, htz, htb, ok, hD'⟩, hfr⟩ := F
  obtain ⟨τ, hτ⟩ : ∃ τ, τ = sI_ (sI_ σ 5 5 (rf k) (nI s)) 5 8 (rf k) 1 := ⟨_, rfl⟩
  rw [← hτ]
  have kk : Kp False (fun r => r = rf k) σ τ := by
    rw [hτ]; (repeat' first | with_reducible exact Kp.refl | with_reducible assumption | with_reducible apply Kp.sI' | with_reducible apply Kp.sL' | with_reducible apply Kp.sR' | with_reducible apply Kp.wI' | with_reducible apply Kp.wR' | with_reducible apply Kp.cI' | with_reducible apply Kp.cR' | with_reducible apply Kp.mO' | with_reducible apply Kp.mA' | with_reducible apply Kp.bu' | exact Or.inl rfl | exact Or.inr (Nat.le_refl _) | exact Or.inr (by omega) | exact Or.inr (Or.inl (by omega)))
  have hf2 : WF D τ := by rw [hτ]; exact WF.sI (hf.sI (by decide)) (by decide)
  obtain ⟨z1, z2, z3, z4⟩ := id htz
  have zk := z4 k hk
  unfold dz at zk
  have hnd := htr.2.2.2 k hk
  have t6 : tg_ σ (rf k) = 6 := hnd.1
  have hw : WS D σ (fun r => r = rf k) := fun r hr => by
    subst hr; rw [t6]; exact ⟨by decide, fun z => absurd z (by decide), by omega⟩
  have av : ∀ r, tg_ σ r ≠ 6 → ¬ r = rf k := fun r h z => h (by rw [z]; exact t6)
  have aT := htb.1.2.2.1
  refine ⟨⟨hf2, ⟨x1, by rw [kk.1]; exact x2, x3, x4⟩, hb.kp hf kk (by omega), hp.kp hf kk (by omega), hpg.kp hf kk (by omega) (by omega), hmd.kp hf kk (by omega) (by omega) (by omega) (by omega), fun z => ?_, ⟨?_, ?_, ?_, fun i hi => ?_⟩, htz.kp hf htr kk (av _ (by rw [htr.1]; decide)) (av _ (by rw [htr.2.2.1.1]; decide)), htb.kp hf kk (by omega) (av _ (by rw [aT]; decide)) (by omega), tLay_ok ok h0 hf' hfn hS hD, by have := kk.2.1; omega⟩, hfr.step (kk.mono (fun z => z.elim) (fun _ _ z => z)) (fun r hr => Or.inr (Or.inr (Or.inr (by rw [hr]; exact hP)))) (by omega)⟩
  · obtain ⟨s, d, h⟩ := hod z
    exact ⟨s, d, h.kp hf kk (by omega) (by omega) (by omega) (by omega)⟩
  · rw [hτ]; exact htr.1
  · rw [hτ, afI_sI, u3_c (by decide), afI_sI, u3_c (by decide)]; exact htr.2.1
  · have := htr.2.2.1.kp hf kk (av _ (by rw [htr.2.2.1.1]; decide)) (av _ (by rw [htr.2.2.1.2.2.1]; decide)) (by omega) (htr.2.2.1.lt hf (by decide))
    have e : fR_ τ 4 0 q = fR_ σ 4 0 q := by rw [hτ]; rfl
    rw [e]; exact this
  · have hi' : i ∈ tL t := hi
    by_cases e : i = k
    · subst e
      obtain ⟨n1, n2, n3, n4, n5, n6, n7, n8, n9, n10⟩ := hnd
      have s9 := n9.kp hf kk hw
      have s10 := n10.kp hf kk hw
      have er : fR_ τ = fR_ σ := by rw [hτ]; rfl
      have e5 : ∀ k', k' ≠ 5 → k' ≠ 8 → fI_ τ 5 k' (rf i) = fI_ σ 5 k' (rf i) := fun k' h1 h2 => by rw [hτ, afI_sI, u3_k h2, afI_sI, u3_k h1]
      refine ⟨by rw [hτ]; exact n1, by rw [e5 _ (by decide) (by decide)]; exact n2, by rw [e5 _ (by decide) (by decide)]; exact n3, by rw [e5 _ (by decide) (by decide)]; exact n4, by rw [e5 _ (by decide) (by decide)]; exact n5, by rw [e5 _ (by decide) (by decide)]; exact n6, ?_, ?_, by rw [er]; exact s9, by rw [er]; exact s10⟩
      · rw [hτ, afI_sI, u3_k (by decide), afI_sI, u3_e]
        show nI s = nI (upA (tX t) i s i)
        rw [upA_e]
      · rw [hτ, afI_sI, u3_e]
        show 1 = b2 (upA (tW t) i true i)
        rw [upA_e]; rfl
    · have hne : rf i ≠ rf k := fun z => by
        have a1 := (htr.2.2.2 i hi').2.1
        have a2 := hnd.2.1
        rw [z, a2, nI_eq (by have := tL_lt ok hk; omega) (by have := tL_lt ok hi'; omega)] at a1
        exact e a1.symm
      refine ((htr.2.2.2 i hi').kp hf kk hw hne).same ⟨rfl, rfl, rfl, rfl, rfl, ?_, ?_⟩
      · show upA (tX t) k s i = _; rw [upA_n e]
      · show upA (tW t) k true i = _; rw [upA_n e]
theorem burn1_lo (Df : Nat → Bool) (s : Nat) (g : Nat → Nat) {b : BS} (h : bLo b = false) : bLo (burn1 Df s g b).2 = decide ((burn1 Df s g b).1 = 2) := by
  unfold burn1
  split
  · rfl
  · split
    · exact h
    · exact h
theorem c_extent (F : BF D σ0 σ x n md od q t rf c R ct f b Df Bo P) (hlo : bLo b = false) (hBo : ∀ q, Bo q < 256) {k' : Nat} (hk : k' ∈ tL t) (h0 : 0 < k') (hd : tD t k' = 0) (hS0 : 0 < tS t k') (hw : tW t k' = true → md ≠ od) (hP : P (rf k')) {post : Int32 → Hp → Prop}
    (k0 : ∀ σ' s b' f', layB n Df ((tS t k' + 2047) / 2048) (filP t Bo k' (tW t k')) 201 b = (0, s, b') → bLo b' = false → BF D σ0 σ' x n md od q (tLay t k' s) rf c R ct f' b' Df Bo P → nx_ σ' = nx_ σ → bc_ σ' = bc_ σ → bs_ σ' = bs_ σ → post 0 σ')
    (k3 : ∀ σ' cc s b' f', layB n Df ((tS t k' + 2047) / 2048) (filP t Bo k' (tW t k')) 201 b = (cc, s, b') → (cc = 3 ∨ cc = 4) → BF D σ0 σ' x n md od q t rf c R ct f' b' Df Bo P → nx_ σ' = nx_ σ → bc_ σ' = bc_ σ → bs_ σ' = bs_ σ → post (cod cc) σ') : wX3_extent (x + 2) (rf k') σ post := by
  obtain ⟨need, hnd⟩ : ∃ q, q = (tS t k' + 2047) / 2048 := ⟨_, rfl⟩
  obtain ⟨g, hgd⟩ : ∃ g, g = filP t Bo k' (tW t k') := ⟨_, rfl⟩
  rw [← hnd, ← hgd] at k0 k3
  have hg256 : ∀ j i, g j i < 256 := fun j i => by rw [hgd]; exact filP_lt hBo _ _ j i
  obtain ⟨m1, m2⟩ := mem_tL.mp hk
  have ok := F.1.2.2.2.2.2.2.2.2.2.2.1
  obtain ⟨o1, o2, o3, o4, o5, o6, o7, o8, o9⟩ := ok.2.2.2.1 k' h0 m1 m2
  obtain ⟨Z, hZ⟩ : ∃ Z, layB n Df need g 201 b = Z := ⟨_, rfl⟩
  have hn2 := F.1.2.2.2.2.2.1.med.2.1
  unfold wX3_extent wX3_extent_L0
  refine lpG1 (B := fun R s => wX3_extent_B0 post R (x + 2) (rf k') s) (fun j s => ∃ b' f', layB n Df need g j b' = Z ∧ n < j + frt (bSt b') n ∧ BF D σ0 s x n md od q t rf c R ct f' b' Df Bo P ∧ bLo b' = false ∧ nx_ s = nx_ σ ∧ bc_ s = bc_ σ ∧ bs_ s = bs_ σ) 201 ⟨b, f, hZ, by omega, F, hlo, rfl, rfl, rfl⟩ ?_
  rintro j s R' ⟨b1, f1, h2, h3, h4, h5, h6, h7, h8⟩ hR
  have hfle := frt_le (bSt b1) n
  obtain ⟨j, rfl⟩ : ∃ q, j = q + 1 := ⟨j - 1, by omega⟩
  obtain ⟨e, he⟩ : ∃ e, e = frt (bSt b1) n := ⟨_, rfl⟩
  unfold layB at h2
  rw [← he] at h2 h3 hfle
  have E4 := h4.1
  have nd4 := E4.2.2.2.2.2.2.2.1.2.2.2 k' hk
  unfold wX3_extent_B0
  rw [E4.2.2.1.2.1]
  refine ⟨E4.2.2.1.1, E4.2.2.2.2.2.1.tag, c_front E4.2.2.2.2.2.1 ⟨nd4.1, c_need nd4 o4 ?_⟩⟩
  rw [E4.2.2.2.2.2.1.1.2.1, ← he, ← hnd, nI_add, nI_leI (by omega) (by omega)]
  refine ⟨fun z => ?_, fun z => ?_⟩
  · rw [if_neg (by omega)] at h2
    -- the end of a try
    have L60 : ∀ (s' : Hp) (i cc : Nat) (bb : BS) (f' : Nat → Nat), BF D σ0 s' x n md od q t rf c R ct f' bb Df Bo P → burnS Df e g need 0 b1 = (cc, bb) → (cc = 0 → i = need) → (cc ≠ 0 → i < need) → cc ≤ 2 → bLo bb = decide (cc = 2) → nx_ s' = nx_ σ → bc_ s' = bc_ σ → bs_ s' = bs_ σ → wX3_extent_L60 post R' (x + 2) (rf k') (nI e) (nI i) s' := by
      intro s' i cc bb f' g1 g2 g3 g4 g5 g6 g7 g8 g9
      have E' := g1.1
      have nd' := E'.2.2.2.2.2.2.2.1.2.2.2 k' hk
      have ni : i ≤ need := by
        by_cases e0 : cc = 0
        · have := g3 e0; omega
        · have := g4 e0; omega
      rw [g2] at h2
      unfold wX3_extent_L60
      rw [E'.2.2.1.2.2.2.1, E'.2.2.2.1.2.2.2, b2_0, g6]
      refine ⟨E'.2.2.1.1, E'.2.2.2.1.1, fun y => ⟨nd'.1, c_need nd' o4 ?_⟩, fun y => ?_⟩
      · have c2 : cc ≠ 2 := of_decide_eq_false y
        rw [← hnd, nI_leI (by omega) (by omega)]
        refine ⟨fun y2 s7 e7 s8 e8 => ?_, fun y2 => ?_⟩
        · have c0 : cc = 0 := by
            rcases Nat.eq_zero_or_pos cc with v | v
            · exact v
            · have := g4 (by omega); omega
          subst c0
          have hz : Z = (0, e, bb) := h2.symm
          have := g1.lay hk h0 (s := e) (by omega) (by rw [← hnd]; omega) hS0 hd hP
          rw [← e7, ← e8] at this
          exact k0 s8 e bb f' (by rw [hZ, hz]) g6 this (by rw [e8, e7]; exact g7) (by rw [e8, e7]; exact g8) (by rw [e8, e7]; exact g9)
        · have c1 : cc = 1 := by
            rcases Nat.eq_zero_or_pos cc with v | v
            · have := g3 v; omega
            · omega
          have h2' : layB n Df need g j bb = Z := by rw [← h2]; simp only; rw [if_neg c2, if_pos c1]
          obtain ⟨s, s1, s2, s3⟩ := (burnS_st Df e g need 0 b1).2.1 (by rw [g2]; exact c1)
          rw [g2] at s3
          have := frt_ge (St := bSt bb) (n := n) (s := s) (by rw [s3]; decide) (by omega)
          exact hR j s' (by omega) ⟨bb, f', h2', by omega, g1, by rw [g6]; exact y, g7, g8, g9⟩
      · have c2 : cc = 2 := by
          cases v : decide (cc = 2) with
          | true => exact of_decide_eq_true v
          | false => exact absurd v y
        have h2' : (4, 0, bb) = Z := by rw [← h2]; simp only; rw [if_pos c2]
        exact k3 s' 4 0 bb f' (by rw [hZ, ← h2']) (Or.inr rfl) g1 g7 g8 g9
    unfold wX3_extent_L29
    refine lpG2 (B := fun R2 y s' => wX3_extent_B29 post R' R2 (x + 2) (rf k') (nI e) y s') (fun i y s' => ∃ r bb f', r + i = need ∧ y = nI r ∧ BF D σ0 s' x n md od q t rf c R ct f' bb Df Bo P ∧ bLo bb = false ∧ burnS Df e g (need - r) r bb = burnS Df e g need 0 b1 ∧ nx_ s' = nx_ σ ∧ bc_ s' = bc_ σ ∧ bs_ s' = bs_ σ) need ⟨0, b1, f1, by omega, rfl, h4, h5, by rw [Nat.sub_zero], h6, h7, h8⟩ ?_
    rintro i y s' R2 ⟨r, bb, f', g1, rfl, g3, g4, g5, g6, g7, g8⟩ hR2
    have E' := g3.1
    have nd' := E'.2.2.2.2.2.2.2.1.2.2.2 k' hk
    unfold wX3_extent_B29
    refine ⟨nd'.1, c_need nd' o4 ?_⟩
    rw [← hnd, nI_leI (by omega) (by omega)]
    refine ⟨fun y => ?_, fun y => ⟨E'.2.2.1.1, c_contentOf g3 hk h0 hd (by omega) hw (fun s4 F4 w1 w2 w3 => ⟨F4.1.2.2.1.1, ?_⟩)⟩⟩
    · have : r = need := by omega
      subst this
      rw [Nat.sub_self] at g5
      exact L60 s' r 0 bb f' g3 g5.symm (fun _ => rfl) (fun v => absurd rfl v) (by decide) g4 g6 g7 g8
    · rw [← hgd] at F4
      rw [nI_add]
      refine c_writesF F4 g4 (by omega) (hg256 r) (fun s5 F5 v1 v2 v3 => ?_)
      obtain ⟨i, rfl⟩ : ∃ q, i = q + 1 := ⟨i - 1, by omega⟩
      rw [show need - r = i + 1 by omega, burnS_s] at g5
      obtain ⟨st1, st2, st3, st4, st5⟩ := burn1_st Df (e + r) (g r) bb
      have lo1 := burn1_lo Df (e + r) (g r) g4
      by_cases c0 : (burn1 Df (e + r) (g r) bb).1 = 0
      · rw [if_pos c0] at g5 ⊢
        refine ⟨fun v => absurd v (by decide), fun _ y hy => hR2 i y s5 (by omega) ⟨r + 1, (burn1 Df (e + r) (g r) bb).2, g r, by omega, by rw [hy, li_1, nI_add], F5, by rw [lo1, c0]; rfl, by rw [show need - (r + 1) = i by omega]; exact g5, by omega, by omega, by omega⟩⟩
      · rw [if_neg c0] at g5 ⊢
        refine ⟨fun _ => L60 s5 r (burn1 Df (e + r) (g r) bb).1 _ _ F5 g5.symm (fun v => absurd v c0) (fun _ => by omega) ?_ lo1 (by omega) (by omega) (by omega), fun v => absurd rfl v⟩
        unfold burn1
        split
        · exact Nat.le_refl _
        · split
          · exact Nat.le_succ _
          · exact Nat.zero_le _
  · rw [if_pos (by omega)] at h2
    exact k3 s 3 0 b1 f1 (by rw [hZ, ← h2]) (Or.inl rfl) h4 h6 h7 h8
end
