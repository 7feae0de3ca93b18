/-! the class: a reader begins, says, opens -/
section
variable {S' : Prop} {W : Nat → Prop} {D n : Nat} {σ σ0 σ' τ υ : Hp} {x md od q la r r' m c c' : Nat} {t t' : TT} {rf : Nat → Nat} {O F F0 F' : List FT} {S S2 : AS} {B St : Nat → Nat} {Df : Nat → Bool}
theorem c_begin (hf : WF D σ) (hS : RdS D σ r m F c) (hm : MdA D σ md n B St Df) (hmr : md + 3 < r) (hD : D < nx_ σ) {post : Hp → Prop} (k : ∀ σ', BR D σ σ' r md n B St Df [] c → bc_ σ' = bc_ σ → bs_ σ' = bs_ σ → post σ') : wX8_begin r md σ post := by
  obtain ⟨hc, hmd, hp, hl, la, fo, rr, len⟩ := id hS
  have l0 := hf.lt hc.1
  unfold wX8_begin
  refine ⟨hc.1, fun s2 e2 => ?_⟩
  have kp : Kp False (fun z => z = r) σ s2 := by rw [e2]; exact Kp.sR' Kp.refl (Or.inl rfl)
  have f2 : WF D s2 := by rw [e2]; exact hf.sR (by decide)
  have r2 : ∀ c' k' r', (c' ≠ 7 ∨ k' ≠ 3) → fR_ s2 c' k' r' = fR_ σ c' k' r' := fun c' k' r' hne => by
    rw [e2, afR_sR]
    unfold u3_
    rw [if_neg (by omega)]
  have hS2 : RdS D s2 r md F c := by
    refine ⟨⟨by rw [e2]; exact hc.1, by rw [r2 _ _ _ (by omega)]; exact hc.2.1, by rw [r2 _ _ _ (by omega)]; exact hc.2.2.1, by rw [e2, afR_sR, u3_e], by rw [r2 _ _ _ (by omega)]; exact hc.2.2.2.2⟩, by rw [e2]; exact hmd, by rw [e2]; exact hp, ?_, by rw [r2 _ _ _ (by omega), e2]; exact la, by rw [e2]; exact fo, by rw [e2]; exact rr, len⟩
    have e : rfs s2 r F.length = rfs σ r F.length := by rw [e2]; rfl
    rw [e]
    obtain ⟨a1, a2, a3, a4, a5, a6, a7, a8, a9, a10⟩ := hl
    have ra : fR_ s2 10 1 (r + 1) = fR_ σ 10 1 (r + 1) := r2 _ _ _ (by omega)
    have rb : fR_ s2 100 1 0 = fR_ σ 100 1 0 := r2 _ _ _ (by omega)
    refine ⟨by rw [e2]; exact a1, by rw [e2]; exact a2, by rw [ra, e2]; exact a3, by rw [ra, e2]; exact a4, a5, by rw [e2]; exact a6, a7, fun i hi => by rw [ra, e2]; exact a8 i hi, by rw [ra, rb, e2]; exact a9, by rw [e2]; exact a10⟩
  have H2 : BR D σ s2 r md n B St Df F c := by
    refine ⟨⟨f2, hS2, hm.kp hf kp (by omega) (by omega) (by omega) (by omega), hmr, by rw [e2]; exact hD⟩, (FrR.refl (hf.lt hp.1)).step kp (fun z _ e => Or.inl (by omega)) (Or.inl (r2 _ _ _ (by omega))) (fun i _ => Or.inl (by rw [e2]; rfl))⟩
  rw [hS2.1.2.1]
  refine ⟨hS2.2.2.2.1.1, l_clear hS2.2.2.2.1 f2 (fun s4 g1 g2 g3 g4 g5 g6 g7 g8 => k s4 (H2.clear g1 g2 g3 g4 g6) (by rw [g7, e2]; rfl) (by rw [g8, e2]; rfl))⟩
theorem c_says1 (H : RdE D σ r md n B St Df F c) (hq : q < 200) (h1 : 35 ≤ bc_ σ) (h2 : 266 ≤ bs_ σ) {post : Int32 → Hp → Prop}
    (k1 : ∀ F c' σ', rd n B St q = .inr F → BR D σ σ' r md n B St Df F c' → FOK n F → post (nI F.length) σ')
    (k0 : ∀ w F c' σ', rd n B St q = .inl w → w < 2 ^ 30 → BR D σ σ' r md n B St Df F c' → post (-1 - nI w) σ') : wX1_says r (nI q) σ post := by
  unfold wX1_says
  rw [nI_l (by omega)]
  refine ⟨H.2.1.1.1, 35, 266, h1, h2, c_reads (σ := bu_ σ 35 266) H hq (Nat.le_refl _) (Nat.le_refl _) (fun F c' s7 e7 H7 ok7 s8 e8 => ⟨fun w => absurd w (by decide), fun _ => ?_⟩) (fun w F c' s7 e7 w7 H7 x7 s8 e8 => ⟨fun _ => ?_, fun w => absurd rfl w⟩)⟩
  · have H8 : BR D σ s8 r md n B St Df F c' := by rw [e8]; exact H7.bu
    have hl := H8.1.2.1.2.2.2.1
    rw [H8.1.2.1.1.2.1]
    refine ⟨H8.1.2.1.1.1, hl.1, l_size hl ?_⟩
    rw [rfs_len]
    exact k1 F c' s8 e7 H8 ok7
  · have H8 : BR D σ s8 r md n B St Df F c' := by rw [e8]; exact H7.bu
    have : fI_ s8 7 8 r = nI w := by rw [e8]; exact x7
    rw [this]
    exact ⟨H8.1.2.1.1.1, k0 w F c' s8 e7 w7 H8⟩
theorem CJ.re18 (h : CJ D σ x md od q S) : ∃ c, RdE D σ (x + 18) md (sN S) (sB S) (sSt S) (sDf S) (sO S) c := by
  obtain ⟨hf, hz, hx, hb, hp, hmd, hod, ht, ⟨⟨c, h1⟩, _⟩⟩ := id h
  exact ⟨c, hf, h1, hmd, by have := hz.2.1; omega, hz.1.2.2⟩
theorem C_open (h : CI D σ x S) {v : Int32} (h1 : 35 ≤ bc_ σ) (h2 : 266 ≤ bs_ σ) {post : Int32 → Hp → Prop} (k : ∀ σ', CI D σ' x (opOpen S v).2 → Cf D x σ σ' → post (opOpen S v).1 σ') : wX1_open x v σ post := by
  obtain ⟨md, od, q, hj⟩ := id h
  have hx0 := hj.2.2.1
  unfold opOpen at k
  unfold wX1_open
  refine ⟨hx0.1, c_marks hj (fun s3 j3 c3 m3 l3 s4 e4 => ?_)⟩
  have j4 : CJ D s4 x md od q S := by rw [e4]; exact j3.bu
  have c4 : Cf D x σ s4 := by rw [e4]; exact c3.bu
  have m4 : MkR s4 x (sM S) := by rw [e4]; exact m3
  obtain ⟨hf, hz, hx, hb, hp, hmd, hod, ht, hr⟩ := id j4
  have hn := hmd.med.2.1
  have bc4 : bc_ s4 = bc_ σ := by rw [e4]; rfl
  have bs4 : bs_ s4 = bs_ σ := by rw [e4]; rfl
  rw [m4.1]
  refine ⟨hx.1, c_in (by omega) (fun i hi ev ei => ⟨fun _ => ⟨hz.2.2.1, ?_, ?_⟩, fun w => absurd w (by decide)⟩) (fun ei => ⟨fun w => absurd rfl w, fun _ => ?_⟩)⟩
  · rw [ev, hz.2.2.2]; exact (vin_ (by omega)).mpr (by omega)
  · rw [ei] at k
    have hmk := mk_at hi
    have hs := hmk.1.1
    have hbs := hmk.2.2.2.2.2.1
    rw [ev, nI_clamp (by omega), m4.2 i hi]
    refine c_base j4 hs ⟨35, 266, by omega, by omega, ?_⟩
    obtain ⟨c, hre⟩ := j4.re18
    rw [hx.2.2.2.2.2.2.1]
    refine c_says1 (σ := bu_ s4 35 266) hre (by omega) (Nat.le_refl _) (Nat.le_refl _) (fun F c' s16 e16 H16 ok16 s17 e17 => ⟨fun _ => ?_, fun w => absurd ?_ w⟩) (fun w F c' s16 e16 w16 H16 s17 e17 => ⟨fun y => absurd y ?_, fun _ => ?_⟩)
    · have hrd : sRd S ((sM S).getD i 0) = .inr F := e16
      simp only [hrd] at k
      have H16' : BR D s4 s16 (x + 18) md (sN S) (sB S) (sSt S) (sDf S) F c' := H16
      obtain ⟨g1, g2⟩ := j4.rd (Or.inl rfl) hre.2.1 H16'.2 H16'.1.1 (hr.rd18 hf hre.2.1 H16'.2 H16'.1.2.1)
      exact k s17 ⟨md, od, q, by rw [e17]; exact g1.bu⟩ (c4.trans (by rw [e17]; exact g2.bu))
    · rw [li_0]; exact nI_le (Nat.zero_le _) (by have := ok16.1.2; omega)
    · exact Int32.not_le.mpr (rdA_neg w16)
    · have hrd : sRd S ((sM S).getD i 0) = .inl w := e16
      simp only [hrd] at k
      have H16' : BR D s4 s16 (x + 18) md (sN S) (sB S) (sSt S) (sDf S) F c' := H16
      have H17 : BR D s4 s17 (x + 18) md (sN S) (sB S) (sSt S) (sDf S) F c' := by rw [e17]; exact H16'.bu
      obtain ⟨g1, g2⟩ := j4.rd (Or.inl rfl) hre.2.1 H17.2 H17.1.1 (hr.rd18 hf hre.2.1 H17.2 H17.1.2.1)
      have x17 := g1.2.2.1
      have hl := H17.1.2.1.2.2.2.1
      rw [x17.2.2.2.2.2.2.1, H17.1.2.1.1.2.1]
      refine ⟨x17.1, H17.1.2.1.1.1, hl.1, l_clear hl H17.1.1 (fun s22 f1 f2 f3 f4 f5 f6 f7 f8 s23 e23 => ?_)⟩
      have H23 : BR D s4 s23 (x + 18) md (sN S) (sB S) (sSt S) (sDf S) [] c' := by rw [e23]; exact (H17.clear f1 f2 f3 f4 f6).bu
      obtain ⟨g3, g4⟩ := j4.rd (Or.inl rfl) hre.2.1 H23.2 H23.1.1 (hr.rd18 hf hre.2.1 H23.2 H23.1.2.1)
      exact k s23 ⟨md, od, q, g3⟩ (c4.trans g4)
  · rw [ei] at k
    exact k s4 ⟨md, od, q, j4⟩ c4
end
