/-! the burner writes a sector -/
def lasts1 (b : BS) : BS := if bL b = 0 then (bB b, bSt b, bL b, bWr b + 1, true) else (bB b, bSt b, (if bL b ≤ 0 then bL b else bL b - 1), bWr b + 1, bLo b)
/-- only the int fields of w may differ -/
def PF (w : Nat) (σ σ' : Hp) : Prop := tg_ σ' = tg_ σ ∧ fL_ σ' = fL_ σ ∧ fR_ σ' = fR_ σ ∧ ln_ σ' = ln_ σ ∧ aI_ σ' = aI_ σ ∧ aL_ σ' = aL_ σ ∧ aR_ σ' = aR_ σ ∧ nx_ σ' = nx_ σ ∧ bc_ σ' = bc_ σ ∧ bs_ σ' = bs_ σ ∧ lo_ σ' = lo_ σ ∧ (∀ c k r, r ≠ w → fI_ σ' c k r = fI_ σ c k r)
def WB (x md : Nat) : Nat → Prop := fun r => r = x + 1 ∨ r = md + 1 ∨ r = md + 2
section
variable {S : Prop} {W : Nat → Prop} {D n : Nat} {σ σ' τ : Hp} {x md od q : Nat} {t : TT} {rf : Nat → Nat} {c : Nat} {R : List Nat} {ct : Nat} {f : Nat → Nat} {b : BS} {Df : Nat → Bool} {Bo : Nat → Nat}
theorem PF.sI {w c k : Nat} {v : Int32} (h : PF w σ σ') : PF w σ (sI_ σ' c k w v) := by
  obtain ⟨h1, h2, h3, h4, h5, h6, h7, h8, h9, h10, h11, h12⟩ := h
  exact ⟨h1, h2, h3, h4, h5, h6, h7, h8, h9, h10, h11, fun c' k' r hr => by rw [afI_sI, u3_r hr]; exact h12 c' k' r hr⟩
theorem PF.refl {w : Nat} : PF w σ σ := ⟨rfl, rfl, rfl, rfl, rfl, rfl, rfl, rfl, rfl, rfl, rfl, fun _ _ _ _ => rfl⟩
theorem PF.kp {w : Nat} (h : PF w σ σ') : Kp S (fun r => r = w) σ σ' := by
  obtain ⟨h1, h2, h3, h4, h5, h6, h7, h8, h9, h10, h11, h12⟩ := h
  exact ⟨h11, by omega, fun r _ => ⟨by rw [h1], by rw [h4]⟩, fun r _ hr => ⟨fun c k _ => h12 c k r hr, fun _ _ => by rw [h2], fun _ _ => by rw [h3], fun _ => by rw [h5], fun _ => by rw [h6], fun _ => by rw [h7]⟩⟩
theorem c_lasts {w : Nat} (h : PwA σ w b) (hlo : bLo b = false) {post : Int32 → Hp → Prop} (k0 : ∀ σ', bL b = 0 → PF w σ σ' → PwA σ' w (lasts1 b) → post 0 σ') (k1 : ∀ σ', bL b ≠ 0 → PF w σ σ' → PwA σ' w (lasts1 b) → post 1 σ') : wX2_lasts w σ post := by
  obtain ⟨a1, a2, a3, a4⟩ := h
  rw [hlo] at a4
  unfold wX2_lasts
  refine ⟨a1, fun s7 e7 => ?_⟩
  have p7 : PF w σ s7 := by rw [e7]; exact PF.refl.sI
  have l7 : fI_ s7 1 0 w = bL b := by rw [e7, afI_sI, u3_k (by decide)]; exact a2
  have w7 : fI_ s7 1 1 w = bWr b + 1 := by rw [e7, afI_sI, u3_e, a3]
  have o7 : fI_ s7 1 2 w = 0 := by rw [e7, afI_sI, u3_k (by decide)]; exact a4
  rw [l7]
  refine ⟨fun z => ?_, fun z s9 e9 => ?_⟩
  · unfold wX2_lasts_L22 wX2_lasts_L39
    have key : lasts1 b = (bB b, bSt b, (if bL b ≤ 0 then bL b else bL b - 1), bWr b + 1, bLo b) := by unfold lasts1; rw [if_neg z]
    rw [l7]
    refine ⟨by rw [p7.1]; exact a1, fun z2 => ⟨by rw [p7.1]; exact a1, fun z3 => absurd o7 z3, fun _ => k1 s7 z p7 ⟨by rw [p7.1]; exact a1, ?_, ?_, ?_⟩⟩, fun z2 s5 e5 => ?_⟩
    · rw [key, l7]; show bL b = if bL b ≤ 0 then bL b else bL b - 1
      rw [if_pos z2]
    · rw [key, w7]; rfl
    · rw [key, o7]; show 0 = b2 (bLo b); rw [hlo]; rfl
    · have p5 : PF w σ s5 := by rw [e5]; exact p7.sI
      have o5 : fI_ s5 1 2 w = 0 := by rw [e5, afI_sI, u3_k (by decide)]; exact o7
      refine ⟨by rw [p5.1]; exact a1, fun z3 => absurd o5 z3, fun _ => k1 s5 z p5 ⟨by rw [p5.1]; exact a1, ?_, ?_, ?_⟩⟩
      · rw [key, e5, afI_sI, u3_e]; show _ = if bL b ≤ 0 then bL b else bL b - 1
        rw [if_neg z2]
      · rw [key, e5, afI_sI, u3_k (by decide), w7]; rfl
      · rw [key, o5]; show 0 = b2 (bLo b); rw [hlo]; rfl
  · unfold wX2_lasts_L22 wX2_lasts_L39
    have p9 : PF w σ s9 := by rw [e9]; exact p7.sI
    have key : lasts1 b = (bB b, bSt b, bL b, bWr b + 1, true) := by unfold lasts1; rw [if_pos z]
    have l9 : fI_ s9 1 0 w = 0 := by rw [e9, afI_sI, u3_k (by decide), l7, z]
    have o9 : fI_ s9 1 2 w = 1 := by rw [e9, afI_sI, u3_e]
    rw [l9]
    refine ⟨by rw [p9.1]; exact a1, fun _ => ⟨by rw [p9.1]; exact a1, fun _ => k0 s9 z p9 ⟨by rw [p9.1]; exact a1, ?_, ?_, ?_⟩, fun z3 => ?_⟩, fun z2 => absurd (by decide) z2⟩
    · rw [key, l9, z]; rfl
    · rw [key, e9, afI_sI, u3_k (by decide), w7]; rfl
    · rw [key, o9]; rfl
    · rw [o9] at z3; exact absurd z3 (by decide)
/-- medium and power are written -/
theorem BuE.wr {b' : BS} (E : BuE D σ x n md od q t rf c R ct f b Df Bo) (hf' : WF D τ) (k : Kp False (WB x md) σ τ) (hp' : PwA τ (x + 1) b') (hm' : MdA D τ md n (bB b') (bSt b') Df) : BuE D τ x n md od q t rf c R ct f b' Df Bo := by
  obtain ⟨hf, ⟨x1, x2, x3, x4⟩, hb, hp, hpg, hmd, hod, htr, htz, htb, ok, hD⟩ := E
  obtain ⟨⟨m1, _⟩, ⟨m2, m3, m4⟩, _⟩ := id hmd
  have hw : WS D σ (WB x md) := by
    rintro r (e | e | e)
    · rw [e, hp.1]; exact ⟨by decide, fun z => absurd z (by decide), by omega⟩
    · rw [e, m2]; exact ⟨by decide, fun _ => by omega, by omega⟩
    · rw [e, m3]; exact ⟨by decide, fun z => absurd z (by decide), by omega⟩
  obtain ⟨z1, z2, z3, z4⟩ := id htz
  unfold dz at z1 z2 z3 z4
  have av : ∀ r, r ≠ x + 1 → r ≠ md + 1 → r ≠ md + 2 → ¬ WB x md r := by
    rintro r h1 h2 h3 (e | e | e)
    · exact h1 e
    · exact h2 e
    · exact h3 e
  have tA : ¬ WB x md (fR_ σ 10 1 (x + 3)) := fun z => by
    have := htb.1.2.2.1
    rcases z with e | e | e
    · rw [e, hp.1] at this; cases this
    · rw [e, m2] at this; cases this
    · rw [e, m3] at this; cases this
  refine ⟨hf', ⟨x1, by rw [k.1]; exact x2, x3, x4⟩, hb.kp hf k (av _ (by omega) (by omega) (by omega)), hp', hpg.kp hf k (av _ (by omega) (by omega) (by omega)) (av _ (by omega) (by omega) (by omega)), hm', fun z => ?_, htr.kp hf k hw (av _ (by omega) (by omega) (by omega)) (av _ (by omega) (by omega) (by omega)) (av _ (by omega) (by omega) (by omega)) (fun k hk => by have := z4 k hk; exact av _ (by omega) (by omega) (by omega)), htz.kp hf htr k (av _ (by omega) (by omega) (by omega)) (av _ (by omega) (by omega) (by omega)), htb.kp hf k (av _ (by omega) (by omega) (by omega)) tA (av _ (by omega) (by omega) (by omega)), ok, by have := k.2.1; omega⟩
  obtain ⟨s, d, h⟩ := hod z
  exact ⟨s, d, h.kp hf k (av _ (by omega) (by omega) (by omega)) (av _ (by omega) (by omega) (by omega)) (av _ (by omega) (by omega) (by omega)) (av _ (by omega) (by omega) (by omega))⟩
theorem MdA.st {m : Nat} {B St : Nat → Nat} (h : MdA D σ m n B St Df) {s v : Nat} (hs : s < n) (hv : v < 3) : MdA D (wI_ σ (m + 2) s (nI v)) m n B (up1 St s v) Df := by
  obtain ⟨a, ⟨b1, b2, b3⟩, c, d, ⟨e1, e2, e3, e4⟩, f1, f2, f3⟩ := h
  refine ⟨a, ⟨b1, b2, b3⟩, c, d, ⟨e1, e2, e3, fun q => ?_⟩, fun i hi => ?_, fun i hi => ?_, fun i hi => ?_⟩
  · by_cases e : q = s
    · rw [e, up1_e]; exact hv
    · rw [up1_n e]; exact e4 q
  · rw [aaI_wI, u2_r (by omega)]; exact f1 i hi
  · rw [aaI_wI]
    by_cases e : i = s
    · rw [e, u2_e, up1_e]
    · rw [u2_i e, up1_n e]; exact f2 i hi
  · rw [aaI_wI, u2_r (by omega)]; exact f3 i hi
theorem MdA.by' {m : Nat} {B B' St : Nat → Nat} (h : MdA D σ m n B St Df) {p v : Nat} (hv : v < 256) (hB : ∀ i, B' i = if i = p then v else B i) : MdA D (wI_ σ (m + 1) p (sb_b v)) m n B' St Df := by
  obtain ⟨a, ⟨b1, b2, b3⟩, c, d, ⟨e1, e2, e3, e4⟩, f1, f2, f3⟩ := h
  refine ⟨a, ⟨b1, b2, b3⟩, c, d, ⟨e1, e2, fun q => ?_, e4⟩, fun i hi => ?_, fun i hi => ?_, fun i hi => ?_⟩
  · rw [hB]
    split
    · exact hv
    · exact e3 q
  · rw [aaI_wI, hB]
    by_cases e : i = p
    · rw [e, u2_e, if_pos rfl]
    · rw [u2_i e, if_neg e]; exact f1 i hi
  · rw [aaI_wI, u2_r (by omega)]; exact f2 i hi
  · rw [aaI_wI, u2_r (by omega)]; exact f3 i hi
theorem MdA.ext {m : Nat} {B B' St : Nat → Nat} (h : MdA D σ m n B St Df) (e : B' = B) : MdA D σ m n B' St Df := by rw [e]; exact h
theorem c_writes (E : BuE D σ x n md od q t rf c R ct f b Df Bo) (hlo : bLo b = false) {s : Nat} (hs : s < n) (hg : ∀ i, f i < 256) {post : Int32 → Hp → Prop}
    (k : ∀ σ', BuE D σ' x n md od q t rf c R ct f (burn1 Df s f b).2 Df Bo → Kp False (WB x md) σ σ' → nx_ σ' = nx_ σ → bc_ σ' = bc_ σ → bs_ σ' = bs_ σ → post (if (burn1 Df s f b).1 = 0 then 1 else 0) σ') : wX3_writes (x + 2) (nI s) (x + 5) 0 σ post := by
  obtain ⟨hf, ⟨x1, x2, x3, x4⟩, hb, hp, hpg, hmd, hod, htr, htz, htb, ok, hD⟩ := id E
  obtain ⟨b1, b2', b3, b4, b5, b6, b7⟩ := id hb
  have hn := hmd.med.2.1
  unfold wX3_writes
  rw [b4]
  -- the sector becomes bad
  have L22 : ∀ s20 : Hp, PF (x + 1) σ s20 → PwA s20 (x + 1) (lasts1 b) → (burn1 Df s f b).1 ≠ 0 → (burn1 Df s f b).2 = (bB b, up1 (bSt b) s 2, (lasts1 b).2.2) → wX3_writes_L22 post (x + 2) (nI s) s20 := by
    intro s20 p20 w20 hc hb'
    have k20 : Kp False (WB x md) σ s20 := p20.kp.mono (fun z => z) (fun r _ z => Or.inl z)
    have m20 : MdA D s20 md n (bB b) (bSt b) Df := hmd.kp hf (S := False) p20.kp (by omega) (by omega) (by omega) (by omega)
    obtain ⟨⟨a1, a2, a3, a4, a5⟩, ⟨c1, c2, c3⟩, ⟨d1, d2, d3⟩, d, e, f1, f2, f3⟩ := id m20
    have f20 : WF D s20 := hf.same (S := False) (W := fun r => r = x + 1) p20.kp (fun r hr => by subst hr; rw [hp.1]; exact ⟨by decide, fun z => absurd z (by decide), by omega⟩) p20.1 p20.2.2.2.2.2.2.2.1 p20.2.2.1
    unfold wX3_writes_L22
    rw [p20.2.2.1, b2', ← p20.2.2.1, a4, d2, nI_clamp (by omega)]
    refine ⟨by rw [p20.1]; exact b1, a1, c2, by have := d.1; omega, (vin_ (by omega)).mpr hs, fun s16 e16 => ?_⟩
    have e16' : s16 = wI_ s20 (md + 2) s (nI 2) := e16
    have k16 : Kp False (WB x md) σ s16 := by rw [e16]; exact Kp.wI' k20 (Or.inl (Or.inr (Or.inr rfl)))
    have := k s16 (E.wr ?_ k16 ?_ ?_) k16 (by rw [e16]; exact p20.2.2.2.2.2.2.2.1) (by rw [e16]; exact p20.2.2.2.2.2.2.2.2.1) (by rw [e16]; exact p20.2.2.2.2.2.2.2.2.2.1)
    · rw [if_neg hc] at this; exact this
    · rw [e16]; exact f20.wI (Or.inl (by rw [c2]; decide))
    · rw [hb', e16]; exact w20
    · rw [hb', e16']; exact m20.st hs (by decide)
  refine ⟨b1, hp.1, c_lasts hp hlo (fun s20 z0 p20 w20 => ⟨fun _ => L22 s20 p20 w20 ?_ ?_, fun z => absurd rfl z⟩) (fun s20 z0 p20 w20 => ⟨fun z => absurd z (by decide), fun _ => ?_⟩)⟩
  · unfold burn1; rw [if_pos z0]; exact Nat.succ_ne_zero _
  · unfold burn1 lasts1; rw [if_pos z0, if_pos z0]
  · have k20 : Kp False (WB x md) σ s20 := p20.kp.mono (fun z => z) (fun r _ z => Or.inl z)
    have m20 : MdA D s20 md n (bB b) (bSt b) Df := hmd.kp hf (S := False) p20.kp (by omega) (by omega) (by omega) (by omega)
    obtain ⟨⟨a1, a2, a3, a4, a5⟩, ⟨c1, c2, c3⟩, ⟨d1, d2, d3⟩, d, e, f1, f2, f3⟩ := id m20
    have f20 : WF D s20 := hf.same (S := False) (W := fun r => r = x + 1) p20.kp (fun r hr => by subst hr; rw [hp.1]; exact ⟨by decide, fun z => absurd z (by decide), by omega⟩) p20.1 p20.2.2.2.2.2.2.2.1 p20.2.2.1
    have r20 : fR_ s20 2 0 (x + 2) = md := by rw [p20.2.2.1]; exact b2'
    rw [r20, a5, a4, d3, d2, nI_clamp (by omega), f3 s hs]
    refine ⟨by rw [p20.1]; exact b1, a1, c3, (vin_ (by omega)).mpr hs, fun z => ⟨c2, by have := d.1; omega, (vin_ (by omega)).mpr hs, fun s30 e30 => ?_⟩, fun z => L22 s20 p20 w20 ?_ ?_⟩
    · have hdf : Df s = false := b2_0.mp z
      have hb1 : burn1 Df s f b = (0, (ovP (bB b) s f, up1 (bSt b) s 1, (lasts1 b).2.2)) := by
        unfold burn1 lasts1; rw [if_neg z0, if_neg (by rw [hdf]; decide), if_neg z0]
      rw [hb1, if_pos rfl] at k
      have e30' : s30 = wI_ s20 (md + 2) s (nI 1) := e30
      have k30 : Kp False (WB x md) σ s30 := by rw [e30]; exact Kp.wI' k20 (Or.inl (Or.inr (Or.inr rfl)))
      unfold wX3_writes_L47
      refine lpG2 (B := fun R y s' => wX3_writes_B47 post R (x + 2) (nI s) (x + 5) 0 y s') (fun j y s' => j ≤ 2048 ∧ y = nI (2048 - j) ∧ Kp False (WB x md) σ s' ∧ WF D s' ∧ PwA s' (x + 1) (lasts1 b) ∧ MdA D s' md n (fun i => if 2048 * s ≤ i ∧ i < 2048 * s + (2048 - j) then f (i - 2048 * s) else bB b i) (up1 (bSt b) s 1) Df ∧ nx_ s' = nx_ σ ∧ bc_ s' = bc_ σ ∧ bs_ s' = bs_ σ) 2048 ⟨Nat.le_refl _, by decide, k30, ?_, ?_, ?_, ?_, ?_, ?_⟩ ?_
      · rw [e30]; exact f20.wI (Or.inl (by rw [c2]; decide))
      · rw [e30]; exact w20
      · rw [e30']
        refine (m20.st hs (by decide)).ext ?_
        funext i
        rw [if_neg (by omega)]
      · rw [e30]; exact p20.2.2.2.2.2.2.2.1
      · rw [e30]; exact p20.2.2.2.2.2.2.2.2.1
      · rw [e30]; exact p20.2.2.2.2.2.2.2.2.2.1
      rintro j y s' R' ⟨g1, rfl, g3, g4, g5, g6, g7, g8, g9⟩ hR
      have hb' := hb.kp hf g3 (by rintro (e | e | e) <;> omega)
      have hpg' := hpg.kp hf g3 (by rintro (e | e | e) <;> omega) (by rintro (e | e | e) <;> omega)
      obtain ⟨⟨a1', a2', a3', a4', a5'⟩, ⟨c1', c2', c3'⟩, ⟨d1', d2', d3'⟩, d', e', f1', f2', f3'⟩ := id g6
      unfold wX3_writes_B47
      rw [hb'.2.1, a3', d1', hpg'.2.2.2.1, li_2048, nI_leI (by omega) (by omega)]
      refine ⟨fun z => ?_, fun z => ?_⟩
      · have mm : MdA D s' md n (ovP (bB b) s f) (up1 (bSt b) s 1) Df := g6.ext (by
          funext i
          unfold ovP
          have : j = 0 := by omega
          subst this
          rfl)
        exact k s' (E.wr g4 g3 g5 mm) g3 g7 g8 g9
      · have e0 : (0 : Int32) + nI (2048 - j) = nI (2048 - j) := by rw [li_0, nI_add, Nat.zero_add]
        rw [e0, pk_mul, nI_add, nI_clamp (by omega), nI_clamp (by omega), hpg'.2.2.2.2.2.2 _ (by omega), nar_b]
        refine ⟨hb'.1, a1', hpg'.2.2.1, (vin_ (by omega)).mpr (by omega), c1', by have := d'.1; omega, (vin_ (by omega)).mpr (by omega), fun s9 e9 y hy => hR (j - 1) y s9 (by omega) ⟨by omega, by rw [hy, li_1, nI_add]; congr 1; omega, ?_, ?_, ?_, ?_, by rw [e9]; exact g7, by rw [e9]; exact g8, by rw [e9]; exact g9⟩⟩
        · rw [e9]; exact Kp.wI' g3 (Or.inl (Or.inr (Or.inl rfl)))
        · rw [e9]; exact g4.wI (Or.inr (by have := d'.1; have := d'.2; omega))
        · rw [e9]; exact g5
        · rw [e9]
          refine g6.by' (hg _) (fun i => ?_)
          by_cases e : i = s * 2048 + (2048 - j)
          · rw [if_pos e, if_pos (by omega)]
            congr 1; omega
          · rw [if_neg e]
            by_cases e2 : 2048 * s ≤ i ∧ i < 2048 * s + (2048 - j)
            · rw [if_pos e2, if_pos (by omega)]
            · rw [if_neg e2, if_neg (by omega)]
    · unfold burn1; rw [if_neg z0, if_pos (by cases hh : Df s with | true => rfl | false => rw [hh] at z; exact absurd rfl z)]; exact Nat.succ_ne_zero _
    · unfold burn1 lasts1; rw [if_neg z0, if_pos (by cases hh : Df s with | true => rfl | false => rw [hh] at z; exact absurd rfl z), if_neg z0]
end
