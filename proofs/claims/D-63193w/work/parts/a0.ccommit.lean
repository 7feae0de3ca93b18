/-! the class: commit -/
section
variable {S' : Prop} {W : Nat → Prop} {D n : Nat} {σ σ' τ υ : Hp} {x md od q la r r' m c c' : Nat} {t t' : TT} {rf : Nat → Nat} {O F F' : List FT} {S S2 : AS} {b b' : BS} {Df : Nat → Bool} {Bo : Nat → Nat}
/-- the nodes of a tree -/
def Pn (t : TT) (rf : Nat → Nat) : Nat → Prop := fun z => ∃ k ∈ tL t, z = rf k
theorem c_bcommit (hf : WF D σ) (hx : x + 30 ≤ D ∧ lo_ σ < x ∧ D < nx_ σ) (hm1 : md = x + 10 ∨ md = x + 14) (hm2 : od = x + 10 ∨ od = x + 14) (hb : CB D σ x) (hp : PwA σ (x + 1) b) (hlo : bLo b = false) (hmd : MdA D σ md n (bB b) (bSt b) Df) (hod : md ≠ od → ∃ Sto Dfo, MdA D σ od n Bo Sto Dfo) (hBo : ∀ q, Bo q < 256) (ht : TrA D σ q t rf c) (hz : TZ D x σ q t rf) (ok : TOK n t) {num : Nat} (hnum : num < 2 ^ 32) (h1 : 5244 ≤ bc_ σ) (h2 : 34500 ≤ bs_ σ) {post : Int32 → Hp → Prop}
    (k : ∀ σ' t' b' cc f' R' ct', BuE D σ' x n md od q t' rf c R' ct' f' b' Df Bo → Kp True (WC σ x md (Pn t rf)) σ σ' → cmA n Df Bo (decide (md ≠ od)) t num b = (cc, t', b') → sameT t t' → post (if cc = 0 then nI num else cod cc) σ') : wX3_commit (x + 2) md od q (nI num) σ post := by
  obtain ⟨⟨b1, b2', b3, b4⟩, ⟨f, hpg⟩, R, ct, htb⟩ := hb
  unfold wX3_commit
  refine ⟨b1, fun s44 e44 s45 e45 s46 e46 => ?_⟩
  have kp : Kp False (fun z => z = x + 2) σ s46 := by
    rw [e46, e45, e44]
    (repeat' first | with_reducible exact Kp.refl | with_reducible assumption | with_reducible apply Kp.sI' | with_reducible apply Kp.sL' | with_reducible apply Kp.sR' | with_reducible apply Kp.wI' | with_reducible apply Kp.wR' | with_reducible apply Kp.cI' | with_reducible apply Kp.cR' | with_reducible apply Kp.mO' | with_reducible apply Kp.mA' | with_reducible apply Kp.bu' | exact Or.inl rfl | exact Or.inr (Nat.le_refl _) | exact Or.inr (by omega) | exact Or.inr (Or.inl (by omega)))
  have f46 : WF D s46 := by rw [e46, e45, e44]; exact ((hf.sR (by decide)).sR (by decide)).sR (by decide)
  have hw : WS D σ (fun z => z = x + 2) := fun z hz' => by
    subst hz'
    rw [b1]
    exact ⟨by decide, fun y => absurd y (by decide), by omega⟩
  have r46 : ∀ c' k' r', r' ≠ x + 2 → fR_ s46 c' k' r' = fR_ σ c' k' r' := fun c' k' r' hr => by
    rw [e46, afR_sR, u3_r hr, e45, afR_sR, u3_r hr, e44, afR_sR, u3_r hr]
  have tA := htb.1.2.2.1
  have av : ∀ z, tg_ σ z ≠ 3 → ¬ z = x + 2 := fun z h e => h (by rw [e]; exact b1)
  have E : BuE D s46 x n md od q t rf c R ct f b Df Bo := by
    refine ⟨f46, ⟨hx.1, by rw [kp.1]; exact hx.2.1, hm1, hm2⟩, ⟨by rw [kp.t (hf.lt b1)]; exact b1, ?_, ?_, ?_, ?_, ?_, ?_⟩, hp.kp hf kp (by omega), hpg.kp hf kp (by omega) (by omega), hmd.kp hf kp (by omega) (by omega) (by omega) (by omega), fun y => ?_, ht.kp hf kp hw (av _ (by rw [ht.1]; decide)) (av _ (by rw [ht.2.2.1.1]; decide)) (av _ (by rw [ht.2.2.1.2.2.1]; decide)) (fun i hi => av _ (by rw [(ht.2.2.2 i hi).1]; decide)), hz.kp hf ht kp (av _ (by rw [ht.1]; decide)) (av _ (by rw [ht.2.2.1.1]; decide)), htb.kp hf kp (by omega) (av _ (by rw [tA]; decide)) (by omega), ok, by have := kp.2.1; omega⟩
    · rw [e46, afR_sR, u3_k (by decide), e45, afR_sR, u3_k (by decide), e44, afR_sR, u3_e]
    · rw [e46, afR_sR, u3_k (by decide), e45, afR_sR, u3_e]
    · rw [e46, afR_sR, u3_k (by decide), e45, afR_sR, u3_k (by decide), e44, afR_sR, u3_k (by decide)]; exact b2'
    · rw [e46, afR_sR, u3_e]
    · rw [e46, afR_sR, u3_k (by decide), e45, afR_sR, u3_k (by decide), e44, afR_sR, u3_k (by decide)]; exact b3
    · rw [e46, afR_sR, u3_k (by decide), e45, afR_sR, u3_k (by decide), e44, afR_sR, u3_k (by decide)]; exact b4
    · obtain ⟨Sto, Dfo, ho⟩ := hod y
      exact ⟨Sto, Dfo, ho.kp hf kp (by omega) (by omega) (by omega) (by omega)⟩
  have l3 : x + 3 < nx_ s46 := f46.lt E.2.2.2.2.2.2.2.2.2.1.1.1
  have BF0 : BF D s46 s46 x n md od q t rf c R ct f b Df Bo (Pn t rf) := ⟨E, Kp.refl, Or.inl rfl, l3⟩
  have bc46 : bc_ s46 = bc_ σ := by rw [e46, e45, e44]; rfl
  have bs46 : bs_ s46 = bs_ σ := by rw [e46, e45, e44]; rfl
  refine c_files BF0 hlo hnum hBo rfl (fun i hi => ⟨i, hi, rfl⟩) (by omega) (by omega) (fun s' t' b' cc f' R' ct' F' hc hs => k s' t' b' cc f' R' ct' F'.1 ?_ hc hs)
  have k0 : Kp True (WC σ x md (Pn t rf)) σ s46 := kp.mono (fun z => z.elim) (fun z _ e => Or.inl (by omega))
  refine k0.trans F'.2.1 (fun z _ hz' => ?_)
  rcases hz' with e | e | e | e | e
  · exact Or.inl e
  · exact Or.inr (Or.inl e)
  · exact Or.inr (Or.inr (Or.inl e))
  · refine Or.inr (Or.inr (Or.inr (Or.inl ?_)))
    rcases e with e | ⟨e, e2⟩
    · exact Or.inl e
    · exact Or.inr ⟨by rw [e]; exact r46 _ _ _ (by omega), by rw [← kp.1]; exact e2⟩
  · exact Or.inr (Or.inr (Or.inr (Or.inr e)))
/-- what burning leaves alone -/
theorem WC_n (hb : CB D σ x) (hpw : tg_ σ (x + 1) = 2) (hx : x + 30 ≤ D ∧ lo_ σ < x) (hm1 : md = x + 10 ∨ md = x + 14) (hmd : MdA D σ md n (bB b) (bSt b) Df) (ht : TrA D σ q t rf c) (hz : TZ D x σ q t rf) {z : Nat} (h : WC σ x md (Pn t rf) z) : z ≠ 0 ∧ tg_ σ z ≠ 10 ∧ (z < x + 31 ∨ D < z) ∧ z ≠ x ∧ ((x + 1 ≤ z ∧ z ≤ x + 5) ∨ (x + 6 ≤ z ∧ z ≤ x + 9) ∨ z = md + 1 ∨ z = md + 2 ∨ D < z) ∧ (tg_ σ z = 104 → fR_ σ 10 1 (x + 3) = z ∧ lo_ σ < z) := by
  obtain ⟨⟨b1, b2', b3, b4⟩, ⟨f, hpg⟩, R, ct, htb⟩ := hb
  obtain ⟨⟨m1, _⟩, ⟨m2, m3, m4⟩, _⟩ := id hmd
  rcases h with e | e | e | e | ⟨i, hi, e⟩
  · have : z = x + 1 ∨ z = x + 2 ∨ z = x + 3 ∨ z = x + 4 ∨ z = x + 5 := by omega
    have tz : tg_ σ z = 2 ∨ tg_ σ z = 3 ∨ tg_ σ z = 11 ∨ tg_ σ z = 4 ∨ tg_ σ z = 100 := by
      rcases this with y | y | y | y | y <;> rw [y]
      · exact Or.inl hpw
      · exact Or.inr (Or.inl b1)
      · exact Or.inr (Or.inr (Or.inl htb.1.1))
      · exact Or.inr (Or.inr (Or.inr (Or.inl hpg.1)))
      · exact Or.inr (Or.inr (Or.inr (Or.inr hpg.2.2.1)))
    exact ⟨by omega, by omega, by omega, by omega, Or.inl e, fun y => by omega⟩
  · rw [e]
    exact ⟨by omega, by rw [m2]; decide, by omega, by omega, by omega, fun y => by rw [m2] at y; cases y⟩
  · rw [e]
    exact ⟨by omega, by rw [m3]; decide, by omega, by omega, by omega, fun y => by rw [m3] at y; cases y⟩
  · rcases e with e | ⟨e, e2⟩
    · rw [e]
      exact ⟨by omega, by rw [htb.1.1]; decide, by omega, by omega, by omega, fun y => by rw [htb.1.1] at y; cases y⟩
    · have h2 := htb.2
      rw [← e] at h2
      exact ⟨by omega, by rw [e, htb.1.2.2.1]; decide, by omega, by omega, by omega, fun _ => ⟨e.symm, e2⟩⟩
  · have h4 := hz.2.2.2 i hi
    have t6 := (ht.2.2.2 i hi).1
    rw [← e] at h4 t6
    unfold dz at h4
    exact ⟨by omega, by rw [t6]; decide, by omega, by omega, by omega, fun y => by rw [t6] at y; cases y⟩
theorem inc_n {a : Nat} : nI a + 1 = nI (inc32 a) := by
  rw [li_1, nI_add, nI_wrap]; rfl
/-- its last number is set -/
theorem CJ.setLa (h : CJ D σ x md od q S) {la' : Nat} (e : τ = sI_ σ 0 9 x (nI la')) : CJ D τ x md od q (wLa S la') := by
  obtain ⟨hf, hz, hx, hb, hp, hmd, ⟨Bo, Sto, Dfo, hod⟩, ht, hr⟩ := h
  have hm' := hz.2.1
  have hzz := hz.1
  have k : Kp False (fun z => z = x) σ τ := by rw [e]; exact Kp.sI' Kp.refl (Or.inl rfl)
  have hs : Sx D σ (fun z => z = x) := fun z hz' => by
    subst hz'
    rw [hx.1]
    exact ⟨by omega, by decide, by decide, by decide, by decide, by decide, by decide, fun w => absurd w (by decide)⟩
  refine ⟨by rw [e]; exact hf.sI (by decide), hz.kp hf k, ?_, hb.sx hf k hs (fun z a b y => by omega), hp.kp hf k (by omega), hmd.kp hf k (by omega) (by omega) (by omega) (by omega), ⟨Bo, Sto, Dfo, hod.kp hf k (by omega) (by omega) (by omega) (by omega)⟩, ht.sx hf k hs, hr.sx hf k hs (fun z a b y => by omega)⟩
  obtain ⟨a1, a2, a3, a4, a5, a6, a7, a8, a9, a10, a11⟩ := hx
  rw [e]
  exact ⟨a1, a2, a3, a4, a5, a6, a7, a8, a9, a10, by rw [afI_sI, u3_e]; rfl⟩
theorem C_commit (h : CI D σ x S) (ok : AOK S) (hne : inc32 (sLa S) ≠ 4294967293 ∧ inc32 (sLa S) ≠ 4294967292) (h1 : 5244 ≤ bc_ σ) (h2 : 34500 ≤ bs_ σ) {post : Int32 → Hp → Prop} (k : ∀ σ', CI D σ' x (opCommit S).2 → Cf D x σ σ' → post (opCommit S).1 σ') : wX1_commit x σ post := by
  obtain ⟨md, od, q, hj⟩ := id h
  obtain ⟨hf, hz, hx, hb, hp, hmd, ⟨Bo, Sto, Dfo, hod⟩, ⟨rf, c, ht, htz⟩, hr⟩ := id hj
  have hT := ok.2.1
  have hm' := hz.2.1
  unfold opCommit at k
  unfold wX1_commit
  rw [hx.2.1, hx.2.2.1, hx.2.2.2.1, hx.2.2.2.2.2.1, hx.2.2.2.2.2.2.2.2.2.2, hp.2.2.2]
  have e0 : b2 (bLo (sBS S)) = 0 ↔ sLo S = false := b2_0
  rw [e0, inc_n]
  have hil : inc32 (sLa S) < 2 ^ 32 := by unfold inc32; omega
  obtain ⟨mc, hmc⟩ : ∃ m, m = 5244 := ⟨_, rfl⟩
  obtain ⟨ms, hms⟩ : ∃ m, m = 34500 := ⟨_, rfl⟩
  refine ⟨hx.1, hp.1, fun lo => ⟨hb.1.1, mc, ms, by omega, by omega, ?_⟩, fun lo => ?_⟩
  rotate_left
  · have : sLo S = true := by cases hh : sLo S with | true => rfl | false => exact absurd hh lo
    rw [if_pos this] at k; exact k σ h Cf.refl
  rw [if_neg (by rw [lo]; decide)] at k
  have e5 : sBS S = (sB S, sSt S, sLf S, sWr S, false) := by unfold sBS; rw [lo]
  rw [← e5] at k
  refine c_bcommit (σ := bu_ σ mc ms) (od := md) (Bo := sB S) hf hz.1 (by omega) (by omega) hb hp lo hmd (fun y => absurd rfl y) hmd.med.2.2.1 ht htz hT hil (show 5244 ≤ mc by omega) (show 34500 ≤ ms by omega) (fun s10 t' b' cc f' R' ct' E' kp hc hs s11 e11 => ?_)
  have kp' : Kp True (WC σ x md (Pn (sT S) rf)) σ s10 := kp
  have hd : decide (md ≠ md) = false := by simp
  rw [hd] at hc
  rw [hc] at k
  have wn := fun z (hz' : WC σ x md (Pn (sT S) rf) z) => WC_n (b := sBS S) hb hp.1 ⟨hz.1.1, hz.1.2.1⟩ (by omega) hmd ht htz hz'
  have cf : Cf D x σ s10 := kp'.cf (fun z y => (wn z y).2.2.1)
  obtain ⟨f1, _, g3, g4, g5, g6, _, g8, g9, g10, _, _⟩ := id E'
  have w0 : ¬ WC σ x md (Pn (sT S) rf) 0 := fun y => (wn 0 y).1 rfl
  have hr10 : CR D s10 x md (sO S) := by
    refine hr.ow hf kp' w0 (fun z a b y => ?_) (fun z a y => (wn z y).2.1 a) (fun z y a => ?_)
    · have := (wn z y).2.2.2.2.1; omega
    · have := (wn z y).2.2.2.2.2 a
      obtain ⟨_, _, R, ct, htb⟩ := id hb
      exact ⟨x + 3, htb.1.1, this.1, this.2, by omega⟩
  have ho10 : MdA D s10 od (sN S) Bo Sto Dfo := hod.kp hf kp' (fun y => by have := (wn _ y).2.2.2.2.1; omega) (fun y => by have := (wn _ y).2.2.2.2.1; omega) (fun y => by have := (wn _ y).2.2.2.2.1; omega) (fun y => by have := (wn _ y).2.2.2.2.1; omega)
  have hx10 : CX s10 x md od q (sLa S) := hx.kp hf kp' (fun y => (wn _ y).2.2.2.1 rfl)
  have j10 : ∀ la', CX s10 x md od q la' → CJ D s10 x md od q ((sN S, bB b', bSt b', sDf S), (bLo b', bL b', bWr b'), t', la', sO S) := fun la' hxx => ⟨f1, hz.kp hf kp', hxx, ⟨⟨g3.1, g3.2.2.2.1, g3.2.2.2.2.2.1, g3.2.2.2.2.2.2⟩, ⟨f', g5⟩, R', ct', g10⟩, g4.ext rfl rfl rfl, g6, ⟨Bo, Sto, Dfo, ho10⟩, ⟨rf, c, g8, g9⟩, hr10⟩
  have x11 : fI_ s11 0 9 x = nI (sLa S) := by rw [e11]; exact hx10.2.2.2.2.2.2.2.2.2.2
  rw [x11, inc_n]
  refine ⟨by rw [e11]; exact hx10.1, fun y => ?_, fun y s14 e14 => ?_⟩
  · have cc0 : cc ≠ 0 := fun z => y (by rw [if_pos z])
    unfold cmS at k
    simp only [if_neg cc0] at k y ⊢
    exact k s11 ⟨md, od, q, by rw [e11]; exact j10 (sLa S) hx10⟩ (by rw [e11]; exact cf.bu)
  · have cc0 : cc = 0 := by
      rcases Nat.eq_zero_or_pos cc with z | z
      · exact z
      · exfalso
        rw [if_neg (by omega)] at y
        unfold cod at y
        split at y
        · have : nI 4294967293 = nI (inc32 (sLa S)) := y
          rw [nI_eq32 (by decide) hil] at this
          exact hne.1 this.symm
        · have : nI 4294967292 = nI (inc32 (sLa S)) := y
          rw [nI_eq32 (by decide) hil] at this
          exact hne.2 this.symm
    unfold cmS at k
    simp only [if_pos cc0] at k y ⊢
    have kx : Kp True (fun z => z = x) s11 s14 := by rw [e14]; exact Kp.sI' Kp.refl (Or.inl rfl)
    have j11 : CJ D s11 x md od q ((sN S, bB b', bSt b', sDf S), (bLo b', bL b', bWr b'), t', sLa S, sO S) := by rw [e11]; exact j10 (sLa S) hx10
    refine k s14 ⟨md, od, q, j11.setLa e14⟩ ((cf.bu (a := bc_ σ - mc) (b := bs_ σ - ms)).trans ?_)
    rw [e11] at kx
    exact kx.cf (fun z e => by omega)
end
