/-! the class: the other medium is wiped; a tree is copied -/
/-- only ints of arrays in W may differ -/
def AW (W : Nat → Prop) (σ σ' : Hp) : Prop := tg_ σ' = tg_ σ ∧ fI_ σ' = fI_ σ ∧ fL_ σ' = fL_ σ ∧ fR_ σ' = fR_ σ ∧ ln_ σ' = ln_ σ ∧ aL_ σ' = aL_ σ ∧ aR_ σ' = aR_ σ ∧ nx_ σ' = nx_ σ ∧ bc_ σ' = bc_ σ ∧ bs_ σ' = bs_ σ ∧ lo_ σ' = lo_ σ ∧ (∀ r, ¬ W r → ∀ i, aI_ σ' r i = aI_ σ r i)
theorem srt_ext : ∀ (a b : List Nat), a.Pairwise (· < ·) → b.Pairwise (· < ·) → (∀ x, x ∈ a ↔ x ∈ b) → a = b
  | [], [], _, _, _ => rfl
  | [], y :: b, _, _, h => by have := (h y).mpr (List.mem_cons_self ..); cases this
  | x :: a, [], _, _, h => by have := (h x).mp (List.mem_cons_self ..); cases this
  | x :: a, y :: b, ha, hb, h => by
    rw [List.pairwise_cons] at ha hb
    have e : x = y := by
      rcases List.mem_cons.mp ((h x).mp (List.mem_cons_self ..)) with z | z
      · exact z
      · rcases List.mem_cons.mp ((h y).mpr (List.mem_cons_self ..)) with w | w
        · exact w.symm
        · have := ha.1 y w
          have := hb.1 x z
          omega
    subst e
    congr 1
    refine srt_ext a b ha.2 hb.2 (fun z => ⟨fun hz => ?_, fun hz => ?_⟩)
    · rcases List.mem_cons.mp ((h z).mp (List.mem_cons_of_mem _ hz)) with w | w
      · have := ha.1 z hz; omega
      · exact w
    · rcases List.mem_cons.mp ((h z).mpr (List.mem_cons_of_mem _ hz)) with w | w
      · have := hb.1 z hz; omega
      · exact w
theorem tL_srt (t : TT) : (tL t).Pairwise (· < ·) := by
  unfold tL
  exact List.Pairwise.filter _ List.pairwise_lt_range
/-- the first i nodes of a tree -/
def tPre (t : TT) (i : Nat) : TT := ((tL t).getD (i - 1) 0 + 1, fun k => decide (k ∈ (tL t).take i), t.2.2)
theorem tL_pre {t : TT} {i : Nat} (h1 : 1 ≤ i) (h2 : i ≤ (tL t).length) : tL (tPre t i) = (tL t).take i := by
  refine srt_ext _ _ (tL_srt _) ((tL_srt t).sublist (List.take_sublist _ _)) (fun x => ?_)
  rw [mem_tL]
  show (x < (tL t).getD (i - 1) 0 + 1 ∧ decide (x ∈ (tL t).take i) = true) ↔ _
  rw [decide_eq_true_iff]
  refine ⟨fun h => h.2, fun h => ⟨?_, h⟩⟩
  obtain ⟨a, ha, e⟩ := mem_getD h
  have ha' : a < i := by rw [List.length_take] at ha; omega
  rw [getD_take ha'] at e
  rcases Nat.lt_or_ge a (i - 1) with y | y
  · have := List.pairwise_iff_getElem.mp (tL_srt t) a (i - 1) (by omega) (by omega) y
    rw [← e, List.getD_eq_getElem?_getD, List.getD_eq_getElem?_getD, List.getElem?_eq_getElem (by omega), List.getElem?_eq_getElem (by omega)]
    simp only [Option.getD_some]
    omega
  · rw [← e, show a = i - 1 by omega]; omega
section
variable {S' : Prop} {W : Nat → Prop} {D n : Nat} {σ σ0 σ' τ υ : Hp} {x md od q la r r' m c c' : Nat} {t t' : TT} {rf : Nat → Nat} {O F F0 F' : List FT} {S S2 : AS} {B St : Nat → Nat} {Df : Nat → Bool}
theorem AW.refl : AW W σ σ := ⟨rfl, rfl, rfl, rfl, rfl, rfl, rfl, rfl, rfl, rfl, rfl, fun _ _ _ => rfl⟩
theorem AW.wI (h : AW W σ σ') {a i : Nat} {v : Int32} (ha : W a) : AW W σ (wI_ σ' a i v) := by
  obtain ⟨h1, h2, h3, h4, h5, h6, h7, h8, h9, h10, h11, h12⟩ := h
  exact ⟨h1, h2, h3, h4, h5, h6, h7, h8, h9, h10, h11, fun r hr j => by rw [aaI_wI, u2_r (fun e => hr (by rw [e]; exact ha))]; exact h12 r hr j⟩
theorem AW.kp (h : AW W σ σ') : Kp S' W σ σ' := by
  obtain ⟨h1, h2, h3, h4, h5, h6, h7, h8, h9, h10, h11, h12⟩ := h
  exact ⟨h11, by omega, fun r _ => ⟨by rw [h1], by rw [h5]⟩, fun r _ hr => ⟨fun _ _ _ => by rw [h2], fun _ _ => by rw [h3], fun _ _ => by rw [h4], h12 r hr, fun _ => by rw [h6], fun _ => by rw [h7]⟩⟩
theorem c_wipe (hm : MdA D σ m n B St Df) {post : Hp → Prop} (k : ∀ σ', AW (fun z => z = m + 1 ∨ z = m + 2 ∨ z = m + 3) σ σ' → MdA D σ' m n (fun _ => 0) (fun _ => 0) (fun _ => false) → post σ') : wX7_wipe m σ post := by
  have hn := hm.med.2.1
  obtain ⟨⟨a1, a2, a3, a4, a5⟩, ⟨b1, b2', b3⟩, ⟨c1, c2, c3⟩, d, e, f1, f2, f3⟩ := id hm
  unfold wX7_wipe wX7_wipe_L2
  refine lpG2 (B := fun R y s => wX7_wipe_B2 post R m y s) (fun j y s => ∃ i, i + j = 2048 * n ∧ y = nI i ∧ AW (fun z => z = m + 1 ∨ z = m + 2 ∨ z = m + 3) σ s ∧ ∀ a, a < i → aI_ s (m + 1) a = 0) (2048 * n) ⟨0, by omega, rfl, AW.refl, fun a ha => by omega⟩ ?_
  rintro j y s R ⟨i, g1, rfl, g3, g4⟩ hR
  have r3 : fR_ s = fR_ σ := g3.2.2.2.1
  have t3 : tg_ s = tg_ σ := g3.1
  have n3 : ln_ s = ln_ σ := g3.2.2.2.2.1
  have l3 : lo_ s = lo_ σ := g3.2.2.2.2.2.2.2.2.2.2.1
  unfold wX7_wipe_B2
  rw [r3, a3, t3, n3, c1, l3, nI_leI (by omega) (by omega)]
  refine ⟨a1, b1, fun z => ?_, fun z => ⟨by omega, (vin_ (by omega)).mpr (by omega), fun s16 e16 y17 h17 => ?_⟩⟩
  · have hi : i = 2048 * n := by omega
    subst hi
    unfold wX7_wipe_L26
    refine lpG2 (B := fun R y s => wX7_wipe_B26 post R m y s) (fun j y s2 => ∃ i, i + j = n ∧ y = nI i ∧ AW (fun z => z = m + 1 ∨ z = m + 2 ∨ z = m + 3) σ s2 ∧ (∀ a, a < 2048 * n → aI_ s2 (m + 1) a = 0) ∧ ∀ a, a < i → aI_ s2 (m + 2) a = 0 ∧ aI_ s2 (m + 3) a = 0) n ⟨0, by omega, rfl, g3, g4, fun a ha => by omega⟩ ?_
    rintro j y s2 R ⟨i, u1, rfl, u3, u4, u5⟩ hR
    have r3 : fR_ s2 = fR_ σ := u3.2.2.2.1
    have t3 : tg_ s2 = tg_ σ := u3.1
    have n3 : ln_ s2 = ln_ σ := u3.2.2.2.2.1
    have l3 : lo_ s2 = lo_ σ := u3.2.2.2.2.2.2.2.2.2.2.1
    have i3 : fI_ s2 = fI_ σ := u3.2.1
    unfold wX7_wipe_B26
    rw [i3, a2, nI_leI (by omega) (by omega), r3, a4, t3, n3, l3, c2]
    refine ⟨a1, fun z => ?_, fun z => ⟨b2', by omega, (vin_ (by omega)).mpr (by omega), fun s6 e6 => ?_⟩⟩
    · refine k s2 u3 ⟨⟨by rw [t3]; exact a1, by rw [i3]; exact a2, by rw [r3]; exact a3, by rw [r3]; exact a4, by rw [r3]; exact a5⟩, by rw [t3]; exact ⟨b1, b2', b3⟩, by rw [n3]; exact ⟨c1, c2, c3⟩, by rw [l3]; exact d, ⟨e.1, e.2.1, fun _ => (by decide : 0 < 256), fun _ => (by decide : 0 < 3)⟩, fun a ha => ?_, fun a ha => ?_, fun a ha => ?_⟩
      · rw [u4 a ha]; exact (by decide : (0 : Int32) = sb_b 0)
      · rw [(u5 a (by omega)).1]; exact (by decide : (0 : Int32) = nI 0)
      · rw [(u5 a (by omega)).2]; exact (by decide : (0 : Int32) = b2 false)
    · rw [nI_clamp (by omega)] at e6
      have w6 : AW (fun z => z = m + 1 ∨ z = m + 2 ∨ z = m + 3) σ s6 := by rw [e6]; exact u3.wI (Or.inr (Or.inl rfl))
      rw [w6.2.2.2.1, a5, w6.1, w6.2.2.2.2.1, c3]
      refine ⟨b3, (vin_ (by omega)).mpr (by omega), fun s9 e9 y10 h10 => ?_⟩
      rw [nI_clamp (by omega)] at e9
      refine hR (j - 1) y10 s9 (by omega) ⟨i + 1, by omega, by rw [h10, li_1, nI_add], by rw [e9]; exact w6.wI (Or.inr (Or.inr rfl)), fun a ha => ?_, fun a ha => ?_⟩
      · rw [e9, aaI_wI, u2_r (by omega), e6, aaI_wI, u2_r (by omega)]; exact u4 a ha
      · by_cases ea : a = i
        · subst ea
          refine ⟨?_, ?_⟩
          · rw [e9, aaI_wI, u2_r (by omega), e6, aaI_wI, u2_e]
          · rw [e9, aaI_wI, u2_e]; rfl
        · refine ⟨?_, ?_⟩
          · rw [e9, aaI_wI, u2_r (by omega), e6, aaI_wI, u2_i ea]; exact (u5 a (by omega)).1
          · rw [e9, aaI_wI, u2_i ea, e6, aaI_wI, u2_r (by omega)]; exact (u5 a (by omega)).2
  · rw [nI_clamp (by omega)] at e16
    refine hR (j - 1) y17 s16 (by omega) ⟨i + 1, by omega, by rw [h17, li_1, nI_add], by rw [e16]; exact g3.wI (Or.inl rfl), fun a ha => ?_⟩
    rw [e16, aaI_wI]
    by_cases ea : a = i
    · rw [ea, u2_e]; rfl
    · rw [u2_i ea]; exact g4 a (by omega)
/-- writes far from all of it -/
theorem CJ.far (h : CJ D σ x md od q S) (k : Kp False W σ τ) (hf' : WF D τ) (hw : ∀ z, W z → D < z ∧ z ≠ q ∧ z ≠ fR_ σ 4 0 q ∧ tg_ σ z ≠ 6 ∧ tg_ σ z ≠ 10 ∧ tg_ σ z ≠ 13 ∧ tg_ σ z ≠ 100 ∧ (tg_ σ z = 104 → ∃ l, tg_ σ l = 11 ∧ fR_ σ 10 1 l = z ∧ lo_ σ < z ∧ D < l ∧ l ≠ fR_ σ 4 0 q)) : CJ D τ x md od q S ∧ Cf D x σ τ := by
  obtain ⟨hf, hz, hx, hb, hp, hmd, ⟨Bo, Sto, Dfo, hod⟩, ht, hr⟩ := h
  have hm' := hz.2.1
  have hzz := hz.1
  have nb : ∀ z, z ≤ D → ¬ W z := fun z hz' y => by have := (hw z y).1; omega
  obtain ⟨_, _, R, ct, htb⟩ := id hb
  obtain ⟨rf, c2, htr, htz⟩ := id ht
  have hws : WS D σ W := fun z y => ⟨(hw z y).2.2.2.2.2.1, fun t => absurd t (hw z y).2.2.2.2.2.2.1, fun e => by have := (hw z y).1; omega⟩
  have wa : ∀ l, tg_ σ l = 11 → (l ≤ D ∨ l = fR_ σ 4 0 q) → tg_ σ (fR_ σ 10 1 l) = 104 → ¬ W (fR_ σ 10 1 l) := by
    intro l h1 h2 h3 y
    obtain ⟨l', e1, e2, e3, e4, e5⟩ := (hw _ y).2.2.2.2.2.2.2 h3
    have := hf.2.2.2.2.2.2.2 l' l e1 h1 (by
      rcases h2 with u | u
      · omega
      · rw [u]; exact e5) e2
    rw [e2] at this
    omega
  refine ⟨⟨hf', hz.kp hf k, hx.kp hf k (nb _ (by omega)), hb.kp hf k (nb _ (by omega)) (fun z a b => nb _ (by omega)) (wa (x + 3) htb.1.1 (Or.inl (by omega)) htb.1.2.2.1), hp.kp hf k (nb _ (by omega)), hmd.kp hf k (nb _ (by omega)) (nb _ (by omega)) (nb _ (by omega)) (nb _ (by omega)), ⟨Bo, Sto, Dfo, hod.kp hf k (nb _ (by omega)) (nb _ (by omega)) (nb _ (by omega)) (nb _ (by omega))⟩, ht.kp hf k hws (fun y => (hw _ y).2.1 rfl) (fun y => (hw _ y).2.2.1 rfl) (wa _ htr.2.2.1.1 (Or.inr rfl) htr.2.2.1.2.2.1) (fun z t y => (hw z y).2.2.2.1 t), hr.ow hf k (nb _ (by omega)) (fun z a b => nb _ (by omega)) (fun z t y => (hw z y).2.2.2.2.1 t) (fun z y t => ?_)⟩, k.cf (fun z y => Or.inr (hw z y).1)⟩
  obtain ⟨l', e1, e2, e3, e4, e5⟩ := (hw _ y).2.2.2.2.2.2.2 t
  exact ⟨l', e1, e2, e3, by omega⟩
theorem CJ.wipe (h : CJ D σ x md od q S) (k : AW (fun z => z = od + 1 ∨ z = od + 2 ∨ z = od + 3) σ τ) (hm : MdA D τ od (sN S) B St Df) : CJ D τ x md od q S ∧ Cf D x σ τ := by
  obtain ⟨hf, hz, hx, hb, hp, hmd, ⟨Bo, Sto, Dfo, hod⟩, ht, hr⟩ := h
  have hm' := hz.2.1
  have hzz := hz.1
  obtain ⟨_, ⟨b1, b2', b3⟩, _, d, _⟩ := id hod
  have kk : Kp False (fun z => z = od + 1 ∨ z = od + 2 ∨ z = od + 3) σ τ := k.kp
  have hs : Sx D σ (fun z => z = od + 1 ∨ z = od + 2 ∨ z = od + 3) := fun z hz' => by
    rcases hz' with e | e | e <;> subst e
    · rw [b1]; exact ⟨by omega, by decide, by decide, by decide, by decide, by decide, by decide, fun _ => by omega⟩
    · rw [b2']; exact ⟨by omega, by decide, by decide, by decide, by decide, by decide, by decide, fun w => absurd w (by decide)⟩
    · rw [b3]; exact ⟨by omega, by decide, by decide, by decide, by decide, by decide, by decide, fun w => absurd w (by decide)⟩
  exact ⟨⟨hf.same kk hs.ws k.1 k.2.2.2.2.2.2.2.1 k.2.2.2.1, hz.kp hf kk, hx.kp hf kk (by omega), hb.sx hf kk hs (fun z a b y => by omega), hp.kp hf kk (by omega), hmd.kp hf kk (by omega) (by omega) (by omega) (by omega), ⟨_, _, _, hm⟩, ht.sx hf kk hs, hr.sx hf kk hs (fun z a b y => by omega)⟩, kk.cf (fun z y => by omega)⟩
end
