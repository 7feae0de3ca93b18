/-! the class: plain operations -/
section
variable {S' : Prop} {W : Nat → Prop} {D n : Nat} {σ τ υ : Hp} {x md od q la r r' m c c' : Nat} {t : TT} {O F F' : List FT} {S S2 : AS}
theorem c_in {x : Int32} {a : Nat} (ha : a < 2 ^ 31) {post : Int32 → Prop} (k1 : ∀ j, j < a → x = nI j → ixN x a = some j → post 1) (k0 : ixN x a = none → post 0) : wX1_in x 0 (nI a - 1) σ post := m_in0 (σ := σ) ha k1 k0
theorem c_isContent {x y : Int32} {post : Int32 → Prop} (k1 : ∀ i j, cont x y = some (i, j) → x = nI i → y = nI j → i ≤ 6000 → j ≤ 255 → post 1) (k0 : cont x y = none → post 0) : wX1_isContent x y σ post := m_isContent (σ := σ) k1 k0
theorem MdA.df {B St : Nat → Nat} {Df : Nat → Bool} (h : MdA D σ m n B St Df) {s : Nat} {b : Bool} : MdA D (wI_ σ (m + 3) s (b2 b)) m n B St (upA Df s b) := by
  obtain ⟨a, ⟨b1, b2', b3⟩, c, d, e, f1, f2, f3⟩ := h
  refine ⟨a, ⟨b1, b2', b3⟩, c, d, e, fun i hi => ?_, fun i hi => ?_, fun i hi => ?_⟩
  · rw [aaI_wI, u2_r (by omega)]; exact f1 i hi
  · rw [aaI_wI, u2_r (by omega)]; exact f2 i hi
  · rw [aaI_wI]
    by_cases e : i = s
    · rw [e, u2_e, upA_e]
    · rw [u2_i e, upA_n e]; exact f3 i hi
/-- the medium alone changes -/
theorem CJ.med (h : CJ D σ x md od q S) (k : Kp False W σ τ) (hf' : WF D τ) (hs : Sx D σ W) (hw : ∀ z, W z → md < z ∧ z ≤ md + 3) (h1 : sN S2 = sN S) (h2 : sLa S2 = sLa S) (h3 : PwA σ (x + 1) (sBS S2)) (h4 : sT S2 = sT S) (h5 : sO S2 = sO S) (hm : MdA D τ md (sN S2) (sB S2) (sSt S2) (sDf S2)) : CJ D τ x md od q S2 := by
  obtain ⟨hf, hz, hx, hb, hp, hmd, ⟨Bo, Sto, Dfo, hod⟩, ht, hr⟩ := h
  have hm' := hz.2.1
  refine ⟨hf', by rw [h1]; exact hz.kp hf k, by rw [h2]; exact hx.kp hf k (fun z => by have := hw _ z; omega), hb.sx hf k hs (fun z a b y => by have := hw _ y; omega), h3.kp hf k (fun z => by have := hw _ z; omega), hm, ⟨Bo, Sto, Dfo, by rw [h1]; exact hod.kp hf k (fun z => by have := hw _ z; omega) (fun z => by have := hw _ z; omega) (fun z => by have := hw _ z; omega) (fun z => by have := hw _ z; omega)⟩, by rw [h4]; exact ht.sx hf k hs, by rw [h5]; exact hr.sx hf k hs (fun z a b y => by have := hw _ y; omega)⟩
theorem CJ.cf (h : CJ D σ x md od q S) (k : Kp S' W σ τ) (hw : ∀ z, W z → md ≤ z ∧ z ≤ md + 3) : Cf D x σ τ := k.cf (fun z hz => by have := hw z hz; have := h.2.1.2.1; omega)
theorem C_defect (h : CI D σ x S) (ok : AOK S) {v : Int32} {post : Int32 → Hp → Prop} (k : ∀ σ', CI D σ' x (opDefect S v).2 → Cf D x σ σ' → post (opDefect S v).1 σ') : wX1_defect x v σ post := by
  obtain ⟨md, od, q, hj⟩ := id h
  obtain ⟨hf, hz, hx, hb, hp, hmd, hod, ht, hr⟩ := id hj
  have hn := hmd.med.2.1
  obtain ⟨⟨a1, a2, a3, a4, a5⟩, ⟨b1, b2', b3⟩, ⟨c1, c2, c3⟩, d, e, f1, f2, f3⟩ := id hmd
  unfold opDefect at k
  unfold wX1_defect
  rw [hx.2.2.2.1, a2, a5, c3]
  refine ⟨hx.1, a1, c_in (by omega) (fun j hj' ev ej => ⟨fun _ => ⟨b3, ?_, fun s7 e7 => ?_⟩, fun w => absurd w (by decide)⟩) (fun ej => ⟨fun w => absurd rfl w, fun _ => ?_⟩)⟩
  · rw [ev]; exact (vin_ (by omega)).mpr hj'
  · rw [ej] at k
    have e7' : s7 = wI_ σ (md + 3) j (b2 true) := by rw [e7, ev, nI_clamp (by omega)]; rfl
    have kp : Kp False (fun z => z = md + 3) σ s7 := by rw [e7']; exact Kp.wI' Kp.refl (Or.inl rfl)
    have hs : Sx D σ (fun z => z = md + 3) := fun z hz' => by
      subst hz'
      rw [b3]
      exact ⟨by omega, by decide, by decide, by decide, by decide, by decide, by decide, fun w => absurd w (by decide)⟩
    refine k s7 ⟨md, od, q, hj.med kp (by rw [e7']; exact hf.wI (Or.inl (by rw [b3]; decide))) hs (fun z hz' => by omega) rfl rfl hp rfl rfl ?_⟩ (hj.cf kp (fun z hz' => by omega))
    rw [e7']; exact hmd.df
  · rw [ej] at k
    exact k σ h Cf.refl
theorem PwA.ext {w : Nat} {b b' : BS} (h : PwA σ w b) (h1 : bL b' = bL b) (h2 : bWr b' = bWr b) (h3 : bLo b' = bLo b) : PwA σ w b' := by
  unfold PwA at h ⊢; rw [h1, h2, h3]; exact h
/-- power alone changes -/
theorem CJ.pow (h : CJ D σ x md od q S) (k : Kp False (fun z => z = x + 1) σ τ) (hf' : WF D τ) (h1 : S2.1 = S.1) (h2 : S2.2.2 = S.2.2) (hp' : PwA τ (x + 1) (sBS S2)) : CJ D τ x md od q S2 := by
  obtain ⟨hf, hz, hx, hb, hp, hmd, ⟨Bo, Sto, Dfo, hod⟩, ht, hr⟩ := h
  have hm' := hz.2.1
  have hs : Sx D σ (fun z => z = x + 1) := fun z hz' => by
    subst hz'
    rw [hp.1]
    exact ⟨by omega, by decide, by decide, by decide, by decide, by decide, by decide, fun w => absurd w (by decide)⟩
  have e1 : sN S2 = sN S := by unfold sN; rw [h1]
  have e2 : sB S2 = sB S := by unfold sB; rw [h1]
  have e3 : sSt S2 = sSt S := by unfold sSt; rw [h1]
  have e4 : sDf S2 = sDf S := by unfold sDf; rw [h1]
  have e5 : sT S2 = sT S := by unfold sT; rw [h2]
  have e6 : sLa S2 = sLa S := by unfold sLa; rw [h2]
  have e7 : sO S2 = sO S := by unfold sO; rw [h2]
  refine ⟨hf', by rw [e1]; exact hz.kp hf k, by rw [e6]; exact hx.kp hf k (by omega), hb.sx hf k hs (fun z a b y => by omega), hp', by rw [e1, e2, e3, e4]; exact hmd.kp hf k (by omega) (by omega) (by omega) (by omega), ⟨Bo, Sto, Dfo, by rw [e1]; exact hod.kp hf k (by omega) (by omega) (by omega) (by omega)⟩, by rw [e5]; exact ht.sx hf k hs, by rw [e7]; exact hr.sx hf k hs (fun z a b y => by omega)⟩
theorem C_power (h : CI D σ x S) {v : Int32} {post : Hp → Prop} (k : ∀ σ', CI D σ' x (opPower S v) → Cf D x σ σ' → post σ') : wX1_power x v σ post := by
  obtain ⟨md, od, q, hj⟩ := id h
  obtain ⟨hf, hz, hx, hb, hp, hmd, hod, ht, hr⟩ := id hj
  have hm' := hz.2.1
  unfold wX1_power
  rw [hx.2.1]
  have L13 : ∀ u : Int32, u = (if v < 0 then -1 else v) → wX1_power_L13 post u (x + 1) σ := by
    intro u hu
    unfold wX1_power_L13
    refine ⟨hp.1, fun s2 e2 => ?_⟩
    have kp : Kp False (fun z => z = x + 1) σ s2 := by rw [e2]; exact Kp.sI' Kp.refl (Or.inl rfl)
    refine k s2 ⟨md, od, q, hj.pow kp (by rw [e2]; exact hf.sI (by decide)) rfl rfl ?_⟩ (kp.cf (fun z hz' => by omega))
    rw [e2]
    exact ⟨hp.1, by rw [afI_sI, u3_e, hu]; rfl, by rw [afI_sI, u3_k (by decide)]; exact hp.2.2.1, by rw [afI_sI, u3_k (by decide)]; exact hp.2.2.2⟩
  refine ⟨hx.1, fun z => L13 v ?_, fun z => L13 _ ?_⟩
  · rw [if_neg (fun w => by rw [Int32.le_iff_toInt_le] at z; rw [Int32.lt_iff_toInt_lt] at w; omega)]
  · rw [if_pos (by rw [Int32.le_iff_toInt_le] at z; rw [Int32.lt_iff_toInt_lt]; omega)]
theorem C_state (h : CI D σ x S) {v : Int32} {post : Int32 → Prop} (k : post (opState S v)) : wX1_state x v σ post := by
  obtain ⟨md, od, q, hj⟩ := id h
  obtain ⟨hf, hz, hx, hb, hp, hmd, hod, ht, hr⟩ := id hj
  have hn := hmd.med.2.1
  obtain ⟨⟨a1, a2, a3, a4, a5⟩, ⟨b1, b2', b3⟩, ⟨c1, c2, c3⟩, d, e, f1, f2, f3⟩ := id hmd
  unfold opState at k
  unfold wX1_state
  rw [hx.2.2.2.1, a2, a4, c2]
  refine ⟨hx.1, a1, c_in (by omega) (fun j hj' ev ej => ⟨fun w => absurd w (by decide), fun _ => ⟨b2', ?_, ?_⟩⟩) (fun ej => ⟨fun _ => ?_, fun w => absurd rfl w⟩)⟩
  · rw [ev]; exact (vin_ (by omega)).mpr hj'
  · rw [ej] at k
    rw [ev, nI_clamp (by omega), f2 j hj']; exact k
  · rw [ej] at k; exact k
theorem c_isIn1 (h : CJ D σ x md od q S) {v : Int32} {post : Int32 → Prop} (k1 : ∀ p, p < 2048 * sN S → v = nI p → ixN v (2048 * sN S) = some p → post 1) (k0 : ixN v (2048 * sN S) = none → post 0) : wX1_isIn x v σ post := by
  obtain ⟨hf, hz, hx, hb, hp, hmd, hod, ht, hr⟩ := id h
  have hn := hmd.med.2.1
  obtain ⟨⟨a1, a2, a3, a4, a5⟩, -⟩ := id hmd
  unfold wX1_isIn
  rw [hx.2.2.2.1, a2, li_2048, pk_mul, Nat.mul_comm]
  exact ⟨hx.1, a1, c_in (by omega) (fun j hj' ev ej => ⟨rfl, k1 j hj' ev ej⟩) (fun ej => ⟨rfl, k0 ej⟩)⟩
theorem C_byteAt (h : CI D σ x S) {v : Int32} {post : Int32 → Prop} (k : post (opByte S v)) : wX1_byteAt x v σ post := by
  obtain ⟨md, od, q, hj⟩ := id h
  obtain ⟨hf, hz, hx, hb, hp, hmd, hod, ht, hr⟩ := id hj
  have hn := hmd.med.2.1
  unfold opByte at k
  unfold wX1_byteAt
  rw [hx.2.2.2.1]
  refine ⟨hx.1, c_isIn1 hj (fun p hp' ev ej => ⟨fun w => absurd w (by decide), fun _ => ⟨hmd.tag, ?_⟩⟩) (fun ej => ⟨fun _ => ?_, fun w => absurd rfl w⟩)⟩
  · rw [ej] at k
    rw [ev, nI_l (by omega)]
    exact c_at hmd hp' k
  · rw [ej] at k; exact k
theorem C_spoil (h : CI D σ x S) {v u : Int32} {post : Int32 → Hp → Prop} (k : ∀ σ', CI D σ' x (opSpoil S v u).2 → Cf D x σ σ' → post (opSpoil S v u).1 σ') : wX1_spoil x v u σ post := by
  obtain ⟨md, od, q, hj⟩ := id h
  obtain ⟨hf, hz, hx, hb, hp, hmd, hod, ht, hr⟩ := id hj
  have hn := hmd.med.2.1
  obtain ⟨⟨a1, a2, a3, a4, a5⟩, ⟨b1, b2', b3⟩, ⟨c1, c2, c3⟩, d, e, f1, f2, f3⟩ := id hmd
  unfold opSpoil at k
  unfold wX1_spoil
  rw [hx.2.2.2.1, a4, a3, c2, c1]
  refine ⟨hx.1, c_isIn1 hj (fun p hp' ev ej => ⟨fun w => absurd w (by decide), fun _ => ⟨a1, b2', ?_, ?_⟩⟩) (fun ej => ⟨fun _ => ?_, fun w => absurd rfl w⟩)⟩
  · rw [ev, li_2048, pk_div (by omega) (by decide) (by decide)]; exact (vin_ (by omega)).mpr (by omega)
  · rw [ej] at k
    have hs2 := e.2.2.2 (p / 2048)
    rw [ev, li_2048, pk_div (by omega) (by decide) (by decide), nI_clamp (by omega), f2 _ (by omega), li_1, nI_eq (by omega) (by decide)]
    refine ⟨fun z => ?_, fun z => ?_⟩
    · simp only [if_pos z] at k
      rw [nI_l (by omega)]
      refine c_at hmd hp' ⟨b1, by omega, (vin_ (by omega)).mpr hp', fun s12 e12 => ?_⟩
      have e12' : s12 = wI_ σ (md + 1) p (sb_b (byt u)) := by rw [e12, nI_clamp (by omega), byt_b, nar_b]
      have kp : Kp False (fun z => z = md + 1) σ s12 := by rw [e12']; exact Kp.wI' Kp.refl (Or.inl rfl)
      have hs : Sx D σ (fun z => z = md + 1) := fun z hz' => by
        subst hz'
        rw [b1]
        exact ⟨by omega, by decide, by decide, by decide, by decide, by decide, by decide, fun _ => by omega⟩
      refine k s12 ⟨md, od, q, hj.med kp (by rw [e12']; exact hf.wI (Or.inr (by omega))) hs (fun z hz' => by omega) rfl rfl hp rfl rfl ?_⟩ (hj.cf kp (fun z hz' => by omega))
      rw [e12']
      exact hmd.by' (Nat.mod_lt _ (by decide)) (fun i => by unfold upA; rfl)
    · simp only [if_neg z] at k
      exact k σ h Cf.refl
  · rw [ej] at k
    exact k σ h Cf.refl
theorem C_writes (h : CI D σ x S) {post : Int32 → Prop} (k : post (sWr S)) : wX1_writes x σ post := by
  obtain ⟨md, od, q, hj⟩ := id h
  obtain ⟨hf, hz, hx, hb, hp, hmd, hod, ht, hr⟩ := id hj
  unfold wX1_writes
  rw [hx.2.1, hp.2.2.1]
  exact ⟨hx.1, hp.1, k⟩
end
