/-! the reader: a record is sound -/
section
variable {S : Prop} {D n : Nat} {σ σ' τ : Hp} {r md p L : Nat} {B St : Nat → Nat} {Df : Nat → Bool}
theorem c_sound (hf : WF D σ) (h : RdC σ r md) (hm : MdA D σ md n B St Df) (hp : p < 2048 * n) {s : Nat} (hs : s ≤ 2) {sp : Int32} (hsp : sp = if s < 2 then nI s else -1) {post : Int32 → Hp → Prop}
    (k1 : ∀ σ', recOK n B St p s → RF r σ σ' → RdI σ' r (p + 33) (B (p + 32)) ∧ RU r σ σ' → post 1 σ') (k0 : ∀ σ', ¬ recOK n B St p s → RF r σ σ' → fI_ σ' 7 8 r = nI p → post 0 σ') : wX8_sound r (lN p) sp σ post := by
  have hB := hm.med.2.2.1
  have hn := hm.med.2.1
  have hN := hB p
  have hwr := h.rf (RF.refl (r := r) (σ := σ))
  have rfWF : ∀ s', RF r σ s' → WF D s' := fun s' f => hf.same (S := False) f.kp (fun q hq => by subst hq; rw [h.1]; exact ⟨by decide, fun z => absurd z (by decide), fun z => by rw [z] at h; have := h.1; rw [hf.2.2.1] at this; cases this⟩) f.1 f.2.2.2.2.2.2.1 f.2.1
  -- it is bad
  have bad : ∀ (s' : Hp) (post' : Int32 → Hp → Prop), RF r σ s' → ¬ recOK n B St p s → (∀ σ', post 0 σ' → post' 0 σ') → wX8_bad r (lN p) s' post' := fun s' post' f hno hk => c_bad (h.rf f) (fun s2 f2 e2 => hk s2 (k0 s2 hno (f.trans f2) e2))
  have badL : ∀ s' : Hp, RF r σ s' → ¬ recOK n B St p s → (tg_ s' r = 8 ∧ (wX8_bad r (lN p) s' (fun r2 σ3 => (nr_ .boolean r2 ∧ post r2 σ3)))) := fun s' f hno => ⟨(h.rf f).1, bad s' _ f hno (fun σ' hp => ⟨rfl, hp⟩)⟩
  unfold wX8_sound
  rw [h.2.2.2.1]
  refine ⟨h.1, hm.tag, c_at hm hp ?_⟩
  rw [li_34, nI_ltI (by omega) (by decide)]
  have L58 : ¬ recOK n B St p s → wX8_sound_L58 post r (lN p) σ := fun hno => badL σ RF.refl hno
  refine ⟨fun z => L58 (fun w => by have := w.1.1; omega), fun z => ?_⟩
  have em : lN p - lN p / (2048 : Int64) * (2048 : Int64) + (nI (B p)).toInt64 = lN (p % 2048 + B p) := by
    rw [show (2048 : Int64) = lN 2048 from rfl, lN_div (by omega) (by decide) (by decide), lN_mul, lN_sub (by omega), nI_l (by omega), lN_add]
    congr 1
    omega
  rw [em, lg_cmp_gt, show (2048 : Int64) = lN 2048 from rfl, lN_lt (by decide) (by omega)]
  refine ⟨fun z2 => L58 (fun w => by have := w.1.2.1; omega), fun z2 => ?_⟩
  have hb : p + B p ≤ 2048 * n := by omega
  have e32 : lN p + (32 : Int64) = lN (p + 32) := by rw [show (32 : Int64) = lN 32 from rfl, lN_add]
  rw [e32]
  have hl := hB (p + 32)
  refine c_at hm (by omega) ?_
  rw [evm_ _ hl, nI_eq (by omega) (by omega)]
  refine ⟨fun z3 => c_at hm (by omega) ?_, fun z3 => L58 (fun w => z3 w.1.2.2.1)⟩
  have h25 := hB (p + 25)
  have v2 := lowN_lt hB 4 (p + 2)
  have v10 := lowN_lt hB 4 (p + 10)
  have p4 : (256 : Nat) ^ 4 = 4294967296 := by decide
  rw [p4] at v2 v10
  -- sizes
  have L283 : ∀ s' : Hp, RF r σ s' → RdI s' r (p + 33) (B (p + 32)) ∧ RU r σ s' → frOK B p → idOK B p s → (B (p + 25) = 2 → 0 < lowN B (p + 10) 4 ∧ lowN B (p + 10) 4 % 2048 = 0) → wX8_sound_L283 post r (lN p) (nI (lowN B (p + 2) 4)) (nI (lowN B (p + 10) 4)) s' := by
    intro s' f hi hfr hid hdir
    have m' := hm.rf h.1 f
    unfold wX8_sound_L283 wX8_sound_L288 wX8_sound_L312 wX8_sound_L352
    have hge : (0 ≤ nI (lowN B (p + 10) 4)) ↔ lowN B (p + 10) 4 < 2 ^ 31 := by
      rw [← Int32.not_lt, nI_neg' (by omega)]; omega
    rw [hge, li_0, nI_eq32 (by omega) (by decide), nI_eq32 (by omega) (by decide)]
    refine ⟨fun u => ⟨fun u2 => ⟨(h.rf f).1, ?_⟩, fun u2 => ⟨fun u3 => k1 s' ⟨hfr, hid, u, hdir, fun _ => u3, fun w => absurd u2 w⟩ f hi, fun u3 => ⟨(h.rf f).1, bad s' _ f (fun w => u3 (w.2.2.2.2.1 u2)) (fun σ' hp => ⟨fun _ => hp, fun w => absurd rfl w⟩)⟩⟩⟩, fun u => badL s' f (fun w => u w.2.2.1)⟩
    rw [(h.rf f).2.2.2.1]
    have ed : ((nI (lowN B (p + 10) 4)).toInt64 + (2048 : Int64) - (1 : Int64)) / (2048 : Int64) = lN ((lowN B (p + 10) 4 + 2047) / 2048) := by
      rw [nI_l u, show (2048 : Int64) = lN 2048 from rfl, show (1 : Int64) = lN 1 from rfl, lN_add, lN_sub (by omega)]
      apply Int64.toInt_inj.mp
      have t1 : (lN (lowN B (p + 10) 4 + 2048 - 1)).toInt = ((lowN B (p + 10) 4 + 2048 - 1 : Nat) : Int) := lg_ofNat_toInt (by omega)
      rw [lg_ldiv_nonneg (by rw [t1]; omega) (by decide), t1, lN_toInt (by decide), lN_toInt (by omega)]
      omega
    rw [ed]
    by_cases hsec : lowN B (p + 2) 4 < 2 ^ 31
    · rw [nI_l hsec]
      refine ⟨m'.tag, c_hasW m' hsec (by omega) (fun w1 w2 => ⟨fun _ => k1 s' ⟨hfr, hid, u, hdir, fun w => absurd w u2, fun _ => ⟨hsec, w1, w2⟩⟩ f hi, fun w => absurd w (by decide)⟩) (fun w => ⟨fun w' => absurd rfl w', fun _ => bad s' _ f (fun w' => w ⟨(w'.2.2.2.2.2 u2).2.1, (w'.2.2.2.2.2 u2).2.2⟩) (fun σ' hp => ⟨fun _ => hp, fun w => absurd rfl w⟩)⟩)⟩
    · refine ⟨m'.tag, c_hasWn (by omega) (by omega) ⟨fun w' => absurd rfl w', fun _ => bad s' _ f (fun w' => hsec (w'.2.2.2.2.2 u2).1) (fun σ' hp => ⟨fun _ => hp, fun w => absurd rfl w⟩)⟩⟩
  -- identifiers
  have L221 : ∀ (s' : Hp) (ss : Nat), RF r σ s' → RdI s' r (p + 33) (B (p + 32)) ∧ RU r σ s' → frOK B p → ss ≤ 3 → (idOK B p s ↔ (if ss < 2 then B (p + 32) = 1 ∧ B (p + 33) = ss else if ss = 2 then nameOK B (p + 33) (B (p + 32)) else 3 < B (p + 32) ∧ nameOK B (p + 33) (B (p + 32) - 3) ∧ B (p + 33 + B (p + 32) - 3) = 46 ∧ B (p + 33 + B (p + 32) - 2) = 59 ∧ B (p + 33 + B (p + 32) - 1) = 49)) → wX8_sound_L221 post r (lN p) (nI (B (p + 25))) (nI ss) r s' := by
    intro s' ss f hi hfr hss hid
    have m' := hm.rf h.1 f
    have h' := h.rf f
    unfold wX8_sound_L221
    refine ⟨h'.1, c_isId (rfWF s' f) h' m' hi.1 hl (by omega) hss (fun w => ⟨fun _ => ⟨h'.1, ?_⟩, fun w' => absurd w' (by decide)⟩) (fun w => ⟨fun w' => absurd rfl w', fun _ => badL s' f (fun w' => w (hid.mp w'.2.1))⟩)⟩
    rw [h'.2.2.2.1, show (2 : Int64) = lN 2 from rfl, show (10 : Int64) = lN 10 from rfl, lN_add, lN_add]
    refine ⟨m'.tag, c_mlow m' (k := 4) (by decide) (by omega) (c_mlow m' (k := 4) (by decide) (by omega) ?_)⟩
    rw [li_2, nI_eq (by omega) (by decide)]
    refine ⟨fun u => L283 s' f hi hfr (hid.mpr w) (fun u' => absurd u' u), fun u => ?_⟩
    have hle : (nI (lowN B (p + 10) 4) ≤ 0) ↔ ¬ (0 < lowN B (p + 10) 4 ∧ lowN B (p + 10) 4 < 2 ^ 31) := by
      rw [Int32.le_iff_lt_or_eq, nI_neg' (by omega), li_0, nI_eq32 (by omega) (by decide)]
      omega
    rw [hle]
    unfold wX8_sound_L288
    refine ⟨fun u2 => badL s' f (fun w' => u2 ⟨(w'.2.2.2.1 u).1, w'.2.2.1⟩), fun u2 => ?_⟩
    have u3 : 0 < lowN B (p + 10) 4 ∧ lowN B (p + 10) 4 < 2 ^ 31 := Classical.not_not.mp u2
    have er : nI (lowN B (p + 10) 4) - nI (lowN B (p + 10) 4) / (2048 : Int32) * (2048 : Int32) = nI (lowN B (p + 10) 4 % 2048) := by
      rw [li_2048, pk_div (by omega) (by decide) (by decide), pk_mul, pk_sub (by omega)]
      congr 1; omega
    rw [er, li_0, nI_eq (by omega) (by decide)]
    exact ⟨fun u4 => badL s' f (fun w' => u4 (w'.2.2.2.1 u).2), fun u4 => L283 s' f hi hfr (hid.mpr w) (fun _ => ⟨u3.1, u4⟩)⟩
  -- the identifier is read
  have L196 : frOK B p → (s < 2 → B (p + 25) = 2) → wX8_sound_L196 post r (lN p) sp (nI (B (p + 25))) σ := by
    intro hfr hfl
    unfold wX8_sound_L196
    refine ⟨h.1, c_read h hm (by omega) (fun s' f hi => ?_)⟩
    rw [li_2, nI_eq (by omega) (by decide)]
    have f25 := hfr.2.2.2.2.2.2.2
    by_cases hs2 : s < 2
    · rw [if_pos hs2] at hsp
      have hneg : ¬ sp < 0 := by rw [hsp]; exact nI_pos (by omega)
      refine ⟨fun z => absurd z hneg, fun _ => ?_⟩
      rw [hsp]
      refine L221 s' s f hi hfr (by omega) ?_
      unfold idOK
      rw [if_pos hs2, if_pos hs2]
      exact ⟨fun w => w.2, fun w => ⟨hfl hs2, w⟩⟩
    · rw [if_neg hs2] at hsp
      have hneg : sp < 0 := by rw [hsp]; decide
      refine ⟨fun _ => ⟨fun z => ?_, fun z => ?_⟩, fun z => absurd hneg z⟩
      · refine L221 s' 3 f hi hfr (by omega) ?_
        unfold idOK
        rw [if_neg hs2, if_neg (by decide), if_neg (by decide)]
        constructor
        · intro w
          obtain ⟨w1, w2, w3, w4, w5⟩ := w.2 z
          exact ⟨w1, w2, by rw [← w3]; congr 1; omega, by rw [← w4]; congr 1; omega, by rw [← w5]; congr 1; omega⟩
        · rintro ⟨w1, w2, w3, w4, w5⟩
          exact ⟨fun u => absurd u z, fun _ => ⟨w1, w2, by rw [← w3]; congr 1; omega, by rw [← w4]; congr 1; omega, by rw [← w5]; congr 1; omega⟩⟩
      · refine L221 s' 2 f hi hfr (by omega) ?_
        unfold idOK
        rw [if_neg hs2, if_neg (by decide), if_pos rfl]
        exact ⟨fun w => w.1 z, fun w => ⟨fun _ => w, fun u => absurd z u⟩⟩
  have L190 : ¬ recOK n B St p s → wX8_sound_L190 post r (lN p) σ := fun hno => badL σ RF.refl hno
  have L180 : frOK B p → wX8_sound_L180 post r (lN p) sp (nI (B (p + 25))) σ := by
    intro hfr
    unfold wX8_sound_L180
    rw [li_2, nI_eq (by omega) (by decide)]
    by_cases hs2 : s < 2
    · have hneg : ¬ sp < 0 := by rw [hsp, if_pos hs2]; exact nI_pos (by omega)
      exact ⟨fun z => absurd z hneg, fun _ => ⟨fun w => L196 hfr (fun _ => w), fun w => L190 (fun v => w (by have := v.2.1; unfold idOK at this; rw [if_pos hs2] at this; exact this.1))⟩⟩
    · have hneg : sp < 0 := by rw [hsp, if_neg hs2]; decide
      exact ⟨fun _ => L196 hfr (fun w => absurd w hs2), fun z => absurd hneg z⟩
  have L107 : (B (p + 32) % 2 = 1 ∨ B (p + 33 + B (p + 32)) = 0) → wX8_sound_L107 post r (lN p) sp σ := by
    intro hpad
    unfold wX8_sound_L107
    rw [h.2.2.2.1, show (25 : Int64) = lN 25 from rfl, show (2 : Int64) = lN 2 from rfl, show (10 : Int64) = lN 10 from rfl, show (28 : Int64) = lN 28 from rfl, lN_add, lN_add, lN_add, lN_add]
    refine ⟨h.1, hm.tag, c_at hm (by omega) (c_isBoth hm (k := 4) (by decide) (by omega) (fun u1 => ⟨fun w => absurd w (by decide), fun _ => c_isBoth hm (k := 4) (by decide) (by omega) (fun u2 => ⟨fun w => absurd w (by decide), fun _ => c_isBoth hm (k := 2) (by decide) (by omega) (fun u3 => ⟨fun w => absurd w (by decide), fun _ => ?_⟩) (fun u => ⟨fun _ => L190 (fun w => u w.1.2.2.2.2.2.2.1), fun w => absurd rfl w⟩)⟩) (fun u => ⟨fun _ => L190 (fun w => u w.1.2.2.2.2.2.1), fun w => absurd rfl w⟩)⟩) (fun u => ⟨fun _ => L190 (fun w => u w.1.2.2.2.2.1), fun w => absurd rfl w⟩))⟩
    rw [li_0, li_2, nI_eq (by omega) (by decide), nI_eq (by omega) (by decide)]
    exact ⟨fun v => L180 ⟨by omega, by omega, z3, hpad, u1, u2, u3, Or.inl v⟩, fun v => ⟨fun w => L190 (fun y => by have := y.1.2.2.2.2.2.2.2; omega), fun w => L180 ⟨by omega, by omega, z3, hpad, u1, u2, u3, Or.inr w⟩⟩⟩
  rw [show (33 : Int32) = nI 33 from rfl, nI_add, nI_leI (by omega) (by omega)]
  refine ⟨fun u => L107 (Or.inl (by omega)), fun u => ?_⟩
  have e1 : lN p + (nI (B p)).toInt64 - (1 : Int64) = lN (p + 33 + B (p + 32)) := by
    rw [nI_l (by omega), lN_add, show (1 : Int64) = lN 1 from rfl, lN_sub (by omega)]
    congr 1; omega
  rw [e1]
  refine c_at hm (by omega) ?_
  have hq := hB (p + 33 + B (p + 32))
  rw [li_0, nI_eq (by omega) (by decide)]
  exact ⟨fun w => L107 (Or.inr w), fun w => bad σ _ RF.refl (fun y => by have := y.1.2.2.2.1; omega) (fun σ' hp => ⟨rfl, hp⟩)⟩
end
