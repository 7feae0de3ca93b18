/-! the class: discover -/
section
variable {S' : Prop} {W : Nat → Prop} {D n : Nat} {σ σ0 σ' τ υ : Hp} {x md od q la r r' m c c' : Nat} {t t' : TT} {rf : Nat → Nat} {O F F0 F' : List FT} {S S2 : AS} {B St : Nat → Nat} {Df : Nat → Bool}
theorem dsc_d (S : AS) (l : List Nat) (i c : Nat) (b : Option (Nat × List FT)) (h : i < l.length) : dsc S (l.drop i) c b = match sRd S (l.getD i 0) with
    | .inr F => dsc S (l.drop (i + 1)) (c + 1) (some (l.getD i 0, F))
    | .inl _ => dsc S (l.drop (i + 1)) c b := by
  rw [drop_cons h]; rfl
/-- the state while sessions are looked through -/
def dS (S : AS) (la : Nat) : AS := wLa (wPow S false (if sLo S then -1 else sLf S) (sWr S)) la
/-- which reader holds the best -/
def Best (D : Nat) (s : Hp) (x md n : Nat) (B : Nat → Nat) (x2 cnt la : Nat) : Option (Nat × List FT) → Prop
  | none => x2 = 0 ∧ cnt = 0 ∧ la = 0
  | some (p, F) => (x2 = x + 22 ∨ x2 = x + 26) ∧ (∃ c, RdS D s x2 md F c) ∧ FOK n F ∧ la = lowN B (2048 * p + 8) 4
theorem c_disc43 (h : CJ D σ x md od q (dS S 0)) (hM : MkR σ x (sM S)) (hL : (sM S).length ≤ sN S) (h1 : 7298 ≤ bc_ σ) (h2 : 56510 ≤ bs_ σ) {post : Int32 → Hp → Prop} (k : ∀ σ', CI D σ' x (opDiscover S).2 → Cf D x σ σ' → post (opDiscover S).1 σ') : wX1_discover_L43 post x (x + 30) 0 0 0 σ := by
  have hn : sN S ≤ 200 := h.2.2.2.2.2.1.med.2.1
  have hB : ∀ q, sB S q < 256 := h.2.2.2.2.2.1.med.2.2.1
  have hzz := h.2.1
  obtain ⟨Z, hZ⟩ : ∃ Z, dsc S (sM S) 0 none = Z := ⟨_, rfl⟩
  unfold opDiscover at k
  rw [hZ] at k
  unfold wX1_discover_L43
  refine lpG4 (B := fun R a b d s => wX1_discover_B43 post R x (x + 30) a b d s) (fun j a b d s => ∃ (i cnt la : Nat) (bo : Option (Nat × List FT)), i + j = (sM S).length ∧ d = nI i ∧ b = nI cnt ∧ cnt ≤ i ∧ dsc S ((sM S).drop i) cnt bo = Z ∧ CJ D s x md od q (dS S la) ∧ Cf D x σ s ∧ MkR s x (sM S) ∧ Best D s x md (sN S) (sB S) a cnt la bo ∧ bc_ s + 35 * i = bc_ σ ∧ bs_ s + 266 * i = bs_ σ) (sM S).length ⟨0, 0, 0, none, by omega, rfl, rfl, by omega, hZ, h, Cf.refl, hM, ⟨rfl, rfl, rfl⟩, by omega, by omega⟩ ?_
  rintro j a b d s R ⟨i, cnt, la, bo, g1, rfl, rfl, g4, g5, g6, g7, g8, g9, g10, g11⟩ hR
  obtain ⟨hf, hz, hx, hb, hp, hmd, hod, ht, hr⟩ := id g6
  have hmd' : MdA D s md (sN S) (sB S) (sSt S) (sDf S) := hmd
  have hx1 : x < nx_ s := hf.lt hx.1
  have hx30 : x + 30 < nx_ s := hf.lt hz.2.2.1
  have hDs := hz.1.2.2
  have hz1 := hz.1
  have hz2 := hz.2.1
  unfold wX1_discover_B43
  rw [g8.1, nI_leI (by omega) (by omega), hx.2.2.2.2.2.2.2.1, hx.2.2.2.2.2.2.2.2.1]
  refine ⟨hx.1, fun z => ?_, fun z => ?_⟩
  · have hd0 : (sM S).drop i = [] := List.drop_eq_nil_iff.mpr (by omega)
    rw [hd0] at g5
    have g5' : (cnt, bo) = Z := g5
    obtain ⟨mc, hmc⟩ : ∃ m, m = 298 := ⟨_, rfl⟩
    obtain ⟨ms, hms⟩ : ∃ m, m = 3310 := ⟨_, rfl⟩
    refine ⟨mc, ms, by omega, by omega, ?_⟩
    rw [← g5'] at k
    cases bo with
    | none =>
      obtain ⟨e1, e2, e3⟩ := g9
      subst e1 e2 e3
      refine c_take (σ := bu_ s mc ms) (n := 0) g6.bu (F := [rootF]) (Or.inl ⟨rfl, rfl⟩) (show 298 ≤ mc by omega) (show 3310 ≤ ms by omega) (fun s32 q' j32 c32 s33 e33 => ?_)
      exact k s33 ⟨md, od, q', by rw [e33]; exact j32.bu⟩ (g7.trans (by rw [e33]; exact c32.bu))
    | some pF =>
      obtain ⟨p, F⟩ := pF
      obtain ⟨e1, ⟨c, hS⟩, hF, e3⟩ := g9
      subst e3
      refine c_take (σ := bu_ s mc ms) (n := sN S) g6.bu (F := F) (Or.inr ⟨by omega, by omega, ⟨md, c, hS⟩, hF⟩) (show 298 ≤ mc by omega) (show 3310 ≤ ms by omega) (fun s32 q' j32 c32 s33 e33 => ?_)
      exact k s33 ⟨md, od, q', by rw [e33]; exact j32.bu⟩ (g7.trans (by rw [e33]; exact c32.bu))
  have hi : i < (sM S).length := by omega
  have hmk := mk_at hi
  have hs := hmk.1.1
  have hbs := hmk.2.2.2.2.2.1
  rw [dsc_d S _ _ _ _ hi] at g5
  obtain ⟨p, hpe⟩ : ∃ p, p = (sM S).getD i 0 := ⟨_, rfl⟩
  rw [← hpe] at hs hbs g5 hmk
  -- with the reader r
  have L71 : ∀ r, (r = x + 22 ∨ r = x + 26) → a ≠ r → wX1_discover_L71 post R x (x + 30) a (nI cnt) (nI i) r s := by
    intro r hr2 hne
    have hSr : ∃ m F c, RdS D s r m F c := by
      rcases hr2 with e | e
      · rw [e]; exact hr.2.1
      · rw [e]; exact hr.2.2.1
    obtain ⟨m0, F0, c0, hS0⟩ := hSr
    have crd : ∀ (τ : Hp) (m F c'), FrR s τ r → RdS D τ r m F c' → CR D τ x md (sO (dS S la)) := by
      intro τ m F c' fr hS'
      rcases hr2 with e | e
      · subst e; exact hr.rd22 hf hS0 fr hS'
      · subst e; exact hr.rd26 hf hS0 fr hS'
    have bst : ∀ (τ : Hp), FrR s τ r → Best D τ x md (sN S) (sB S) a cnt la bo := by
      intro τ fr
      cases bo with
      | none => exact g9
      | some pF =>
        obtain ⟨p', F'⟩ := pF
        obtain ⟨e1, ⟨c, hS⟩, hF, e3⟩ := g9
        refine ⟨e1, ⟨c, ?_⟩, hF, e3⟩
        have dj : RDj s r a := by
          rcases hr2 with e | e
          · rcases e1 with y | y
            · omega
            · rw [e, y]; exact hr.2.2.2.2.2
          · rcases e1 with y | y
            · rw [e, y]; exact hr.2.2.2.2.2.symm
            · omega
        exact (hS.other hS0 hf fr (by omega) dj).1
    have mkr : ∀ (τ : Hp), FrR s τ r → MkR τ x (sM S) := fun τ fr => g8.kp fr.1 hx1 hx30 (fun y => by
      rcases WRd_t hS0 y with e | e | e <;> omega) (fun y => by
      rcases WRd_t hS0 y with e | e | e <;> omega)
    unfold wX1_discover_L71
    rw [hx.2.2.2.1]
    refine ⟨hx.1, hS0.1.1, c_begin hf hS0 hmd' (by omega) hDs (fun s4 H4 b4 b4' s5 e5 => ?_)⟩
    have H5 : BR D s s5 r md (sN S) (sB S) (sSt S) (sDf S) [] c0 := by rw [e5]; exact H4.bu
    obtain ⟨j5, c5⟩ := g6.rd (Or.inr hr2) hS0 H5.2 H5.1.1 (crd s5 md [] c0 H5.2 H5.1.2.1)
    have m5 := mkr s5 H5.2
    have z5 := j5.2.1
    have x5 := j5.2.2.1
    rw [z5.2.2.2]
    refine ⟨z5.2.2.1, (vin_ (by omega)).mpr (by show i < sN S + 1; omega), x5.1, ?_⟩
    rw [nI_clamp (by omega), m5.2 i hi, ← hpe]
    have bc5 : bc_ s5 = bc_ s := by rw [e5]; rfl
    have bs5 : bs_ s5 = bs_ s := by rw [e5]; rfl
    refine c_base j5 hs ⟨H5.1.2.1.1.1, 35, 266, by omega, by omega, ?_⟩
    rw [nI_l (by show lowN (sB S) (2048 * p + 4) 4 < _; omega)]
    refine c_reads (σ := bu_ s5 35 266) H5.1 (by show lowN (sB S) (2048 * p + 4) 4 < 200; omega) (Nat.le_refl _) (Nat.le_refl _) (fun F c' s16 e16 H16 ok16 s17 e17 => ⟨fun _ => ?_, fun w => absurd w (by decide)⟩) (fun w F c' s16 e16 w16 H16 _ s17 e17 => ⟨fun w => absurd rfl w, fun _ => ?_⟩)
    · have hrd : sRd S p = .inr F := e16
      rw [hrd] at g5
      have H17 : BR D s5 s17 r md (sN S) (sB S) (sSt S) (sDf S) F c' := by rw [e17]; exact H16.bu
      have fr : FrR s s17 r := H5.2.trans H17.2
      obtain ⟨j17, c17⟩ := g6.rd (Or.inr hr2) hS0 fr H17.1.1 (crd s17 md F c' fr H17.1.2.1)
      have m17 := mkr s17 fr
      have z17 := j17.2.1
      have x17 := j17.2.2.1
      have md17 : MdA D s17 md (sN S) (sB S) (sSt S) (sDf S) := H17.1.2.2.1
      rw [z17.2.2.2, m17.2 i hi, ← hpe, x17.2.2.2.1, nI_l (by omega), show (2048 : Int64) = lN 2048 from rfl, lN_mul, show (8 : Int64) = lN 8 from rfl, lN_add, Nat.mul_comm]
      refine ⟨x17.1, z17.2.2.1, (vin_ (by omega)).mpr (by show i < sN S + 1; omega), md17.tag, c_mlow md17 (k := 4) (by decide) (by omega) (fun s24 e24 y25 h25 y1 hy1 => ?_)⟩
      have j24 := j17.setLa e24
      have kp24 : Kp False (fun z => z = x) s17 s24 := by rw [e24]; exact Kp.sI' Kp.refl (Or.inl rfl)
      have c24 : Cf D x s17 s24 := kp24.cf (fun z e => by omega)
      have hS24 : RdS D s24 r md F c' := by
        refine H17.1.2.1.ow H17.1.1 kp24 (by omega) (fun z a b => by omega) (fun z t y => by rw [y, x17.1] at t; cases t) (fun z y t => by rw [y, x17.1] at t; cases t)
      have m24 : MkR s24 x (sM S) := by
        rw [e24]
        exact ⟨by rw [afI_sI, u3_k (by decide)]; exact m17.1, m17.2⟩
      have g5' : dsc S ((sM S).drop (i + 1)) (cnt + 1) (some (p, F)) = Z := g5
      refine hR (j - 1) r y25 y1 s24 (by omega) ⟨i + 1, cnt + 1, lowN (sB S) (2048 * p + 8) 4, some (p, F), by omega, by rw [hy1, li_1, nI_add], by rw [h25, li_1, nI_add], by omega, g5', j24, (g7.trans c17).trans c24, m24, ⟨hr2, ⟨c', hS24⟩, ok16, rfl⟩, ?_, ?_⟩
      · rw [e24, e17]; show bc_ s5 - 35 + _ = _; omega
      · rw [e24, e17]; show bs_ s5 - 266 + _ = _; omega
    · have hrd : sRd S p = .inl w := e16
      rw [hrd] at g5
      have H17 : BR D s5 s17 r md (sN S) (sB S) (sSt S) (sDf S) F c' := by rw [e17]; exact H16.bu
      have fr : FrR s s17 r := H5.2.trans H17.2
      obtain ⟨j17, c17⟩ := g6.rd (Or.inr hr2) hS0 fr H17.1.1 (crd s17 md F c' fr H17.1.2.1)
      unfold wX1_discover_L133
      intro y1 hy1
      have g5' : dsc S ((sM S).drop (i + 1)) cnt bo = Z := g5
      refine hR (j - 1) a _ y1 s17 (by omega) ⟨i + 1, cnt, la, bo, by omega, by rw [hy1, li_1, nI_add], rfl, by omega, g5', j17, g7.trans c17, mkr s17 fr, bst s17 fr, ?_, ?_⟩
      · rw [e17]; show bc_ s5 - 35 + _ = _; omega
      · rw [e17]; show bs_ s5 - 266 + _ = _; omega
  exact ⟨fun e => L71 (x + 22) (Or.inl rfl) e, fun e => L71 (x + 26) (Or.inr rfl) (by omega)⟩
theorem C_discover (h : CI D σ x S) (h1 : 7298 ≤ bc_ σ) (h2 : 56510 ≤ bs_ σ) {post : Int32 → Hp → Prop} (k : ∀ σ', CI D σ' x (opDiscover S).2 → Cf D x σ σ' → post (opDiscover S).1 σ') : wX1_discover x σ post := by
  obtain ⟨md, od, q, hj⟩ := id h
  obtain ⟨hf, hz, hx, hb, hp, hmd, hod, ht, hr⟩ := id hj
  -- power is there again
  have L18 : ∀ s : Hp, Kp False (fun z => z = x + 1) σ s → WF D s → CJ D s x md od q (wPow S (sLo S) (if sLo S then -1 else sLf S) (sWr S)) → bc_ s = bc_ σ → bs_ s = bs_ σ → wX1_discover_L18 post x s := by
    intro s ks fs js b1 b2'
    have hxs := js.2.2.1
    have hps := js.2.2.2.2.1
    unfold wX1_discover_L18
    rw [hxs.2.1]
    refine ⟨hxs.1, hps.1, fun s37 e37 => ?_⟩
    have k37 : Kp False (fun z => z = x + 1) s s37 := by rw [e37]; exact Kp.sI' Kp.refl (Or.inl rfl)
    have j37 : CJ D s37 x md od q (wPow S false (if sLo S then -1 else sLf S) (sWr S)) := by
      refine js.pow k37 (by rw [e37]; exact fs.sI (by decide)) rfl rfl ?_
      rw [e37]
      exact ⟨hps.1, by rw [afI_sI, u3_k (by decide)]; exact hps.2.1, by rw [afI_sI, u3_k (by decide)]; exact hps.2.2.1, by rw [afI_sI, u3_e]; rfl⟩
    have c37 : Cf D x σ s37 := (ks.cf (fun z e => by omega) : Cf D x σ s).trans (k37.cf (fun z e => by omega))
    refine c_marks j37 (fun s39 j39 c39 m39 l39 s40 e40 => ?_)
    have j40 : CJ D s40 x md od q (wPow S false (if sLo S then -1 else sLf S) (sWr S)) := by rw [e40]; exact j39.bu
    refine ⟨j40.2.2.1.1, fun s42 e42 => ?_⟩
    have j42 : CJ D s42 x md od q (dS S 0) := j40.setLa e42
    have k42 : Kp False (fun z => z = x) s40 s42 := by rw [e42]; exact Kp.sI' Kp.refl (Or.inl rfl)
    have m42 : MkR s42 x (sM S) := by
      rw [e42, e40]
      exact ⟨by rw [afI_sI, u3_k (by decide)]; exact m39.1, m39.2⟩
    have cc : Cf D x σ s42 := (c37.trans (by rw [e40]; exact c39.bu : Cf D x s37 s40)).trans (k42.cf (fun z e => by omega))
    have b42 : bc_ s42 = bc_ σ := by rw [e42, e40]; show bc_ s37 = _; rw [e37]; exact b1
    have b42' : bs_ s42 = bs_ σ := by rw [e42, e40]; show bs_ s37 = _; rw [e37]; exact b2'
    exact c_disc43 j42 m42 l39 (by omega) (by omega) (fun s' u1 u2 => k s' u1 (cc.trans u2))
  unfold wX1_discover
  rw [hx.2.1, hp.2.2.2]
  have e0 : b2 (bLo (sBS S)) = 0 ↔ sLo S = false := b2_0
  rw [e0]
  refine ⟨hx.1, hp.1, fun lo => L18 σ Kp.refl hf ?_ rfl rfl, fun lo s46 e46 => ?_⟩
  · have e : wPow S (sLo S) (if sLo S then -1 else sLf S) (sWr S) = S := by
      rw [lo, if_neg (by decide), ← lo]; rfl
    rw [e]; exact hj
  · have lo' : sLo S = true := by cases hh : sLo S with | true => rfl | false => exact absurd hh lo
    have k46 : Kp False (fun z => z = x + 1) σ s46 := by rw [e46]; exact Kp.sI' Kp.refl (Or.inl rfl)
    have f46 : WF D s46 := by rw [e46]; exact hf.sI (by decide)
    refine L18 s46 k46 f46 (hj.pow k46 f46 rfl rfl ?_) (by rw [e46]; rfl) (by rw [e46]; rfl)
    rw [e46]
    refine ⟨hp.1, ?_, by rw [afI_sI, u3_k (by decide)]; exact hp.2.2.1, by rw [afI_sI, u3_k (by decide)]; exact hp.2.2.2⟩
    rw [afI_sI, u3_e]
    show (-1 : Int32) = if sLo S then -1 else sLf S
    rw [if_pos lo']
end
