/-! the class: a node is replaced, renamed, removed -/
section
variable {S' : Prop} {W : Nat → Prop} {D n : Nat} {σ σ' τ υ : Hp} {x md od q la r r' m c c' : Nat} {t t' : TT} {rf : Nat → Nat} {O F F' : List FT} {S S2 : AS}
/-- one node changes -/
theorem TrA.upd (h : TrA D σ q t rf c) (hf : WF D σ) (hT : TOK n t) {k : Nat} (hk : k ∈ tL t) (kp : Kp False (fun z => z = rf k) σ τ) (hL : tL t' = tL t) (hN : tN t' = tN t) (hnd : NdA D τ (rf k) t' k) (hs : ∀ i ∈ tL t, i ≠ k → sameN t t' i) : TrA D τ q t' rf c := by
  have t6 := (h.2.2.2 k hk).1
  have k0 : rf k ≠ 0 := fun z => by rw [z, hf.2.2.1] at t6; cases t6
  have hw : WS D σ (fun z => z = rf k) := fun z hz => by
    subst hz
    rw [t6]
    exact ⟨by decide, fun y => absurd y (by decide), k0⟩
  have lq := hf.lt h.1
  have av : ∀ z, tg_ σ z ≠ 6 → ¬ z = rf k := fun z hz e => hz (by rw [e]; exact t6)
  have w1 := av q (by rw [h.1]; decide)
  have w2 := av _ (by rw [h.2.2.1.1]; decide : tg_ σ (fR_ σ 4 0 q) ≠ 6)
  have w3 := av _ (by rw [h.2.2.1.2.2.1]; decide : tg_ σ (fR_ σ 10 1 (fR_ σ 4 0 q)) ≠ 6)
  refine ⟨by rw [kp.t lq]; exact h.1, by rw [kp.i lq w1 (by omega), hN]; exact h.2.1, by rw [hL, kp.r lq w1]; exact h.2.2.1.kp hf kp w2 w3 (fun z => k0 z.symm) (h.2.2.1.lt hf (by decide)), fun i hi => ?_⟩
  rw [hL] at hi
  by_cases e : i = k
  · rw [e]; exact hnd
  · exact ((h.2.2.2 i hi).kp hf kp hw (fun z => e (rf_inj h hT hi hk z))).same (hs i hi e)
theorem CJ.upd (h : CJ D σ x md od q S) (ok : AOK S) (ht : TrA D σ q (sT S) rf c) (hz : TZ D x σ q (sT S) rf) {k : Nat} (hk : k ∈ tL (sT S)) (kp : Kp False (fun z => z = rf k) σ τ) (hf' : WF D τ) (hL : tL t' = tL (sT S)) (hN : tN t' = tN (sT S)) (hnd : NdA D τ (rf k) t' k) (hs : ∀ i ∈ tL (sT S), i ≠ k → sameN (sT S) t' i) : CJ D τ x md od q (wT S t') ∧ Cf D x σ τ := by
  have hf := h.1
  have t6 := (ht.2.2.2 k hk).1
  have av : ∀ z, tg_ σ z ≠ 6 → ¬ z = rf k := fun z hz e => hz (by rw [e]; exact t6)
  have hT' := ht.upd hf ok.2.1 hk kp hL hN hnd hs
  have hz' : TZ D x τ q t' rf := by
    have := hz.kp hf ht kp (av _ (by rw [ht.1]; decide)) (av _ (by rw [ht.2.2.1.1]; decide))
    obtain ⟨y1, y2, y3, y4⟩ := this
    exact ⟨y1, y2, y3, fun i hi => y4 i (by rw [← hL]; exact hi)⟩
  exact h.tree ht hz (kp.mono (fun z => z) (fun z _ e => Or.inr (Or.inr ⟨k, hk, e⟩))) hf' ⟨rf, c, hT', hz'⟩
theorem C_replace (h : CI D σ x S) (ok : AOK S) {v y z : Int32} {post : Int32 → Hp → Prop} (k : ∀ σ', CI D σ' x (opReplace S v y z).2 → Cf D x σ σ' → post (opReplace S v y z).1 σ') : wX1_replace x v y z σ post := by
  obtain ⟨md, od, q, hj⟩ := id h
  obtain ⟨hf, hz, hx, hb, hp, hmd, hod, ⟨rf, c, ht, htz⟩, hr⟩ := id hj
  have hT := ok.2.1
  unfold opReplace at k
  unfold wX1_replace
  rw [hx.2.1, hx.2.2.2.2.2.1, hp.2.2.2]
  have e0 : b2 (bLo (sBS S)) = 0 ↔ sLo S = false := b2_0
  rw [e0]
  refine ⟨hx.1, hp.1, fun lo => ⟨ht.1, ?_⟩, fun lo => ?_⟩
  rotate_left
  · have : sLo S = true := by cases hh : sLo S with | true => rfl | false => exact absurd hh lo
    rw [if_pos this] at k; exact k σ h Cf.refl
  rw [if_neg (by rw [lo]; decide)] at k
  rcases nodeOf_cases hT v with ⟨d, hd, ev, en⟩ | ⟨hno, en⟩
  · rw [en] at k
    subst ev
    have dd := root_D hT (mem_tL.mp hd).1 (mem_tL.mp hd).2
    refine c_findK ht hT hd (fun tg => ⟨fun w => ?_, fun _ => ⟨tg, ?_⟩⟩)
    · rw [w, hf.2.2.1] at tg; cases tg
    have nd := ht.2.2.2 d hd
    rw [nd.2.2.1, li_0, nI_eq (by omega) (by decide)]
    refine ⟨fun w => ?_, fun w => ?_⟩
    · simp only [if_pos (show tD (sT S) d = 1 by omega)] at k
      exact k σ h Cf.refl
    · simp only [if_neg (show ¬ tD (sT S) d = 1 by omega)] at k
      refine c_isContent (fun i j e ey ez _ _ => ⟨fun _ s11 e11 s12 e12 s13 e13 s14 e14 => ?_, fun w => absurd w (by decide)⟩) (fun e => ⟨fun w => absurd rfl w, fun _ => ?_⟩)
      · rw [e] at k
        have kp : Kp False (fun z => z = rf d) σ s14 := by
          rw [e14, e13, e12, e11]
          (repeat' first | with_reducible exact Kp.refl | with_reducible assumption | with_reducible apply Kp.sI' | with_reducible apply Kp.sL' | with_reducible apply Kp.sR' | with_reducible apply Kp.wI' | with_reducible apply Kp.wR' | with_reducible apply Kp.cI' | with_reducible apply Kp.cR' | with_reducible apply Kp.mO' | with_reducible apply Kp.mA' | with_reducible apply Kp.bu' | exact Or.inl rfl | exact Or.inr (Nat.le_refl _) | exact Or.inr (by omega) | exact Or.inr (Or.inl (by omega)))
        have f14 : WF D s14 := by rw [e14, e13, e12, e11]; exact (((hf.sI (by decide)).sI (by decide)).sI (by decide)).sI (by decide)
        have hnd : NdA D s14 (rf d) (tRep (sT S) d i j) d := by
          obtain ⟨o1, o2, o3, o4, o5, o6, o7, o8, o9, o10⟩ := nd
          have q1 : tS (tRep (sT S) d i j) d = i := upA_e
          have q2 : tE (tRep (sT S) d i j) d = j := upA_e
          have q3 : tW (tRep (sT S) d i j) d = false := upA_e
          have q4 : tX (tRep (sT S) d i j) d = 0 := upA_e
          unfold NdA tI
          rw [q1, q2, q3, q4]
          refine ⟨by rw [e14, e13, e12, e11]; exact o1, ?_, ?_, ?_, ?_, ?_, ?_, ?_, ?_, ?_⟩
          · rw [e14, afI_sI, u3_k (by decide), e13, afI_sI, u3_k (by decide), e12, afI_sI, u3_k (by decide), e11, afI_sI, u3_k (by decide)]; exact o2
          · rw [e14, afI_sI, u3_k (by decide), e13, afI_sI, u3_k (by decide), e12, afI_sI, u3_k (by decide), e11, afI_sI, u3_k (by decide)]; exact o3
          · rw [e14, afI_sI, u3_k (by decide), e13, afI_sI, u3_k (by decide), e12, afI_sI, u3_k (by decide), e11, afI_sI, u3_k (by decide)]; exact o4
          · rw [e14, afI_sI, u3_k (by decide), e13, afI_sI, u3_k (by decide), e12, afI_sI, u3_k (by decide), e11, afI_sI, u3_e]; exact ey
          · rw [e14, afI_sI, u3_k (by decide), e13, afI_sI, u3_k (by decide), e12, afI_sI, u3_e]; exact ez
          · rw [e14, afI_sI, u3_k (by decide), e13, afI_sI, u3_e]
          · rw [e14, afI_sI, u3_e]; rfl
          · rw [e14, e13, e12, e11]; exact (((o9.sI (by decide)).sI (by decide)).sI (by decide)).sI (by decide)
          · rw [e14, e13, e12, e11]; exact (((o10.sI (by decide)).sI (by decide)).sI (by decide)).sI (by decide)
        obtain ⟨g1, g2⟩ := hj.upd ok ht htz hd kp f14 (t' := tRep (sT S) d i j) rfl rfl hnd (fun i' _ hne => ⟨rfl, rfl, rfl, upA_n hne, upA_n hne, upA_n hne, upA_n hne⟩)
        exact k s14 ⟨md, od, q, g1⟩ g2
      · rw [e] at k; exact k σ h Cf.refl
  · rw [en] at k
    exact c_find ht v (fun d hd e _ => absurd e.symm (hno d hd)) (fun _ => ⟨fun _ => k σ h Cf.refl, fun w => absurd rfl w⟩)
theorem no_below (hT : TOK n t) {p kk : Nat} (hp : p ∈ tL t) (hk : kk ∈ tL t) (hd : tD t kk = 0) (hne : p ≠ kk) (hl : lies t p kk) : False := by
  have key : ∀ (j : Nat) (p : Nat), p ∈ tL t → dep t p = j → p ≠ kk → lies t p kk → False := by
    intro j
    induction j with
    | zero =>
      intro p hp hj hne hl
      obtain ⟨m1, m2⟩ := mem_tL.mp hp
      rw [lies_s hT m1 m2] at hl
      rcases hl with e | ⟨e, _⟩
      · exact hne e
      · have := (dep_s hT (by omega) m1 m2).2.2.2.1; omega
    | succ j ih =>
      intro p hp hj hne hl
      obtain ⟨m1, m2⟩ := mem_tL.mp hp
      rw [lies_s hT m1 m2] at hl
      rcases hl with e | ⟨e, e2⟩
      · exact hne e
      · obtain ⟨d1, d2, d3, d4, d5, d6⟩ := dep_s hT (by omega) m1 m2
        refine ih (tP t p) (mem_tL.mpr ⟨d1, d2⟩) (by omega) (fun e3 => ?_) e2
        rw [e3, hd] at d3; omega
  exact key _ p hp rfl hne hl
theorem C_rename (h : CI D σ x S) (ok : AOK S) {v y : Int32} {a : Nat} (h1 : 8 ≤ bc_ σ) (h2 : 67 ≤ bs_ σ) {post : Int32 → Hp → Prop} (k : ∀ σ', CI D σ' x (opRename S v y a).2 → Cf D x σ σ' → post (opRename S v y a).1 σ') : wX1_rename x v y (lN a) σ post := by
  obtain ⟨md, od, q, hj⟩ := id h
  obtain ⟨hf, hz, hx, hb, hp, hmd, hod, ⟨rf, c, ht, htz⟩, hr⟩ := id hj
  have hT := ok.2.1
  have hD : D < nx_ σ := hz.1.2.2
  unfold opRename at k
  unfold wX1_rename
  rw [hx.2.1, hx.2.2.2.2.2.1, hp.2.2.2]
  have e0 : b2 (bLo (sBS S)) = 0 ↔ sLo S = false := b2_0
  rw [e0]
  refine ⟨hx.1, hp.1, fun lo => ⟨ht.1, ?_⟩, fun lo => ?_⟩
  rotate_left
  · have : sLo S = true := by cases hh : sLo S with | true => rfl | false => exact absurd hh lo
    rw [if_pos this] at k; exact k σ h Cf.refl
  rw [if_neg (by rw [lo]; decide)] at k
  -- the name is told
  have named : ∀ (r17 : Nat) (G : Nat → Hp → Prop), (∀ s s24, CJ D s24 x md od q S → TrA D s24 q (sT S) rf c → TZ D x s24 q (sT S) rf → Cf D x σ s24 → Str D s24 s (told a) → bc_ s24 = bc_ σ - 4 → bs_ s24 = bs_ σ - 32 → G s s24) → (∃ mc18 ms19 : Nat, (mc18 ≤ bc_ σ ∧ (ms19 ≤ bs_ σ ∧ (wX1_nameOf (lN a) (bu_ σ mc18 ms19) (fun r22 σ23 => (∀ σ24, σ24 = bu_ σ23 (bc_ σ - mc18) (bs_ σ - ms19) → G r22 σ24)))))) := by
    intro r17 G hG
    refine ⟨4, 32, by omega, by omega, c_nameOf (σ := bu_ σ 4 32) hf hD (a := a) (Nat.le_refl _) (Nat.le_refl _) (fun s s6 hN s7 e7 => ?_)⟩
    have k7 : Kp False (fun _ => False) σ s7 := by rw [e7]; exact hN.2.1
    have f7 : WF D s7 := by rw [e7]; exact hN.1
    obtain ⟨j7, c7⟩ := hj.made k7 f7
    exact hG s s7 j7 (ht.kp hf k7 WS0 (fun z => z) (fun z => z) (fun z => z) (fun _ _ z => z)) (htz.kp hf ht k7 (fun z => z) (fun z => z)) c7 (by rw [e7]; exact hN.2.2) (by rw [e7]; rfl) (by rw [e7]; rfl)
  rcases nodeOf_cases hT v with ⟨kk, hk, ev, en⟩ | ⟨hno, en⟩
  rotate_left
  · rw [en] at k
    exact c_find ht v (fun d hd e _ => absurd e.symm (hno d hd)) (fun _ => named 0 _ (fun s s24 j24 t24 z24 c24 st24 b1 b2' => ⟨fun _ => k s24 ⟨md, od, q, j24⟩ c24, fun w => absurd rfl w⟩))
  rw [en] at k
  subst ev
  have lk := tL_lt hT hk
  refine c_findK ht hT hk (fun tg => named (rf kk) _ (fun s s24 j24 t24 z24 c24 st24 b1 b2' => ⟨fun w => ?_, fun _ => ?_⟩))
  · rw [w, hf.2.2.1] at tg; cases tg
  have ci24 : CI D s24 x S := ⟨md, od, q, j24⟩
  have x24 := j24.2.2.1
  -- what fails
  have fail : (∀ d, nodeOf (sT S) y = some d → (kk = 0 ∨ tD (sT S) d ≠ 1 ∨ told a = [] ∨ lies (sT S) d kk)) → post (-2) s24 := by
    intro hc
    cases hy : nodeOf (sT S) y with
    | none => rw [hy] at k; exact k s24 ci24 c24
    | some d =>
      rw [hy] at k
      simp only [ic_t (hc d hy)] at k
      exact k s24 ci24 c24
  rw [li_0, nI_eq (by omega) (by decide)]
  refine ⟨fun w => fail (fun d _ => Or.inl w), fun w => ⟨x24.1, isDir_c j24 ok y (fun d hd ey eny hd1 => ⟨fun w => absurd w (by decide), fun _ => ⟨st24.1, s_length st24 ?_⟩⟩) (fun hno => ⟨fun _ => fail (fun d hd => ?_), fun w => absurd rfl w⟩)⟩⟩
  rotate_left
  · rcases hno with e | ⟨d', e1, e2⟩
    · rw [e] at hd; cases hd
    · rw [e1] at hd; cases hd; exact Or.inr (Or.inl e2)
  subst ey
  have hl8 := told_len a
  rw [nI_eq (by omega) (by decide)]
  refine ⟨fun u => fail (fun d' hd' => by rw [eny] at hd'; cases hd'; exact Or.inr (Or.inr (Or.inl (List.length_eq_zero_iff.mp u)))), fun u => ?_⟩
  have hne : told a ≠ [] := fun z => u (by rw [z]; rfl)
  rw [x24.2.2.2.2.2.1]
  refine ⟨t24.1, c_isIn t24 hT hd hk (fun hl => ⟨fun w => absurd w (by decide), fun _ => fail (fun d' hd' => by rw [eny] at hd'; cases hd'; exact Or.inr (Or.inr (Or.inr hl)))⟩) (fun hl => ⟨fun _ => ?_, fun w => absurd rfl w⟩)⟩
  have hc1 : ¬ (kk = 0 ∨ tD (sT S) d ≠ 1 ∨ told a = [] ∨ lies (sT S) d kk) := by
    rintro (z | z | z | z)
    · exact w z
    · exact z hd1
    · exact hne z
    · exact hl z
  rw [eny] at k
  simp only [ic_f hc1] at k
  have nd24 := t24.2.2.2 kk hk
  have dk := root_D hT (mem_tL.mp hk).1 (mem_tL.mp hk).2
  have L104 : (¬ ∃ q ∈ tL (sT S), 0 < q ∧ tD (sT S) q = 1 ∧ lies (sT S) q kk ∧ 6 + dep (sT S) kk < dep (sT S) q + dep (sT S) d + 1) → wX1_rename_L104 post x (nI kk) (nI d) (rf kk) s s24 := by
    intro hc2
    simp only [ic_f hc2] at k
    unfold wX1_rename_L104
    rw [x24.2.2.2.2.2.1]
    have key := nmd_c (l := told a) (but := nI kk) (b := kk) hT hd (fun i hi => by
      have := tL_lt hT hi
      rw [Ne, nI_eq (by omega) (by omega)]
      exact ⟨fun z _ => z, fun z e => by
        rcases Nat.eq_zero_or_pos i with y | y
        · omega
        · exact z y e⟩)
    refine ⟨x24.1, t24.1, c_named t24 hT (by have := tL_lt hT hd; omega) st24 (nI kk) (fun y => ⟨fun w => absurd w (by decide), fun _ => ?_⟩) (fun y => ⟨fun _ => ⟨nd24.1, fun s6 e6 => ?_⟩, fun w => absurd rfl w⟩)⟩
    · rw [ic_t (key.mp y)] at k
      exact k s24 ci24 c24
    rw [ic_f (fun z => y (key.mpr z))] at k
    have k6 : Kp False (fun z => z = rf kk) s24 s6 := by rw [e6]; exact Kp.sI' Kp.refl (Or.inl rfl)
    have f6 : WF D s6 := by rw [e6]; exact j24.1.sI (by decide)
    have t6 : tg_ s6 (rf kk) = 6 := by rw [e6]; exact nd24.1
    have d6 : fI_ s6 5 1 (rf kk) = nI (tD (sT S) kk) := by rw [e6, afI_sI, u3_k (by decide)]; exact nd24.2.2.1
    have st6 : Str D s6 s (told a) := by rw [e6]; exact st24.sI (by decide)
    have bc6 : bc_ s6 = bc_ σ - 4 := by rw [e6]; exact b1
    have bs6 : bs_ s6 = bs_ σ - 32 := by rw [e6]; exact b2'
    have D6 : D < nx_ s6 := by have := k6.2.1; have := j24.2.1.1.2.2; omega
    refine ⟨4, 35, by omega, by omega, c_call (σ := bu_ s6 4 35) f6 (Or.inr D6) t6 d6 dk st6 hl8 (Nat.le_refl _) (Nat.le_refl _) (fun s11 f11 k11 r11 g11 i11 s12 e12 => ?_)⟩
    have k11' : Kp False (fun z => z = rf kk) s6 s11 := k11
    have k12 : Kp False (fun z => z = rf kk) s24 s12 := by rw [e12]; exact k6.trans k11' (fun _ _ z => z)
    have f12 : WF D s12 := by rw [e12]; exact f11
    have i12 : ∀ k', fI_ s12 5 k' (rf kk) = fI_ s6 5 k' (rf kk) := fun k' => by rw [e12]; exact i11 5 k'
    have hnd : NdA D s12 (rf kk) (tRen (sT S) kk d (told a)) kk := by
      obtain ⟨o1, o2, o3, o4, o5, o6, o7, o8, o9, o10⟩ := nd24
      have q1 : tP (tRen (sT S) kk d (told a)) kk = d := upA_e
      have q2 : tM (tRen (sT S) kk d (told a)) kk = told a := upA_e
      unfold NdA tI
      rw [q1, q2]
      refine ⟨by rw [k12.t (j24.1.lt o1)]; exact o1, ?_, ?_, ?_, ?_, ?_, ?_, ?_, ?_, ?_⟩
      · rw [i12, e6, afI_sI, u3_k (by decide)]; exact o2
      · rw [i12, e6, afI_sI, u3_k (by decide)]; exact o3
      · rw [i12, e6, afI_sI, u3_e]
      · rw [i12, e6, afI_sI, u3_k (by decide)]; exact o5
      · rw [i12, e6, afI_sI, u3_k (by decide)]; exact o6
      · rw [i12, e6, afI_sI, u3_k (by decide)]; exact o7
      · rw [i12, e6, afI_sI, u3_k (by decide)]; exact o8
      · have : fR_ s12 5 6 (rf kk) = s := by rw [e12]; exact r11
        rw [this]
        have hw : WS D s6 (fun z => z = rf kk) := fun z hz => by
          subst hz
          rw [t6]
          exact ⟨by decide, fun y => absurd y (by decide), fun z => by rw [z, f6.2.2.1] at t6; cases t6⟩
        rw [e12]
        exact st6.kp f6 k11' hw
      · rw [e12]; exact g11
    obtain ⟨g1, g2⟩ := j24.upd ok t24 z24 hk k12 f12 (t' := tRen (sT S) kk d (told a)) rfl rfl hnd (fun i' _ hne => ⟨rfl, upA_n hne, upA_n hne, rfl, rfl, rfl, rfl⟩)
    exact k s12 ⟨md, od, q, g1⟩ (c24.trans g2)
  rw [nd24.2.2.1, nI_eq (by omega) (by decide)]
  refine ⟨nd24.1, fun z => L104 ?_, fun z => ?_⟩
  · rintro ⟨p, hp1, hp2, hp3, hp4, hp5⟩
    -- a file has nothing below it
    have hp0 := mem_tL.mp hp1
    have hpk : p ≠ kk := fun e => by rw [e] at hp3; omega
    exact no_below hT hp1 hk z hpk hp4
  · have hkd : tD (sT S) kk = 1 := by omega
    refine c_depth t24 hT hd (c_height t24 hT hk hkd (fun m hm hm1 hm2 => ?_))
    have d7 := dep_7 hT (mem_tL.mp hd).1 (mem_tL.mp hd).2
    rw [li_1, nI_add, nI_add, show (6 : Int32) = nI 6 from rfl, nI_leI (by omega) (by decide)]
    refine ⟨fun u2 => L104 ?_, fun u2 => ?_⟩
    · rintro ⟨p, hp1, hp2, hp3, hp4, hp5⟩
      have := hm2 p hp1 hp3 hp4
      omega
    · have hc2 : ∃ q ∈ tL (sT S), 0 < q ∧ tD (sT S) q = 1 ∧ lies (sT S) q kk ∧ 6 + dep (sT S) kk < dep (sT S) q + dep (sT S) d + 1 := by
        rcases hm1 with e | ⟨p, hp1, hp2, hp3, hp4⟩
        · refine ⟨kk, hk, by omega, hkd, ?_, by omega⟩
          rw [lies_s hT (mem_tL.mp hk).1 (mem_tL.mp hk).2]
          exact Or.inl rfl
        · refine ⟨p, hp1, ?_, hp2, hp3, by omega⟩
          rcases Nat.eq_zero_or_pos p with e | e
          · exfalso
            rw [e, lies_s hT (by have := hT.1.1; omega) hT.2.1.1] at hp3
            rcases hp3 with e3 | e3
            · exact w e3.symm
            · exact e3.1 rfl
          · exact e
      simp only [ic_t hc2] at k
      exact k s24 ci24 c24
end
