/-! the class: compact, all of it -/
section
variable {S' : Prop} {W : Nat → Prop} {D n : Nat} {σ σ0 σ' τ υ : Hp} {x md od q q' la r r' m c c' N0 : Nat} {t t' : TT} {rf : Nat → Nat} {O F F0 F' : List FT} {S S2 : AS} {B St : Nat → Nat} {Df : Nat → Bool} {b : BS}
theorem WC_m (hb : CB D σ x) (hpw : tg_ σ (x + 1) = 2) (hx : x + 30 ≤ D ∧ lo_ σ < x) (hm1 : md = x + 10 ∨ md = x + 14) (hmd : MdA D σ md n (bB b) (bSt b) Df) (ht : TrA D σ q t rf c) {z : Nat} (h : WC σ x md (Pn t rf) z) : tg_ σ z ≠ 13 ∧ (tg_ σ z = 100 → lo_ σ < z ∧ z ≤ D) ∧ tg_ σ z ≠ 5 ∧ (tg_ σ z = 11 → z = x + 3) ∧ (tg_ σ z = 6 → Pn t rf z) := by
  obtain ⟨⟨b1, b2', b3, b4⟩, ⟨f, hpg⟩, R, ct, htb⟩ := hb
  obtain ⟨⟨m1, _⟩, ⟨m2, m3, m4⟩, _⟩ := id hmd
  rcases h with e | e | e | e | ⟨i, hi, e⟩
  · have : z = x + 1 ∨ z = x + 2 ∨ z = x + 3 ∨ z = x + 4 ∨ z = x + 5 := by omega
    have tz : (tg_ σ z = 2 ∨ tg_ σ z = 3 ∨ (tg_ σ z = 11 ∧ z = x + 3) ∨ tg_ σ z = 4 ∨ tg_ σ z = 100) := by
      rcases this with y | y | y | y | y
      · rw [y]; exact Or.inl hpw
      · rw [y]; exact Or.inr (Or.inl b1)
      · refine Or.inr (Or.inr (Or.inl ⟨by rw [y]; exact htb.1.1, y⟩))
      · rw [y]; exact Or.inr (Or.inr (Or.inr (Or.inl hpg.1)))
      · rw [y]; exact Or.inr (Or.inr (Or.inr (Or.inr hpg.2.2.1)))
    exact ⟨by omega, fun y => by omega, by omega, fun y => by omega, fun y => by omega⟩
  · rw [e, m2]
    exact ⟨by decide, fun y => by omega, by decide, fun y => absurd y (by decide), fun y => absurd y (by decide)⟩
  · rw [e, m3]
    exact ⟨by decide, fun y => absurd y (by decide), by decide, fun y => absurd y (by decide), fun y => absurd y (by decide)⟩
  · rcases e with e | ⟨e, e2⟩
    · rw [e, htb.1.1]
      exact ⟨by decide, fun y => absurd y (by decide), by decide, fun _ => rfl, fun y => absurd y (by decide)⟩
    · have t4 := htb.1.2.2.1
      rw [← e] at t4
      exact ⟨by omega, fun y => by omega, by omega, fun y => by omega, fun y => by omega⟩
  · have t6 := (ht.2.2.2 i hi).1
    rw [← e] at t6
    exact ⟨by omega, fun y => by omega, by omega, fun y => by omega, fun _ => ⟨i, hi, e⟩⟩
theorem c_compactE (h : CJ D σ x md od q S) (ok : AOK S) (lo : sLo S = false) {rf rf' : Nat → Nat} (hO : Old D σ x q N0 (sT S) rf c) (hT : T2 D σ q' N0 (tPre (sT S) (tL (sT S)).length) rf' c') (hm : MdA D σ od (sN S) (fun _ => 0) (fun _ => 0) (fun _ => false)) (h1 : 5244 ≤ bc_ σ) (h2 : 34500 ≤ bs_ σ) {post : Int32 → Hp → Prop}
    (k : ∀ σ', CI D σ' x (opCompact S).2 → Cf D x σ σ' → post (opCompact S).1 σ') : cpE post x q' σ := by
  have hTk := ok.2.1
  obtain ⟨hf, hz, hx, hb, hp, hmd, ⟨Bo, Sto, Dfo, hod⟩, _, hr⟩ := id h
  have hm' := hz.2.1
  have hzz := hz.1
  have hB : ∀ q, sB S q < 256 := hmd.med.2.2.1
  have ht := hO.1
  unfold opCompact at k
  rw [if_neg (by rw [lo]; decide)] at k
  unfold cpE
  rw [hx.2.2.2.2.2.1, ht.2.1]
  refine ⟨hT.1.1, fun s7 e7 => ?_⟩
  -- the copy is whole
  have kq : Kp False (fun z => z = q' ∨ WL σ (fR_ σ 4 0 q') z) σ s7 := by rw [e7]; exact Kp.sI' Kp.refl (Or.inl (Or.inl rfl))
  have f7 : WF D s7 := by rw [e7]; exact hf.sI (by decide)
  obtain ⟨j7, c7, O7⟩ := h.two hO hT kq f7
  have m7 := hT.med hf kq hm
  have hlen : (tL (sT S)).length ≠ 0 := by
    have h0 : 0 ∈ tL (sT S) := mem_tL.mpr ⟨by have := hTk.1.1; omega, hTk.2.1.1⟩
    have := List.length_pos_of_mem h0
    omega
  have Lp : tL (tPre (sT S) (tL (sT S)).length) = tL (sT S) := by rw [tL_pre (by omega) (Nat.le_refl _), List.take_length]
  have T7 : T2 D s7 q' N0 (sT S) rf' c' := by
    obtain ⟨u1, u2, u3, u4, u5, u6⟩ := hT
    have r7 : fR_ s7 = fR_ σ := by rw [e7]; rfl
    refine ⟨⟨by rw [e7]; exact u1.1, by rw [e7, afI_sI, u3_e], ?_, fun i hi => ?_⟩, u2, u3, by rw [r7]; exact u4, by rw [r7]; exact u5, fun i hi => u6 i (by rw [Lp]; exact hi)⟩
    · have := u1.2.2.1
      rw [Lp] at this
      rw [r7]
      obtain ⟨d1, d2, d3, d4, d5, d6, d7, d8, d9, d10⟩ := this
      rw [e7]
      exact ⟨d1, d2, d3, d4, d5, by rw [afI_sI, u3_c (by decide)]; exact d6, d7, d8, d9, d10⟩
    · have nd := u1.2.2.2 i (by rw [Lp]; exact hi)
      obtain ⟨d1, d2, d3, d4, d5, d6, d7, d8, d9, d10⟩ := nd
      have fe : ∀ k', fI_ s7 5 k' (rf' i) = fI_ σ 5 k' (rf' i) := fun k' => by rw [e7, afI_sI, u3_c (by decide)]
      exact ⟨by rw [e7]; exact d1, by rw [fe]; exact d2, by rw [fe]; exact d3, by rw [fe]; exact d4, by rw [fe]; exact d5, by rw [fe]; exact d6, by rw [fe]; exact d7, by rw [fe]; exact d8, by rw [e7]; exact d9.sI (by decide), by rw [e7]; exact d10.sI (by decide)⟩
  obtain ⟨hf7, hz7, hx7, hb7, hp7, hmd7, hod7, _, hr7⟩ := id j7
  rw [hx7.2.2.1, hx7.2.2.2.1, hx7.2.2.2.2.1]
  obtain ⟨b0, hb0⟩ : ∃ b0 : BS, b0 = (fun _ => 0, fun _ => 0, sLf S, sWr S, false) := ⟨_, rfl⟩
  have hpw : PwA s7 (x + 1) b0 := by
    refine hp7.ext ?_ ?_ ?_
    · rw [hb0]; rfl
    · rw [hb0]; rfl
    · rw [hb0]; show false = sLo S; rw [lo]
  have m7' : MdA D s7 od (sN S) (bB b0) (bSt b0) (fun _ => false) := by rw [hb0]; exact m7
  have bc7 : bc_ s7 = bc_ σ := by rw [e7]; rfl
  have bs7 : bs_ s7 = bs_ σ := by rw [e7]; rfl
  obtain ⟨mc, hmc⟩ : ∃ m, m = 5244 := ⟨_, rfl⟩
  obtain ⟨ms, hms⟩ : ∃ m, m = 34500 := ⟨_, rfl⟩
  have tz7 : TZ D x s7 q' (sT S) rf' := T7.tz
  refine ⟨hb7.1.1, mc, ms, by omega, by omega, ?_⟩
  refine c_bcommit (σ := bu_ s7 mc ms) (md := od) (od := md) (b := b0) (Df := fun _ => false) (Bo := sB S) (num := 1) f7 hz7.1 (by omega) (by omega) hb7 hpw (by rw [hb0]; rfl) m7' (fun _ => ⟨_, _, hmd7⟩) hB T7.1 tz7 hTk (by decide) (show 5244 ≤ mc by omega) (show 34500 ≤ ms by omega) (fun s14 t' b' cc f' R' ct' E' kp hc hs s15 e15 => ?_)
  have kp' : Kp True (WC s7 x od (Pn (sT S) rf')) s7 s14 := kp
  have hd : decide (od ≠ md) = true := decide_eq_true (by omega)
  rw [hd, hb0] at hc
  have hcp : cpA S = (cc, t', b') := hc
  rw [hcp] at k
  have wn := fun z (hz' : WC s7 x od (Pn (sT S) rf') z) => WC_n (b := b0) hb7 hpw.1 ⟨hz7.1.1, hz7.1.2.1⟩ (by omega) m7' T7.1 tz7 hz'
  have wm := fun z (hz' : WC s7 x od (Pn (sT S) rf') z) => WC_m (b := b0) hb7 hpw.1 ⟨hz7.1.1, hz7.1.2.1⟩ (by omega) m7' T7.1 hz'
  have cf : Cf D x σ s14 := c7.trans (kp'.cf (fun z y => (wn z y).2.2.1))
  obtain ⟨f1, _, g3, g4, g5, g6, _, g8, g9, g10, _, _⟩ := id E'
  have w0 : ¬ WC s7 x od (Pn (sT S) rf') 0 := fun y => (wn 0 y).1 rfl
  obtain ⟨_, _, Rt, ctt, htb⟩ := id hb7
  have hr14 : CR D s14 x md (sO S) := by
    refine hr7.ow hf7 kp' w0 (fun z a b y => ?_) (fun z a y => (wn z y).2.1 a) (fun z y a => ?_)
    · have := (wn z y).2.2.2.2.1; omega
    · have := (wn z y).2.2.2.2.2 a
      exact ⟨x + 3, htb.1.1, this.1, this.2, by omega⟩
  have hm14 : MdA D s14 md (sN S) (sB S) (sSt S) (sDf S) := hmd7.kp hf7 kp' (fun y => by have := (wn _ y).2.2.2.2.1; omega) (fun y => by have := (wn _ y).2.2.2.2.1; omega) (fun y => by have := (wn _ y).2.2.2.2.1; omega) (fun y => by have := (wn _ y).2.2.2.2.1; omega)
  have hx14 : CX s14 x md od q (sLa S) := hx7.kp hf7 kp' (fun y => (wn _ y).2.2.2.1 rfl)
  have hz14 : CZ D s14 x md od (sN S) := hz7.kp hf7 kp'
  have hb14 : CB D s14 x := ⟨⟨g3.1, g3.2.2.2.1, g3.2.2.2.2.2.1, g3.2.2.2.2.2.2⟩, ⟨f', g5⟩, R', ct', g10⟩
  refine ⟨fun y => ?_, fun y => ?_⟩
  · have cc0 : cc = 0 := by
      rcases Nat.eq_zero_or_pos cc with z | z
      · exact z
      · exfalso
        rw [if_neg (by omega)] at y
        unfold cod at y
        split at y <;> exact absurd y (by decide)
    simp only [if_pos cc0] at k
    have x15 : CX s15 x md od q (sLa S) := by rw [e15]; exact hx14
    refine ⟨x15.1, fun y18 h18 s19 e19 s20 e20 s21 e21 s22 e22 => ?_⟩
    rw [x15.2.2.2.1] at h18
    rw [x15.2.2.2.2.1] at e19
    subst h18
    have kx : Kp False (fun z => z = x) s15 s22 := by
      rw [e22, e21, e20, e19]
      exact Kp.sI' (Kp.sR' (Kp.sR' (Kp.sR' (W := fun z => z = x) Kp.refl (Or.inl rfl)) (Or.inl rfl)) (Or.inl rfl)) (Or.inl rfl)
    have f15 : WF D s15 := by rw [e15]; exact f1
    have f22 : WF D s22 := by rw [e22, e21, e20, e19]; exact (((f15.sR (by decide)).sR (by decide)).sR (by decide)).sI (by decide)
    have r22 : ∀ c2 k2 r2, fR_ s22 c2 k2 r2 = u3_ (u3_ (u3_ (fR_ s15) 0 2 x od) 0 3 x y18) 0 4 x q' c2 k2 r2 := fun c2 k2 r2 => by
      rw [e22, afR_sI, e21, afR_sR, e20, afR_sR, e19, afR_sR]
    have t22 : tg_ s22 = tg_ s15 := by rw [e22, e21, e20, e19]; rfl
    have x22 : CX s22 x od y18 q' 1 := by
      obtain ⟨a1, a2, a3, a4, a5, a6, a7, a8, a9, a10, a11⟩ := x15
      refine ⟨by rw [t22]; exact a1, ?_, ?_, ?_, ?_, ?_, ?_, ?_, ?_, ?_, by rw [e22, afI_sI, u3_e]; rfl⟩
      · rw [r22, u3_k (by decide), u3_k (by decide), u3_k (by decide)]; exact a2
      · rw [r22, u3_k (by decide), u3_k (by decide), u3_k (by decide)]; exact a3
      · rw [r22, u3_k (by decide), u3_k (by decide), u3_e]
      · rw [r22, u3_k (by decide), u3_e]
      · rw [r22, u3_e]
      · rw [r22, u3_k (by decide), u3_k (by decide), u3_k (by decide)]; exact a7
      · rw [r22, u3_k (by decide), u3_k (by decide), u3_k (by decide)]; exact a8
      · rw [r22, u3_k (by decide), u3_k (by decide), u3_k (by decide)]; exact a9
      · rw [r22, u3_k (by decide), u3_k (by decide), u3_k (by decide)]; exact a10
    have hs1 : Sx D s15 (fun z => z = x) := fun z hz' => by
      subst hz'
      rw [x15.1]
      exact ⟨by omega, by decide, by decide, by decide, by decide, by decide, by decide, fun w => absurd w (by decide)⟩
    have hz15 : CZ D s15 x y18 od (sN S) := by rw [e15]; exact hz14
    have hb15 : CB D s15 x := by rw [e15]; exact hb14
    have hm15 : MdA D s15 y18 (sN S) (sB S) (sSt S) (sDf S) := by rw [e15]; exact hm14
    have ho15 : MdA D s15 od (sN S) (bB b') (bSt b') (fun _ => false) := by rw [e15]; exact g6
    have hp15 : PwA s15 (x + 1) b' := by rw [e15]; exact g4
    have ht15 : CT D s15 x q' t' := by rw [e15]; exact ⟨rf', c', g8, g9⟩
    have hr15 : CR D s15 x y18 (sO S) := by rw [e15]; exact hr14
    have z22 := hz15.kp f15 kx
    have K22 : CK D s22 x od y18 q' ((sN S, bB b', bSt b', fun _ => false), (bLo b', bL b', bWr b'), t', 1, []) := by
      refine ⟨f22, ⟨z22.1, by have := z22.2.1; omega, z22.2.2⟩, x22, hb15.sx f15 kx hs1 (fun z a b y => by omega), (hp15.ext rfl rfl rfl : PwA s15 (x + 1) _).kp f15 kx (by omega), ho15.kp f15 kx (by omega) (by omega) (by omega) (by omega), ⟨_, _, _, hm15.kp f15 kx (by omega) (by omega) (by omega) (by omega)⟩, ht15.sx f15 kx hs1⟩
    have hr22 : CR D s22 x y18 (sO S) := hr15.sx f15 kx hs1 (fun z a b y => by omega)
    obtain ⟨⟨c18, h18⟩, _⟩ := id hr22
    rw [x22.2.2.2.2.2.2.1, x22.2.2.2.1]
    refine ⟨h18.1.1, c_begin f22 h18 K22.2.2.2.2.2.1 (by omega) K22.2.1.1.2.2 (fun s24 H24 _ _ s25 e25 => ?_)⟩
    have H25 : BR D s22 s25 (x + 18) od (sN S) (bB b') (bSt b') (fun _ => false) [] c18 := by rw [e25]; exact H24.bu
    obtain ⟨K25, c25⟩ := K22.rd (Or.inl rfl) h18 H25.2 H25.1.1
    have cr25 := hr22.rd18 f22 h18 H25.2 H25.1.2.1
    refine k s25 ⟨od, y18, q', K25.cj cr25⟩ ?_
    have cf15 : Cf D x σ s15 := by rw [e15]; exact cf.bu
    exact (cf15.trans (kx.cf (fun z e => by omega))).trans c25
  · have cc0 : cc ≠ 0 := fun z => y (by rw [if_pos z]; rfl)
    simp only [if_neg cc0] at k ⊢
    refine k s15 ⟨md, od, q, ?_⟩ (by rw [e15]; exact cf.bu)
    have ct : CT D s14 x q (sT S) := by
      obtain ⟨o1, o2, o3, o4, o5⟩ := id O7
      have hws : WS D s7 (WC s7 x od (Pn (sT S) rf')) := fun z y => ⟨(wm z y).1, (wm z y).2.1, (wn z y).1⟩
      have hdz := o2.2.1
      unfold dz at hdz
      have w1 : ¬ WC s7 x od (Pn (sT S) rf') q := fun y => (wm q y).2.2.1 o1.1
      have w2 : ¬ WC s7 x od (Pn (sT S) rf') (fR_ s7 4 0 q) := fun y => by
        have := (wm _ y).2.2.2.1 o1.2.2.1.1
        omega
      have w3 : ¬ WC s7 x od (Pn (sT S) rf') (fR_ s7 10 1 (fR_ s7 4 0 q)) := fun y => by
        obtain ⟨e1, e2⟩ := (wn _ y).2.2.2.2.2 o1.2.2.1.2.2.1
        have := f7.2.2.2.2.2.2.2 (x + 3) (fR_ s7 4 0 q) htb.1.1 o1.2.2.1.1 (by omega) e1
        rw [e1] at this
        omega
      have w4 : ∀ i ∈ tL (sT S), ¬ WC s7 x od (Pn (sT S) rf') (rf i) := fun i hi y => by
        obtain ⟨i', hi', e⟩ := (wm _ y).2.2.2.2 (o1.2.2.2 i hi).1
        have := o5 i hi
        have := T7.2.2.2.2.2 i' hi'
        omega
      exact ⟨rf, c, o1.kp f7 kp' hws w1 w2 w3 w4, o2.kp f7 o1 kp' w1 w2⟩
    rw [e15]
    exact ⟨f1, hz14, hx14, hb14, g4.ext rfl rfl rfl, hm14, ⟨_, _, _, g6⟩, ct, hr14⟩
theorem C_compact (h : CI D σ x S) (ok : AOK S) (hW : tW (sT S) 0 = false) (h1 : 5426 ≤ bc_ σ) (h2 : 36882 ≤ bs_ σ) {post : Int32 → Hp → Prop} (k : ∀ σ', CI D σ' x (opCompact S).2 → Cf D x σ σ' → post (opCompact S).1 σ') : wX1_compact x σ post := by
  obtain ⟨md, od, q, hj⟩ := id h
  obtain ⟨hf, hz, hx, hb, hp, hmd, ⟨Bo, Sto, Dfo, hod⟩, ht, hr⟩ := id hj
  unfold wX1_compact
  rw [hx.2.1, hx.2.2.2.2.1, hp.2.2.2]
  have e0 : b2 (bLo (sBS S)) = 0 ↔ sLo S = false := b2_0
  rw [e0]
  refine ⟨hx.1, hp.1, fun lo => ⟨hod.tag, c_wipe hod (fun s59 a59 m59 s60 e60 => ?_)⟩, fun lo => ?_⟩
  rotate_left
  · have : sLo S = true := by cases hh : sLo S with | true => rfl | false => exact absurd hh lo
    unfold opCompact at k
    rw [if_pos this] at k; exact k σ h Cf.refl
  obtain ⟨j59, c59⟩ := hj.wipe a59 m59
  have j60 : CJ D s60 x md od q S := by rw [e60]; exact j59.bu
  have c60 : Cf D x σ s60 := by rw [e60]; exact c59.bu
  have m60 : MdA D s60 od (sN S) (fun _ => 0) (fun _ => 0) (fun _ => false) := by rw [e60]; exact m59
  have bc60 : bc_ s60 = bc_ σ := by rw [e60]; rfl
  have bs60 : bs_ s60 = bs_ σ := by rw [e60]; rfl
  obtain ⟨rf, c, ht60, htz60⟩ := j60.2.2.2.2.2.2.2.1
  have f60 := j60.1
  refine c_newTree j60 (pre_1 ok.2.1 hW) (by omega) (by omega) (fun s70 j70 c70 _ _ b1 b2' k70 hT2 y71 h71 => ?_)
  subst h71
  obtain ⟨rf0, t1, t2, t3, t4, t5, t6⟩ := hT2
  have N0D : D < nx_ s60 := j60.2.1.1.2.2
  have O70 : Old D s70 x q (nx_ s60) (sT S) rf c := by
    refine Old.kp (σ := s60) ⟨ht60, htz60, f60.lt ht60.1, f60.lt ht60.2.2.1.1, fun i hi => f60.lt (ht60.2.2.2 i hi).1⟩ f60 k70 WS0 (fun z => z) (fun z => z) (fun z => z) (fun _ _ z => z)
  have T70 : T2 D s70 (nx_ s60) (nx_ s60) (tPre (sT S) 1) rf0 10 := by
    refine ⟨t1, N0D, Nat.le_refl _, t5, t6, fun i hi => ?_⟩
    rw [(pre_1 ok.2.1 hW).1] at hi
    simp at hi
    rw [hi]; exact t4
  have m70 := m60.kp f60 k70 (fun z => z) (fun z => z) (fun z => z) (fun z => z)
  refine c_copy j70 ok O70 T70 (by omega) (by omega) (fun s rf' c2 js cs Os Ts ms b3 b4 => ?_)
  exact c_compactE js ok lo Os Ts (ms _ _ _ _ _ m70) (by omega) (by omega) (fun s' u1 u2 => k s' u1 (((c60.trans c70).trans cs).trans u2))
end
