/-! the class: what was read becomes the tree -/
theorem tL_of (F : List FT) : tL (treeOf F) = List.range F.length := by
  show (List.range F.length).filter (fun k => decide (k < F.length)) = _
  rw [List.filter_eq_self]
  intro a ha
  simpa using List.mem_range.mp ha
theorem gF_take {F : List FT} {i k : Nat} (h : i < k) : gF (F.take k) i = gF F i := by
  unfold gF
  simp [List.getD_eq_getElem?_getD, List.getElem?_take, h]
section
variable {S' : Prop} {W : Nat → Prop} {D n : Nat} {σ σ0 σ' τ υ : Hp} {x md od q la r r' m c c' : Nat} {t t' : TT} {rf : Nat → Nat} {O F F0 F' : List FT} {S S2 : AS} {B St : Nat → Nat} {Df : Nat → Bool}
theorem c_ninit (hf : WF D σ) (hr : tg_ σ r = 6) (h0 : ∀ k, fI_ σ 5 k r = 0) {d s : Nat} {l : List Nat} (hd : d ≤ 1) (hD : D < nx_ σ) (hs : Str D σ s l) (hl : l.length ≤ 8) (num par : Int32) (h1 : 4 ≤ bc_ σ) (h2 : 35 ≤ bs_ σ) {post : Hp → Prop}
    (k : ∀ σ', WF D σ' → Kp False (fun z => z = r) σ σ' → tg_ σ' r = 6 → fI_ σ' 5 0 r = num → fI_ σ' 5 1 r = nI d → fI_ σ' 5 2 r = par → (∀ k, 3 ≤ k → fI_ σ' 5 k r = 0) → Str D σ' (fR_ σ' 5 6 r) l → Str D σ' (fR_ σ' 5 7 r) (idb l d) → post σ') : wX6_init r num par (nI d) s σ post := by
  have lr := hf.lt hr
  have r0 : r ≠ 0 := fun z => by rw [z, hf.2.2.1] at hr; cases hr
  unfold wX6_init
  refine ⟨hr, fun s2 e2 s3 e3 => ⟨?_, fun s5 e5 => ⟨4, 35, by rw [e5, e3, e2]; exact h1, by rw [e5, e3, e2]; exact h2, ?_⟩⟩⟩
  · have : d = 0 ∨ d = 1 := by omega
    rcases this with z | z <;> rw [z] <;> exact ⟨rfl, rfl⟩
  have k5 : Kp False (fun z => z = r) σ s5 := by
    rw [e5, e3, e2]
    (repeat' first | with_reducible exact Kp.refl | with_reducible assumption | with_reducible apply Kp.sI' | with_reducible apply Kp.sL' | with_reducible apply Kp.sR' | with_reducible apply Kp.wI' | with_reducible apply Kp.wR' | with_reducible apply Kp.cI' | with_reducible apply Kp.cR' | with_reducible apply Kp.mO' | with_reducible apply Kp.mA' | with_reducible apply Kp.bu' | exact Or.inl rfl | exact Or.inr (Nat.le_refl _) | exact Or.inr (by omega) | exact Or.inr (Or.inl (by omega)))
  have f5 : WF D s5 := by rw [e5, e3, e2]; exact ((hf.sI (by decide)).sI (by decide)).sI (by decide)
  have i5 : ∀ k, fI_ s5 5 k r = if k = 1 then nI d else if k = 2 then par else if k = 0 then num else 0 := by
    intro k
    rw [e5, afI_sI]
    by_cases z : k = 1
    · rw [z, u3_e, if_pos rfl]
    · rw [u3_k z, if_neg z, e3, afI_sI]
      by_cases z2 : k = 2
      · rw [z2, u3_e, if_pos rfl]
      · rw [u3_k z2, if_neg z2, e2, afI_sI]
        by_cases z0 : k = 0
        · rw [z0, u3_e, if_pos rfl]
        · rw [u3_k z0, if_neg z0, h0]
  have hw : WS D σ (fun z => z = r) := fun z hz => by
    subst hz
    rw [hr]
    exact ⟨by decide, fun y => absurd y (by decide), r0⟩
  have t5 : tg_ s5 r = 6 := by rw [k5.t lr]; exact hr
  have st5 := hs.kp hf k5 hw
  refine c_call (σ := bu_ s5 4 35) f5 (Or.inr (by show D < nx_ s5; have := k5.2.1; omega)) t5 (d := d) (by show fI_ s5 5 1 _ = _; rw [i5]; rfl) hd st5 hl (Nat.le_refl _) (Nat.le_refl _) (fun s6 f6 k6 r6 g6 i6 s7 e7 => ?_)
  have k6' : Kp False (fun z => z = r) s5 s6 := k6
  have i7 : ∀ k, fI_ s7 5 k r = if k = 1 then nI d else if k = 2 then par else if k = 0 then num else 0 := fun k => by
    rw [e7]; exact (i6 5 k).trans (i5 k)
  have hw5 : WS D s5 (fun z => z = r) := fun z hz => by
    subst hz
    rw [t5]
    exact ⟨by decide, fun y => absurd y (by decide), r0⟩
  refine k s7 (by rw [e7]; exact f6) (by rw [e7]; exact k5.trans k6' (fun _ _ z => z)) (by rw [e7]; show tg_ s6 r = 6; rw [k6'.t (f5.lt t5)]; exact t5) (by rw [i7]; rfl) (by rw [i7]; rfl) (by rw [i7]; rfl) (fun k hk => by rw [i7, if_neg (by omega), if_neg (by omega), if_neg (by omega)]) ?_ (by rw [e7]; exact g6)
  have : fR_ s7 5 6 r = s := by rw [e7]; exact r6
  rw [this, e7]
  exact st5.kp f5 k6' hw5
/-- the tree is another -/
theorem CJ.setT (h : CJ D σ x md od q S) {q' : Nat} (e : τ = sR_ σ 0 4 x q') (hT : CT D σ x q' t') : CJ D τ x md od q' (wT S t') ∧ Cf D x σ τ := by
  obtain ⟨hf, hz, hx, hb, hp, hmd, ⟨Bo, Sto, Dfo, hod⟩, ht, hr⟩ := h
  have hm' := hz.2.1
  have hzz := hz.1
  have k : Kp False (fun z => z = x) σ τ := by rw [e]; exact Kp.sR' Kp.refl (Or.inl rfl)
  have hs : Sx D σ (fun z => z = x) := fun z hz' => by
    subst hz'
    rw [hx.1]
    exact ⟨by omega, by decide, by decide, by decide, by decide, by decide, by decide, fun w => absurd w (by decide)⟩
  refine ⟨⟨by rw [e]; exact hf.sR (by decide), hz.kp hf k, ?_, hb.sx hf k hs (fun z a b y => by omega), hp.kp hf k (by omega), hmd.kp hf k (by omega) (by omega) (by omega) (by omega), ⟨Bo, Sto, Dfo, hod.kp hf k (by omega) (by omega) (by omega) (by omega)⟩, hT.sx hf k hs, hr.sx hf k hs (fun z a b y => by omega)⟩, k.cf (fun z y => by omega)⟩
  obtain ⟨a1, a2, a3, a4, a5, a6, a7, a8, a9, a10, a11⟩ := hx
  rw [e]
  exact ⟨a1, by rw [afR_sR, u3_k (by decide)]; exact a2, by rw [afR_sR, u3_k (by decide)]; exact a3, by rw [afR_sR, u3_k (by decide)]; exact a4, by rw [afR_sR, u3_k (by decide)]; exact a5, by rw [afR_sR, u3_e], by rw [afR_sR, u3_k (by decide)]; exact a7, by rw [afR_sR, u3_k (by decide)]; exact a8, by rw [afR_sR, u3_k (by decide)]; exact a9, by rw [afR_sR, u3_k (by decide)]; exact a10, a11⟩
/-- a tree of its root alone -/
theorem c_newTree (h : CJ D σ x md od q S) (hr : isRootT t) (h1 : 8 ≤ bc_ σ) (h2 : 62 ≤ bs_ σ) {P : Hp → Prop}
    (k : ∀ σ', CJ D σ' x md od q S → Cf D x σ σ' → (∀ r m F c, x + 18 ≤ r → r ≤ x + 26 → RdS D σ r m F c → RdS D σ' r m F c) → CT D σ' x (nx_ σ) t → bc_ σ' = bc_ σ - 8 → bs_ σ' = bs_ σ - 62 → Kp False (fun _ => False) σ σ' → (∃ rf, TrA D σ' (nx_ σ) t rf 10 ∧ TZ D x σ' (nx_ σ) t rf ∧ rf 0 ≠ 0 ∧ nx_ σ ≤ rf 0 ∧ nx_ σ ≤ fR_ σ' 4 0 (nx_ σ) ∧ nx_ σ ≤ fR_ σ' 10 1 (fR_ σ' 4 0 (nx_ σ))) → P σ') :
    1 ≤ bc_ σ ∧ (2 ≤ bs_ σ ∧ (∀ σ45, σ45 = mO_ σ 4 2 → (tg_ σ45 (nx_ σ) = 5 ∧ (∃ mc47 ms48 : Nat, (mc47 ≤ bc_ σ45 ∧ (ms48 ≤ bs_ σ45 ∧ (wX5_init (nx_ σ) (bu_ σ45 mc47 ms48) (fun σ51 => (∀ σ52, σ52 = bu_ σ51 (bc_ σ45 - mc47) (bs_ σ45 - ms48) → P σ52))))))))) := by
  have hf := h.1
  have hD := h.2.1.1.2.2
  have hzz := h.2.1.1
  refine ⟨by omega, by omega, fun s45 e45 => ?_⟩
  have k45 : Kp False (fun _ => False) σ s45 := by rw [e45]; exact Kp.mO' Kp.refl
  have f45 : WF D s45 := by rw [e45]; exact hf.mO
  have t45 : tg_ s45 (nx_ σ) = 5 := by rw [e45, atg_mO, u1_e]
  have b45 : bc_ s45 = bc_ σ - 1 ∧ bs_ s45 = bs_ σ - 2 := by rw [e45]; exact ⟨rfl, rfl⟩
  have n45 : nx_ s45 = nx_ σ + 1 := by rw [e45]; rfl
  refine ⟨t45, 7, 60, by omega, by omega, c_tinit (σ := bu_ s45 7 60) f45 t45 (by show fI_ s45 4 1 _ = 0; rw [e45, afI_mO, z3_e]) hr (Nat.le_refl _) (Nat.le_refl _) (fun s51 rf f51 k51 tr51 v1 v2 v3 s52 e52 => ?_)⟩
  have k51' : Kp False (fun p => p = nx_ σ) s45 s51 := k51
  have kk : Kp False (fun _ => False) σ s52 := by rw [e52]; exact k45.trans k51' (fun z hz e => by omega)
  have f52 : WF D s52 := by rw [e52]; exact f51
  obtain ⟨j52, c52⟩ := h.made kk f52
  have v1' : nx_ s45 ≤ fR_ s51 4 0 (nx_ σ) := v1
  have v2' : nx_ s45 ≤ fR_ s51 10 1 (fR_ s51 4 0 (nx_ σ)) := v2
  have v3' : nx_ s45 ≤ rf 0 := v3
  have tr52 : TrA D s52 (nx_ σ) t rf 10 := by rw [e52]; exact tr51
  have tz52 : TZ D x s52 (nx_ σ) t rf := by
    rw [e52]
    refine ⟨Or.inr (by omega), Or.inr (by show D < fR_ s51 4 0 (nx_ σ); omega), Or.inr (by show D < fR_ s51 10 1 (fR_ s51 4 0 (nx_ σ)); omega), fun i hi => ?_⟩
    rw [hr.1] at hi
    simp at hi
    rw [hi]; exact Or.inr (by omega)
  refine k s52 j52 c52 (fun r m F c a b hS => hS.ow hf kk (fun z => z) (fun _ _ _ z => z) (fun _ _ z => z) (fun _ z => z.elim)) ⟨rf, 10, tr52, tz52⟩ (by rw [e52]; show bc_ s45 - 7 = _; omega) (by rw [e52]; show bs_ s45 - 60 = _; omega) kk ⟨rf, tr52, tz52, by omega, by omega, ?_, ?_⟩
  · rw [e52]; show nx_ σ ≤ fR_ s51 4 0 (nx_ σ); omega
  · rw [e52]; show nx_ σ ≤ fR_ s51 10 1 (fR_ s51 4 0 (nx_ σ)); omega
theorem root_of (hF : FOK n F) : isRootT (treeOf (F.take 1)) := by
  have h1 := hF.1.1
  obtain ⟨r1, r2, r3, r4⟩ := hF.2.2.1
  have hl : (F.take 1).length = 1 := by rw [List.length_take]; omega
  have g0 : gF (F.take 1) 0 = gF F 0 := gF_take (by decide)
  refine ⟨by rw [tL_of, hl]; rfl, hl, ?_, ?_, ?_, ?_, ?_, ?_, ?_⟩
  · show fd_ (gF (F.take 1) 0) = 1; rw [g0]; exact r1
  · show fa_ (gF (F.take 1) 0) = _; rw [g0]; exact r2
  · show fn_ (gF (F.take 1) 0) = _; rw [g0]; exact r3
  · show (if fd_ (gF (F.take 1) 0) = 1 then 0 else _) = 0; rw [g0, if_pos r1]
  · show (if fd_ (gF (F.take 1) 0) = 1 then 0 else _) = 0; rw [g0, if_pos r1]
  · show (if fd_ (gF (F.take 1) 0) = 1 then 0 else _) = 0; rw [g0, if_pos r1]
  · show decide (fd_ (gF (F.take 1) 0) ≠ 1) = false; rw [g0]; simp [r1]
theorem root_0 : isRootT (treeOf [rootF]) := ⟨by rw [tL_of]; rfl, rfl, rfl, rfl, rfl, rfl, rfl, rfl, by show decide (fd_ rootF ≠ 1) = false; decide⟩
theorem c_take (h : CJ D σ x md od q S) {x1 : Nat} (hx1 : (x1 = 0 ∧ F = [rootF]) ∨ (x + 18 ≤ x1 ∧ x1 ≤ x + 26 ∧ (∃ m c, RdS D σ x1 m F c) ∧ FOK n F)) (h1 : 298 ≤ bc_ σ) (h2 : 3310 ≤ bs_ σ) {post : Hp → Prop} (k : ∀ σ' q', CJ D σ' x md od q' (wT S (treeOf F)) → Cf D x σ σ' → post σ') : wX1_take x x1 σ post := by
  have hD := h.2.1.1.2.2
  have hzz := h.2.1.1
  unfold wX1_take
  have hroot : isRootT (treeOf (F.take 1)) := by
    rcases hx1 with ⟨_, e⟩ | ⟨_, _, _, e⟩
    · rw [e]; exact root_0
    · exact root_of e
  refine c_newTree h hroot (by omega) (by omega) (fun s52 j52 c52 r52 t52 b1 b2' _ _ => ⟨j52.2.2.1.1, fun s54 e54 => ?_⟩)
  obtain ⟨j54, c54⟩ := j52.setT e54 t52
  have bc54 : bc_ s54 = bc_ σ - 8 := by rw [e54]; exact b1
  have bs54 : bs_ s54 = bs_ σ - 62 := by rw [e54]; exact b2'
  unfold wX1_take_L13
  rcases hx1 with ⟨e0, eF⟩ | ⟨xa, xb, ⟨m, c, hS⟩, hF⟩
  · subst e0
    refine lpG2 (B := fun R y s => wX1_take_B13 post R x 0 y s) (fun j y s => s = s54) 0 rfl ?_
    rintro j y s R rfl hR
    unfold wX1_take_B13
    refine ⟨fun _ => k s (nx_ σ) ?_ (c52.trans c54), fun w => absurd rfl w⟩
    rw [eF] at j54 ⊢
    exact j54
  · have hS52 := r52 x1 m F c xa xb hS
    have hS54 : RdS D s54 x1 m F c := by
      have kp : Kp False (fun z => z = x) s52 s54 := by rw [e54]; exact Kp.sR' Kp.refl (Or.inl rfl)
      have tx := j52.2.2.1.1
      refine hS52.ow j52.1 kp (by omega) (fun z a b => by omega) (fun z t y => by rw [y, tx] at t; cases t) (fun z y t => by rw [y, tx] at t; cases t)
    have hl30 := hF.1.2
    have hl1 := hF.1.1
    refine lpG2 (B := fun R y s => wX1_take_B13 post R x x1 y s) (fun j y s => ∃ i, i + j = F.length ∧ 1 ≤ i ∧ y = nI i ∧ CJ D s x md od (nx_ σ) (wT S (treeOf (F.take i))) ∧ Cf D x σ s ∧ RdS D s x1 m F c ∧ bc_ s + 10 * i = bc_ σ + 2 ∧ bs_ s + 112 * i = bs_ σ + 50) (F.length - 1) ⟨1, by omega, Nat.le_refl _, rfl, j54, c52.trans c54, hS54, by omega, by omega⟩ ?_
    rintro j y s R ⟨i, g1, g2, rfl, g4, g5, g6, g7, g8⟩ hR
    have hl := g6.2.2.2.1
    have hc := g6.1
    have fs := g4.1
    have Ds := g4.2.1.1.2.2
    have x0 : x1 ≠ 0 := by omega
    unfold wX1_take_B13
    refine ⟨fun w => absurd w x0, fun _ => ⟨hc.1, ?_⟩⟩
    rw [hc.2.1]
    refine ⟨hl.1, l_size hl ?_⟩
    rw [rfs_len, nI_leI (by omega) (by omega)]
    refine ⟨fun z => k s (nx_ σ) ?_ g5, fun z => l_get hl (by rw [rfs_len]; omega) (fun tg => ?_)⟩
    · rw [List.take_of_length_le (by omega)] at g4; exact g4
    rw [rfs_get (by omega)] at tg ⊢
    obtain ⟨p, hpe⟩ : ∃ p, p = aR_ s (x1 + 2) i := ⟨_, rfl⟩
    have fo := g6.2.2.2.2.2.1 i (by omega)
    rw [← hpe] at tg fo ⊢
    have lp := fs.lt tg
    have ho := (hF.2.1 i (by omega)).1
    obtain ⟨nm, fa1, fa2, fa3, fa4⟩ := hF.2.2.2 i (by omega) (by omega)
    refine ⟨Or.inr tg, by omega, by omega, fun s19 e19 => ?_⟩
    have k19 : Kp False (fun _ => False) s s19 := by rw [e19]; exact Kp.mO' Kp.refl
    have f19 : WF D s19 := by rw [e19]; exact fs.mO
    have fo19 : FoA s19 p (gF F i) := fo.kp fs k19 (fun z => z)
    have n19 : nx_ s19 = nx_ s + 1 := by rw [e19]; rfl
    have b19 : bc_ s19 = bc_ s - 1 ∧ bs_ s19 = bs_ s - 12 := by rw [e19]; exact ⟨rfl, rfl⟩
    rw [fo19.2.2.2.2.2.2, fo19.2.1, fo19.2.2.2.2.2.1]
    refine ⟨fo19.1, 4, 32, by omega, by omega, c_nameOf (σ := bu_ s19 4 32) f19 (show D < nx_ s19 by omega) (a := wd (fn_ (gF F i))) (Nat.le_refl _) (Nat.le_refl _) (fun s25 s26 hN s27 e27 => ?_)⟩
    rw [told_wd nm] at hN
    have k27 : Kp False (fun _ => False) s19 s27 := by rw [e27]; exact hN.2.1
    have f27 : WF D s27 := by rw [e27]; exact hN.1
    have st27 : Str D s27 s25 (fn_ (gF F i)) := by rw [e27]; exact hN.2.2
    have l19 : nx_ s < nx_ s19 := by omega
    have t27 : tg_ s27 (nx_ s) = 6 := by rw [k27.t l19, e19, atg_mO, u1_e]
    have i27 : ∀ k', fI_ s27 5 k' (nx_ s) = 0 := fun k' => by rw [(k27.2.2.2 _ l19 (fun z => z)).1 5 k' (fun z => z.elim), e19, afI_mO, z3_e]
    have b27 : bc_ s27 = bc_ s - 5 ∧ bs_ s27 = bs_ s - 44 := by rw [e27]; exact ⟨by show bc_ s19 - 4 = _; omega, by show bs_ s19 - 32 = _; omega⟩
    have n27 := k27.2.1
    refine ⟨t27, 4, 35, by omega, by omega, c_ninit (σ := bu_ s27 4 35) f27 t27 i27 ho.1 (show D < nx_ s27 by omega) st27 ho.2.2.2.2.2.1 (nI i) (nI (fa_ (gF F i))) (Nat.le_refl _) (Nat.le_refl _) (fun s33 f33 k33 t33 q0 q1 q2 q3 q6 q7 s34 e34 y35 h35 => ?_)⟩
    subst h35
    have k33' : Kp False (fun z => z = nx_ s) s27 s33 := k33
    have k34 : Kp False (fun _ => False) s s34 := by
      rw [e34]
      exact (k19.trans k27 (fun _ _ z => z)).trans k33' (fun z hz e => by omega)
    have f34 : WF D s34 := by rw [e34]; exact f33
    have fo34 : FoA s34 p (gF F i) := fo.kp fs k34 (fun z => z)
    have b34 : bc_ s34 = bc_ s - 9 ∧ bs_ s34 = bs_ s - 79 := by rw [e34]; exact ⟨by show bc_ s27 - 4 = _; omega, by show bs_ s27 - 35 = _; omega⟩
    have lt : (F.take (i + 1)).length = i + 1 := by rw [List.length_take]; omega
    have lt0 : (F.take i).length = i := by rw [List.length_take]; omega
    have gi : gF (F.take (i + 1)) i = gF F i := gF_take (by omega)
    -- it joins
    have L102 : ∀ s5 : Hp, Kp False (fun _ => False) s s5 → WF D s5 → NdA D s5 (nx_ s) (treeOf (F.take (i + 1))) i → bc_ s5 = bc_ s - 9 → bs_ s5 = bs_ s - 79 → wX1_take_L102 post R x x1 (nI i) (nx_ s) s5 := by
      intro s5 k5 f5 nd5 b5 b5'
      obtain ⟨j5, c5⟩ := g4.made k5 f5
      have r5 : RdS D s5 x1 m F c := g6.ow fs k5 (fun z => z) (fun _ _ _ z => z) (fun _ _ z => z) (fun _ z => z.elim)
      obtain ⟨rf5, c5', ht5, _⟩ := j5.2.2.2.2.2.2.2.1
      unfold wX1_take_L102
      rw [j5.2.2.1.2.2.2.2.2.1]
      refine ⟨j5.2.2.1.1, ht5.1, 1, 33, by omega, by omega, c_joinG j5 (y := nx_ s) (k' := i) (t' := treeOf (F.take (i + 1))) (by omega) nd5 ?_ lt (fun a ha => ?_) ?_ (fun s7 u1 u2 u3 _ _ _ s8 e8 y9 h9 => ?_)⟩
      · show tL (treeOf (F.take (i + 1))) = tL (treeOf (F.take i)) ++ [i]
        rw [tL_of, tL_of, lt, lt0, List.range_succ]
      · have ha' : a ∈ tL (treeOf (F.take i)) := ha
        rw [tL_of, lt0] at ha'
        have hai := List.mem_range.mp ha'
        have ga : gF (F.take (i + 1)) a = gF (F.take i) a := by rw [gF_take (by omega), gF_take hai]
        show sameN (treeOf (F.take i)) (treeOf (F.take (i + 1))) a
        unfold sameN tD tP tM tS tE tX tW treeOf
        simp only [ga]
        refine ⟨?_, ?_, ?_, ?_, ?_, ?_, ?_⟩ <;> trivial
      · show (tL (treeOf (F.take i))).length < 33
        rw [tL_of, lt0, List.length_range]; omega
      · exact hR (j - 1) y9 s8 (by omega) ⟨i + 1, by omega, by omega, by rw [h9, li_1, nI_add], by rw [e8]; exact u1.bu, (g5.trans c5).trans (by rw [e8]; exact u2.bu), by rw [e8]; exact u3 x1 m F c xa xb r5, by rw [e8]; show bc_ s5 - 1 + _ = _; omega, by rw [e8]; show bs_ s5 - 33 + _ = _; omega⟩
    have w1 : fI_ s34 5 0 (nx_ s) = nI i := by rw [e34]; exact q0
    have w2 : fI_ s34 5 1 (nx_ s) = nI (fd_ (gF F i)) := by rw [e34]; exact q1
    have w3 : fI_ s34 5 2 (nx_ s) = nI (fa_ (gF F i)) := by rw [e34]; exact q2
    have w4 : ∀ k', 3 ≤ k' → fI_ s34 5 k' (nx_ s) = 0 := fun k' hk => by rw [e34]; exact q3 k' hk
    have w6 : Str D s34 (fR_ s34 5 6 (nx_ s)) (fn_ (gF F i)) := by rw [e34]; exact q6
    have w7 : Str D s34 (fR_ s34 5 7 (nx_ s)) (idb (fn_ (gF F i)) (fd_ (gF F i))) := by rw [e34]; exact q7
    have t34 : tg_ s34 (nx_ s) = 6 := by rw [e34]; exact t33
    have hd1 := ho.1
    rw [fo34.2.2.2.2.2.1, li_0, nI_eq (by omega) (by decide)]
    have un : ∀ s5 : Hp, tg_ s5 (nx_ s) = 6 → fI_ s5 5 0 (nx_ s) = nI i → fI_ s5 5 1 (nx_ s) = nI (fd_ (gF F i)) → fI_ s5 5 2 (nx_ s) = nI (fa_ (gF F i)) → fI_ s5 5 3 (nx_ s) = nI (if fd_ (gF F i) = 1 then 0 else fs_ (gF F i)) → fI_ s5 5 4 (nx_ s) = nI (if fd_ (gF F i) = 1 then 0 else 4294967295) → fI_ s5 5 5 (nx_ s) = nI (if fd_ (gF F i) = 1 then 0 else fx_ (gF F i)) → fI_ s5 5 8 (nx_ s) = b2 (decide (fd_ (gF F i) ≠ 1)) → Str D s5 (fR_ s5 5 6 (nx_ s)) (fn_ (gF F i)) → Str D s5 (fR_ s5 5 7 (nx_ s)) (idb (fn_ (gF F i)) (fd_ (gF F i))) → NdA D s5 (nx_ s) (treeOf (F.take (i + 1))) i := by
      intro s5 a1 a2 a3 a4 a5 a6 a7 a8 a9 a10
      unfold NdA tI tD tP tM tS tE tX tW treeOf
      simp only [gi]
      exact ⟨a1, a2, a3, a4, a5, a6, a7, a8, a9, a10⟩
    refine ⟨fo34.1, fun e => L102 s34 k34 f34 (un s34 t34 w1 w2 w3 ?_ ?_ ?_ ?_ w6 w7) b34.1 b34.2, fun e => ⟨t34, fun s39 e39 s40 e40 s41 e41 s42 e42 => ?_⟩⟩
    · rw [if_pos (by omega)]; exact w4 3 (by decide)
    · rw [if_pos (by omega)]; exact w4 4 (by decide)
    · rw [if_pos (by omega)]; exact w4 5 (by decide)
    · have : fd_ (gF F i) = 1 := by omega
      rw [w4 8 (by decide)]; simp [this, b2]
    · have k42 : Kp False (fun _ => False) s s42 := by
        rw [e42, e41, e40, e39]
        exact Kp.sI' (Kp.sI' (Kp.sI' (Kp.sI' k34 (Or.inr (Or.inl (Nat.le_refl _)))) (Or.inr (Or.inl (Nat.le_refl _)))) (Or.inr (Or.inl (Nat.le_refl _)))) (Or.inr (Or.inl (Nat.le_refl _)))
      have f42 : WF D s42 := by rw [e42, e41, e40, e39]; exact (((f34.sI (by decide)).sI (by decide)).sI (by decide)).sI (by decide)
      have pne : p ≠ nx_ s := by omega
      have v2 : fI_ s40 9 2 p = nI (fx_ (gF F i)) := by rw [e40, afI_sI, u3_r pne, e39, afI_sI, u3_r pne]; exact fo34.2.2.2.1
      have fd0 : ¬ fd_ (gF F i) = 1 := by omega
      rw [v2] at e41
      rw [fo34.2.2.2.2.1] at e39
      refine L102 s42 k42 f42 (un s42 (by rw [e42, e41, e40, e39]; exact t34) ?_ ?_ ?_ ?_ ?_ ?_ ?_ ?_ ?_) (by rw [e42, e41, e40, e39]; exact b34.1) (by rw [e42, e41, e40, e39]; exact b34.2)
      · rw [e42, afI_sI, u3_k (by decide), e41, afI_sI, u3_k (by decide), e40, afI_sI, u3_k (by decide), e39, afI_sI, u3_k (by decide)]; exact w1
      · rw [e42, afI_sI, u3_k (by decide), e41, afI_sI, u3_k (by decide), e40, afI_sI, u3_k (by decide), e39, afI_sI, u3_k (by decide)]; exact w2
      · rw [e42, afI_sI, u3_k (by decide), e41, afI_sI, u3_k (by decide), e40, afI_sI, u3_k (by decide), e39, afI_sI, u3_k (by decide)]; exact w3
      · rw [if_neg fd0, e42, afI_sI, u3_k (by decide), e41, afI_sI, u3_k (by decide), e40, afI_sI, u3_k (by decide), e39, afI_sI, u3_e]
      · rw [if_neg fd0, e42, afI_sI, u3_k (by decide), e41, afI_sI, u3_k (by decide), e40, afI_sI, u3_e]; decide
      · rw [if_neg fd0, e42, afI_sI, u3_k (by decide), e41, afI_sI, u3_e]
      · rw [e42, afI_sI, u3_e]; simp [fd0, b2]
      · rw [e42, e41, e40, e39]; exact (((w6.sI (by decide)).sI (by decide)).sI (by decide)).sI (by decide)
      · rw [e42, e41, e40, e39]; exact (((w7.sI (by decide)).sI (by decide)).sI (by decide)).sI (by decide)
end
