/-! the class: compact -/
section
variable {S' : Prop} {W : Nat → Prop} {D n : Nat} {σ σ0 σ' τ υ : Hp} {x md od q q' la r r' m c c' N0 : Nat} {t t' : TT} {rf : Nat → Nat} {O F F0 F' : List FT} {S S2 : AS} {B St : Nat → Nat} {Df : Nat → Bool}
/-- a second tree at q' of things made since N0 -/
def T2 (D : Nat) (s : Hp) (q' N0 : Nat) (t : TT) (rf : Nat → Nat) (c : Nat) : Prop := TrA D s q' t rf c ∧ D < N0 ∧ N0 ≤ q' ∧ N0 ≤ fR_ s 4 0 q' ∧ N0 ≤ fR_ s 10 1 (fR_ s 4 0 q') ∧ ∀ k ∈ tL t, N0 ≤ rf k
theorem T2.tz (h : T2 D σ q' N0 t rf c) : TZ D x σ q' t rf := ⟨Or.inr (by have := h.2; omega), Or.inr (by have := h.2; omega), Or.inr (by have := h.2; omega), fun k hk => Or.inr (by have := h.2.2.2.2.2 k hk; have := h.2.1; omega)⟩
/-- the old tree lies below N0 -/
def Old (D : Nat) (s : Hp) (x q N0 : Nat) (t : TT) (rf : Nat → Nat) (c : Nat) : Prop := TrA D s q t rf c ∧ TZ D x s q t rf ∧ q < N0 ∧ fR_ s 4 0 q < N0 ∧ ∀ k ∈ tL t, rf k < N0
theorem Old.kp {rf : Nat → Nat} (h : Old D σ x q N0 t rf c) (hf : WF D σ) (k : Kp S' W σ τ) (hw : WS D σ W) (h1 : ¬ W q) (h2 : ¬ W (fR_ σ 4 0 q)) (h3 : ¬ W (fR_ σ 10 1 (fR_ σ 4 0 q))) (h4 : ∀ k ∈ tL t, ¬ W (rf k)) : Old D τ x q N0 t rf c := by
  obtain ⟨a1, a2, a3, a4, a5⟩ := h
  exact ⟨a1.kp hf k hw h1 h2 h3 h4, a2.kp hf a1 k h1 h2, a3, by rw [k.r (hf.lt a1.1) h1]; exact a4, a5⟩
/-- the second tree changes -/
theorem CJ.two {rf rf' : Nat → Nat} (h : CJ D σ x md od q S) (hO : Old D σ x q N0 (sT S) rf c) (hT : T2 D σ q' N0 t rf' c') (k : Kp False (fun z => z = q' ∨ WL σ (fR_ σ 4 0 q') z) σ τ) (hf' : WF D τ) : CJ D τ x md od q S ∧ Cf D x σ τ ∧ Old D τ x q N0 (sT S) rf c := by
  have hf := h.1
  obtain ⟨b1, b2', b3, b4, b5, b6⟩ := id hT
  obtain ⟨o1, o2, o3, o4, o5⟩ := id hO
  have hls := b1.2.2.1
  have hols := o1.2.2.1
  have hw : ∀ z, (z = q' ∨ WL σ (fR_ σ 4 0 q') z) → D < z ∧ z ≠ q ∧ z ≠ fR_ σ 4 0 q ∧ tg_ σ z ≠ 6 ∧ tg_ σ z ≠ 10 ∧ tg_ σ z ≠ 13 ∧ tg_ σ z ≠ 100 ∧ (tg_ σ z = 104 → ∃ l, tg_ σ l = 11 ∧ fR_ σ 10 1 l = z ∧ lo_ σ < z ∧ D < l ∧ l ≠ fR_ σ 4 0 q) := by
    intro z hz
    rcases hz with e | e | ⟨e, e2⟩
    · rw [e, b1.1]
      exact ⟨by omega, by omega, by omega, by decide, by decide, by decide, by decide, fun w => absurd w (by decide)⟩
    · rw [e, hls.1]
      exact ⟨by omega, by omega, by omega, by decide, by decide, by decide, by decide, fun w => absurd w (by decide)⟩
    · have t104 := hls.2.2.1
      rw [← e] at t104
      refine ⟨by omega, by omega, by omega, by omega, by omega, by omega, by omega, fun _ => ⟨fR_ σ 4 0 q', hls.1, e.symm, e2, by omega, by omega⟩⟩
  obtain ⟨g1, g2⟩ := h.far k hf' hw
  have nq : ∀ z, tg_ σ z ≠ 5 → tg_ σ z ≠ 11 → tg_ σ z ≠ 104 → ¬ (z = q' ∨ WL σ (fR_ σ 4 0 q') z) := by
    intro z h1 h2 h3 y
    rcases y with e | e | ⟨e, _⟩
    · rw [e] at h1; exact h1 b1.1
    · rw [e] at h2; exact h2 hls.1
    · rw [e] at h3; exact h3 hls.2.2.1
  refine ⟨g1, g2, hO.kp hf k (fun z y => ?_) (fun y => (hw _ y).2.1 rfl) (fun y => (hw _ y).2.2.1 rfl) (fun y => ?_) (fun i hi y => (hw _ y).2.2.2.1 (o1.2.2.2 i hi).1)⟩
  · have := hw z y
    have hD0 := h.2.1.1
    exact ⟨this.2.2.2.2.2.1, fun w => absurd w this.2.2.2.2.2.2.1, by omega⟩
  · obtain ⟨l, e1, e2, e3, e4, e5⟩ := (hw _ y).2.2.2.2.2.2.2 hols.2.2.1
    have := hf.2.2.2.2.2.2.2 l (fR_ σ 4 0 q) e1 hols.1 e5 e2
    rw [e2] at this
    omega
theorem T2.med {rf' : Nat → Nat} (hT : T2 D σ q' N0 t rf' c') (hf : WF D σ) (k : Kp False (fun z => z = q' ∨ WL σ (fR_ σ 4 0 q') z) σ τ) (hm : MdA D σ m n B St Df) : MdA D τ m n B St Df := by
  obtain ⟨b1, b2', b3, b4, b5, b6⟩ := id hT
  have hd := hm.2.2.2.1
  have nw : ∀ z, z ≤ D → ¬ (z = q' ∨ WL σ (fR_ σ 4 0 q') z) := by
    intro z hz y
    rcases y with e | e | ⟨e, _⟩ <;> omega
  exact hm.kp hf k (nw _ (by omega)) (nw _ (by omega)) (nw _ (by omega)) (nw _ (by omega))
theorem pre_1 (hT : TOK n t) (hW : tW t 0 = false) : isRootT (tPre t 1) := by
  have h1 := hT.1.1
  have h0 : 0 ∈ tL t := mem_tL.mpr ⟨by omega, hT.2.1.1⟩
  have hl : 1 ≤ (tL t).length := List.length_pos_of_mem h0
  obtain ⟨r1, r2, r3, r4, r5, r6, r7⟩ := hT.2.1
  refine ⟨?_, ?_, r2, r3, r4, r5, r6, r7, hW⟩
  · rw [tL_pre (Nat.le_refl _) hl, take_snoc (by omega), tL_0 hT]; rfl
  · show (tL t).getD 0 0 + 1 = 1
    rw [tL_0 hT]
/-- what comes behind the copying -/
def cpE (post : Int32 → Hp → Prop) (x0 x1 : Nat) (σ : Hp) : Prop := (tg_ σ x1 = 5 ∧ (∀ σ7, σ7 = sI_ σ 4 1 x1 (fI_ σ 4 1 (fR_ σ 0 4 x0)) → (tg_ σ7 (fR_ σ7 0 1 x0) = 3 ∧ (∃ mc9 ms10 : Nat, (mc9 ≤ bc_ σ7 ∧ (ms10 ≤ bs_ σ7 ∧ (wX3_commit (fR_ σ7 0 1 x0) (fR_ σ7 0 3 x0) (fR_ σ7 0 2 x0) x1 (1 : Int32) (bu_ σ7 mc9 ms10) (fun r13 σ14 => (∀ σ15, σ15 = bu_ σ14 (bc_ σ7 - mc9) (bs_ σ7 - ms10) → ((r13 = (1 : Int32) →    (tg_ σ15 x0 = 1 ∧ (∀ y18 : Nat, y18 = (fR_ σ15 0 2 x0) → (∀ σ19, σ19 = sR_ σ15 0 2 x0 (fR_ σ15 0 3 x0) → (∀ σ20, σ20 = sR_ σ19 0 3 x0 y18 → (∀ σ21, σ21 = sR_ σ20 0 4 x0 x1 → (∀ σ22, σ22 = sI_ σ21 0 9 x0 (1 : Int32) → (tg_ σ22 (fR_ σ22 0 5 x0) = 8 ∧ (wX8_begin (fR_ σ22 0 5 x0) (fR_ σ22 0 2 x0) σ22 (fun σ24 => (∀ σ25, σ25 = bu_ σ24 (bc_ σ22) (bs_ σ22) → post (1 : Int32) σ25))))))))))) ∧   (¬ r13 = (1 : Int32) →    post r13 σ15)))))))))))
/-- the nodes are copied -/
theorem c_copy (h : CJ D σ x md od q S) (ok : AOK S) {rf rf0 : Nat → Nat} (hO : Old D σ x q N0 (sT S) rf c) (hT : T2 D σ q' N0 (tPre (sT S) 1) rf0 c') (h1 : 174 ≤ bc_ σ) (h2 : 2320 ≤ bs_ σ) {post : Int32 → Hp → Prop}
    (k : ∀ s rf' c2, CJ D s x md od q S → Cf D x σ s → Old D s x q N0 (sT S) rf c → T2 D s q' N0 (tPre (sT S) (tL (sT S)).length) rf' c2 → (∀ m n B St Df, MdA D σ m n B St Df → MdA D s m n B St Df) → bc_ σ ≤ bc_ s + 174 → bs_ σ ≤ bs_ s + 2320 → cpE post x q' s) : wX1_compact_L30 post x q' 1 σ := by
  have hTk := ok.2.1
  have l30 := hTk.1.2.2
  have h0 : 0 ∈ tL (sT S) := mem_tL.mpr ⟨by have := hTk.1.1; omega, hTk.2.1.1⟩
  have hl1 : 1 ≤ (tL (sT S)).length := List.length_pos_of_mem h0
  unfold wX1_compact_L30
  refine lpG2 (B := fun R y s => wX1_compact_B30 post R x q' y s) (fun j y s => ∃ i rf' c2, i + j = (tL (sT S)).length ∧ 1 ≤ i ∧ y = nI i ∧ CJ D s x md od q S ∧ Cf D x σ s ∧ Old D s x q N0 (sT S) rf c ∧ T2 D s q' N0 (tPre (sT S) i) rf' c2 ∧ (∀ m n B St Df, MdA D σ m n B St Df → MdA D s m n B St Df) ∧ bc_ s + 6 * i = bc_ σ + 6 ∧ bs_ s + 80 * i = bs_ σ + 80) ((tL (sT S)).length - 1) ⟨1, rf0, c', by omega, Nat.le_refl _, rfl, h, Cf.refl, hO, hT, fun _ _ _ _ _ z => z, by omega, by omega⟩ ?_
  rintro j y s R ⟨i, rf', c2, g1, g2, rfl, g4, g5, g6, g7, gm, g8, g9⟩ hR
  obtain ⟨hf, hz, hx, hb, hp, hmd, hod, _, hr⟩ := id g4
  have ht := g6.1
  have hls := ht.2.2.1
  have Ds := hz.1.2.2
  unfold wX1_compact_B30
  rw [hx.2.2.2.2.2.1]
  refine ⟨hx.1, ht.1, hls.1, l_size hls ?_⟩
  rw [List.length_map, nI_leI (by omega) (by omega)]
  refine ⟨fun z => ?_, fun z => l_get hls (by rw [List.length_map]; omega) (fun tg => ?_)⟩
  · have hi : i = (tL (sT S)).length := by omega
    subst hi
    have := k s rf' c2 g4 g5 g6 g7 gm (by omega) (by omega)
    unfold cpE at this
    rw [hx.2.2.2.2.2.1] at this
    exact this
  rw [gD_map (by omega)] at tg ⊢
  obtain ⟨kk, hkk⟩ : ∃ kk, kk = (tL (sT S)).getD i 0 := ⟨_, rfl⟩
  rw [← hkk] at tg ⊢
  have hk : kk ∈ tL (sT S) := by rw [hkk]; exact getD_mem (by omega)
  have dk := root_D hTk (mem_tL.mp hk).1 (mem_tL.mp hk).2
  have nd := ht.2.2.2 kk hk
  obtain ⟨o1, o2, o3, o4, o5, o6, o7, o8, o9, o10⟩ := id nd
  have lk := hf.lt o1
  have lnm : (tM (sT S) kk).length ≤ 8 := (nm_b hTk (mem_tL.mp hk).1 (mem_tL.mp hk).2).1
  refine ⟨Or.inr tg, by omega, by omega, fun s30 e30 => ?_⟩
  have k30 : Kp False (fun _ => False) s s30 := by rw [e30]; exact Kp.mO' Kp.refl
  have i30 : ∀ k', k' < 9 → fI_ s30 5 k' (rf kk) = fI_ s 5 k' (rf kk) := fun k' h => k30.i lk (fun z => z) (by omega)
  rw [i30 0 (by decide), i30 2 (by decide), i30 1 (by decide), k30.r lk (fun z => z), o2, o3, o4]
  refine ⟨by rw [k30.t lk]; exact o1, by rw [e30, atg_mO, u1_e], c_nnew hf (d := tD (sT S) kk) (l := tM (sT S) kk) dk (Or.inr Ds) o9 lnm (nI kk) (nI (tP (sT S) kk)) e30 (by omega) (by omega) (fun s38 hN b1 b2' y39 h39 => ?_)⟩
  subst h39
  have k38 := hN.2.1
  have i38 : ∀ k', k' < 9 → fI_ s38 5 k' (rf kk) = fI_ s 5 k' (rf kk) := fun k' h => k38.i lk (fun z => z) (by omega)
  refine ⟨by rw [k38.t lk]; exact o1, hN.2.2.1, fun s42 e42 s43 e43 s44 e44 => ?_⟩
  have ne : rf kk ≠ nx_ s := by omega
  have v42 : fI_ s42 5 4 (rf kk) = nI (tE (sT S) kk) := by rw [e42, afI_sI, u3_r ne, i38 4 (by decide)]; exact o6
  have v43 : fI_ s43 5 5 (rf kk) = nI (tX (sT S) kk) := by rw [e43, afI_sI, u3_r ne, e42, afI_sI, u3_r ne, i38 5 (by decide)]; exact o7
  have v44 : fI_ s44 5 8 (rf kk) = b2 (tW (sT S) kk) := by rw [e44, afI_sI, u3_r ne, e43, afI_sI, u3_r ne, e42, afI_sI, u3_r ne, i38 8 (by decide)]; exact o8
  have v38 : fI_ s38 5 3 (rf kk) = nI (tS (sT S) kk) := by rw [i38 3 (by decide)]; exact o5
  rw [v38] at e42
  rw [v42] at e43
  rw [v43] at e44
  rw [v44]
  refine ⟨by cases tW (sT S) kk <;> exact ⟨rfl, rfl⟩, fun s46 e46 => ?_⟩
  have k46 : Kp False (fun _ => False) s s46 := by
    rw [e46, e44, e43, e42]
    exact Kp.sI' (Kp.sI' (Kp.sI' (Kp.sI' k38 (Or.inr (Or.inl (Nat.le_refl _)))) (Or.inr (Or.inl (Nat.le_refl _)))) (Or.inr (Or.inl (Nat.le_refl _)))) (Or.inr (Or.inl (Nat.le_refl _)))
  have f46 : WF D s46 := by rw [e46, e44, e43, e42]; exact (((hN.1.sI (by decide)).sI (by decide)).sI (by decide)).sI (by decide)
  obtain ⟨j46, c46⟩ := g4.made k46 f46
  have O46 : Old D s46 x q N0 (sT S) rf c := g6.kp hf k46 WS0 (fun z => z) (fun z => z) (fun z => z) (fun _ _ z => z)
  have T46 : T2 D s46 q' N0 (tPre (sT S) i) rf' c2 := by
    obtain ⟨u1, u2, u3, u4, u5, u6⟩ := g7
    have l1 := hf.lt u1.1
    have l2 := hf.lt u1.2.2.1.1
    exact ⟨u1.kp hf k46 WS0 (fun z => z) (fun z => z) (fun z => z) (fun _ _ z => z), u2, u3, by rw [k46.r l1 (fun z => z)]; exact u4, by rw [k46.r l1 (fun z => z), k46.r l2 (fun z => z)]; exact u5, u6⟩
  have lN : N0 ≤ nx_ s := by
    have := hf.lt g7.1.1
    have := g7.2.2.1
    omega
  have nd46 : NdA D s46 (nx_ s) (tPre (sT S) (i + 1)) kk := by
    obtain ⟨p1, p2, p3, p4, p5, p6, p7, p8, p9, p10⟩ := hN
    refine ⟨by rw [e46, e44, e43, e42]; exact p3, ?_, ?_, ?_, ?_, ?_, ?_, ?_, ?_, ?_⟩
    · rw [e46, afI_sI, u3_k (by decide), e44, afI_sI, u3_k (by decide), e43, afI_sI, u3_k (by decide), e42, afI_sI, u3_k (by decide)]; exact p5
    · rw [e46, afI_sI, u3_k (by decide), e44, afI_sI, u3_k (by decide), e43, afI_sI, u3_k (by decide), e42, afI_sI, u3_k (by decide)]; exact p6
    · rw [e46, afI_sI, u3_k (by decide), e44, afI_sI, u3_k (by decide), e43, afI_sI, u3_k (by decide), e42, afI_sI, u3_k (by decide)]; exact p7
    · rw [e46, afI_sI, u3_k (by decide), e44, afI_sI, u3_k (by decide), e43, afI_sI, u3_k (by decide), e42, afI_sI, u3_e]; rfl
    · rw [e46, afI_sI, u3_k (by decide), e44, afI_sI, u3_k (by decide), e43, afI_sI, u3_e]; rfl
    · rw [e46, afI_sI, u3_k (by decide), e44, afI_sI, u3_e]; rfl
    · rw [e46, afI_sI, u3_e]; rfl
    · rw [e46, e44, e43, e42]; exact (((p9.sI (by decide)).sI (by decide)).sI (by decide)).sI (by decide)
    · rw [e46, e44, e43, e42]; exact (((p10.sI (by decide)).sI (by decide)).sI (by decide)).sI (by decide)
  have Lp : tL (tPre (sT S) i) = (tL (sT S)).take i := tL_pre g2 (by omega)
  have Lp1 : tL (tPre (sT S) (i + 1)) = (tL (sT S)).take (i + 1) := tL_pre (by omega) (by omega)
  have hL : tL (tPre (sT S) (i + 1)) = tL (tPre (sT S) i) ++ [kk] := by rw [Lp, Lp1, take_snoc (by omega), hkk]
  have b46 : bc_ s46 = bc_ s - 5 ∧ bs_ s46 = bs_ s - 47 := by rw [e46, e44, e43, e42]; exact ⟨b1, b2'⟩
  refine ⟨T46.1.1, 1, 33, by omega, by omega, c_tadd (σ := bu_ s46 1 33) f46 T46.1 (t' := tPre (sT S) (i + 1)) (k' := kk) nd46 hL (by show (tL (sT S)).getD (i + 1 - 1) 0 + 1 = kk + 1; rw [hkk]; rfl) (fun a _ => ⟨rfl, rfl, rfl, rfl, rfl, rfl, rfl⟩) (by rw [Lp, List.length_take]; omega) g1A_le g2A_le (fun s52 f52 k52 tr52 w1 w2 s53 e53 y54 h54 => ?_)⟩
  have k52' : Kp False (fun z => z = q' ∨ WL s46 (fR_ s46 4 0 q') z) s46 s52 := k52
  obtain ⟨j52, c52, O52⟩ := j46.two O46 T46 k52' f52
  have w1' : fR_ s52 4 0 q' = fR_ s46 4 0 q' := w1
  have w2' : fR_ s52 10 1 (fR_ s46 4 0 q') = fR_ s46 10 1 (fR_ s46 4 0 q') ∨ nx_ s46 ≤ fR_ s52 10 1 (fR_ s46 4 0 q') := w2
  have n46 := k46.2.1
  have T52 : T2 D s52 q' N0 (tPre (sT S) (i + 1)) (upA rf' kk (nx_ s)) (capA ((tL (tPre (sT S) i)).map rf') c2) := by
    obtain ⟨u1, u2, u3, u4, u5, u6⟩ := T46
    refine ⟨tr52, u2, u3, by rw [w1']; exact u4, ?_, fun a ha => ?_⟩
    · rw [w1']
      rcases w2' with e | e
      · rw [e]; exact u5
      · omega
    · rw [hL] at ha
      by_cases ea : a = kk
      · rw [ea, upA_e]; exact lN
      · rw [upA_n ea]
        rcases List.mem_append.mp ha with y | y
        · exact u6 a y
        · simp at y; exact absurd y ea
  exact hR (j - 1) y54 s53 (by omega) ⟨i + 1, upA rf' kk (nx_ s), capA ((tL (tPre (sT S) i)).map rf') c2, by omega, by omega, by rw [h54, li_1, nI_add], by rw [e53]; exact j52.bu, (g5.trans c46).trans (by rw [e53]; exact c52.bu), by rw [e53]; exact O52, by rw [e53]; exact T52, fun m n B St Df hm => by rw [e53]; exact T46.med f46 k52' ((gm m n B St Df hm).kp hf k46 (fun z => z) (fun z => z) (fun z => z) (fun z => z)), by rw [e53]; show bc_ s46 - 1 + _ = _; omega, by rw [e53]; show bs_ s46 - 33 + _ = _; omega⟩
end
