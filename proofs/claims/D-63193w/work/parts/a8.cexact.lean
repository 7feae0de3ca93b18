/-! exact places: adding to a list and to a tree -/
section
variable {S : Prop} {W : Nat → Prop} {D : Nat} {σ τ : Hp} {tk r x : Nat} {R : List Nat} {c : Nat}
theorem l_addX (h : Lst σ tk r R c) (hf : WF D σ) (hx : tg_ σ x = tk) (htk : tk = 6 ∨ tk = 10) (hlen : R.length < 33) (h1 : R.length = c → 1 ≤ bc_ σ ∧ capN c ≤ bs_ σ) {post : Int32 → Hp → Prop} (k : ∀ σ', Add D σ σ' tk r R c x → nx_ σ' = nx_ σ + g1A R c → post 1 σ') : wJ2_add r x σ post := by
  obtain ⟨a1, a2, a3, a4, a5, a6, a7, a8, a9, a10⟩ := id h
  have hrn := hf.lt a1
  have hen := hf.lt a3
  have hxn : x < nx_ σ := hf.1 x (by omega)
  have hc33 : capOK c := a5
  unfold wJ2_add
  refine ⟨a1, fun σ2 e2 => ?_⟩
  have h2 : Lst σ2 tk r R c := by
    rw [e2]
    exact ⟨a1, a2, a3, a4, a5, by rw [afI_sI, u3_k (by decide)]; exact a6, a7, a8, a9, a10⟩
  have k2 : Kp False (WL σ r) σ σ2 := by rw [e2]; exact Kp.sI' Kp.refl (Or.inl (Or.inl rfl))
  have f2 : WF D σ2 := by rw [e2]; exact hf
  have b2 : bc_ σ2 = bc_ σ ∧ bs_ σ2 = bs_ σ := by rw [e2]; exact ⟨rfl, rfl⟩
  have n2 : nx_ σ2 = nx_ σ := by rw [e2]; rfl
  have t2 : tg_ σ2 = tg_ σ := by rw [e2]; rfl
  have r2 : fR_ σ2 = fR_ σ := by rw [e2]; rfl
  have l2 : lo_ σ2 = lo_ σ := by rw [e2]; rfl
  have hst : ∀ σ' : Hp, tg_ σ' x = tk → st_ σ' 104 x := fun σ' z => Or.inr ⟨tk - 1, by omega, by omega, fun z => by omega⟩
  -- the store
  have L11 : ∀ (τ : Hp) (e n : Nat) (post' : Hp → Prop), Kp False (WL σ r) σ τ → tg_ τ e = 104 → lo_ σ < e → ln_ τ e = n → R.length < n → n ≤ 33 → capOK n → fR_ τ 10 1 r = e → fI_ τ 10 2 r = nI R.length → (∀ i, i < R.length → aR_ τ e i = R.getD i 0) → (e = fR_ σ 10 1 r ∨ nx_ σ ≤ e) → e < nx_ τ → n = capA R c → (∀ q, tg_ τ q ≠ 0 → q < nx_ τ) → (∀ q, tg_ τ q ≠ 0 → nx_ σ ≤ q → tg_ τ q = 104) → (∀ q, tg_ σ q = 11 → q ≠ r → fR_ τ 10 1 q = fR_ σ 10 1 q) → (∀ σ', Add D σ σ' tk r R c x → nx_ σ' = nx_ τ → post' σ') → wJ2_add_2_L11 post' r x e (nI R.length) τ := by
    intro τ e n post' q1 q2 q3 q4 q5 q6 q7 q8 q9 q10 q11 q12 q13 q14 q15 q16 kk
    have tr : tg_ τ r = 11 := by rw [q1.t hrn]; exact a1
    unfold wJ2_add_2_L11
    refine ⟨q2, by rw [q1.1]; exact q3, by rw [q4]; exact (vin_ (by omega)).mpr (by omega), hst τ (by rw [q1.t hxn]; exact hx), fun σ5 e5 => ⟨by rw [e5]; exact tr, fun σ7 e7 => ?_⟩⟩
    rw [nI_clamp (by omega)] at e5
    have kp : Kp False (WL σ r) σ σ7 := by
      rw [e7, e5]
      refine Kp.sI' (Kp.wR' q1 ?_) (Or.inl (Or.inl rfl))
      rcases q11 with z | z
      · exact Or.inl (Or.inr ⟨z, q3⟩)
      · exact Or.inr z
    have t7 : tg_ σ7 = tg_ τ := by rw [e7, e5]; rfl
    have r7 : fR_ σ7 = fR_ τ := by rw [e7, e5]; rfl
    have n7 : nx_ σ7 = nx_ τ := by rw [e7, e5]; rfl
    refine kk σ7 ⟨hf.kpq r kp (WL_WS h hf) (by rw [t7, n7]; exact q14) (fun q z1 z2 z3 => ?_) (fun q z1 z2 => by rw [r7]; exact q16 q z1 z2) (fun _ => ⟨by rw [r7, n7, q8]; exact q12, ?_⟩), kp, ⟨by rw [t7]; exact tr, by rw [kp.1]; exact a2, by rw [r7, t7, q8]; exact q2, by rw [r7, q8, e7, e5]; show ln_ τ e = _; rw [q4, q13], by rw [← q13]; exact q7, ?_, by rw [← q13]; simp; omega, fun i hi => ?_, Or.inl ⟨by rw [r7, q8, kp.1]; exact q3, by omega⟩, fun y hy => ?_⟩, by rw [r7, q8]; exact q11, by rw [t7]; exact q15⟩ n7
    · rw [t7] at z1
      have := q15 q (by rw [z1]; decide) z2
      rw [this] at z1; cases z1
    · rw [r7, q8]
      rcases q11 with z | z
      · exact Or.inr (Or.inr ⟨a1, z⟩)
      · exact Or.inr (Or.inl z)
    · rw [e7, afI_sI, u3_e, List.length_append, li_1, nI_add]; rfl
    · rw [r7, q8, e7, e5, aaR_sI, aaR_wR]
      by_cases z : i = R.length
      · subst z
        rw [u2_e, List.getD_eq_getElem?_getD, List.getElem?_append_right (Nat.le_refl _)]; simp
      · have hi' : i < R.length := by simp at hi; omega
        rw [u2_i z, q10 i hi', gD_app hi']
    · rw [t7]
      rcases List.mem_append.mp hy with z | z
      · rw [q1.t (h.lt hf (by omega) y z)]; exact a10 y z
      · simp at z
        rw [z, q1.t hxn]; exact hx
  by_cases hc : R.length = c
  · -- it grows
    obtain ⟨w1, w2⟩ := h1 hc
    have c33 : c < 33 := by omega
    obtain ⟨v1, v2, v3⟩ := capN_ok a5 c33
    refine ⟨1, capN c, by rw [b2.1]; exact w1, by rw [b2.2]; exact w2, ?_⟩
    unfold wJ2_add_2
    refine ⟨by rw [r2]; show tg_ σ2 _ = 104; rw [t2]; exact a3, fun z => absurd ?_ z, fun _ => ⟨by show tg_ σ2 r = 11; rw [t2]; exact a1, 1, capN c, Nat.le_refl _, Nat.le_refl _, ?_⟩⟩
    · show fI_ σ2 10 2 r = nI (ln_ σ2 (fR_ σ2 10 1 r))
      rw [h2.2.2.2.2.2.1, h2.2.2.2.1, hc]
    · unfold wJ2_grow
      refine ⟨by show tg_ σ2 r = 11; rw [t2]; exact a1, 1, capN c, Nat.le_refl _, Nat.le_refl _, ?_⟩
      have e6 : fI_ σ2 10 2 r + 1 = nI (c + 1) := by rw [h2.2.2.2.2.2.1, hc, li_1, nI_add]
      show wJ2_grow_2 r (fI_ σ2 10 2 r + 1) _ _
      rw [e6]
      refine l_grow2 (σ := bu_ (bu_ (bu_ σ2 1 (capN c)) 1 (capN c)) 1 (capN c)) h2 f2 htk hc c33 (Nat.le_refl _) (Nat.le_refl _) (fun σ9 g => ?_)
      intro σ10 e10 σ11 e11
      obtain ⟨g1, g2, g3, g4, g5, g6, g7, g8, g9⟩ := g
      have g1' : Kp False (fun q => q = r) σ2 σ9 := g1
      have g3' : tg_ σ9 = u1_ (tg_ σ2) (nx_ σ2) 104 := g3
      have g6' : nx_ σ9 = nx_ σ2 + 1 := g6
      have ka : Kp False (WL σ r) σ σ11 := by
        rw [e11, e10]
        exact k2.trans g1' (fun q _ z => Or.inl z)
      show wJ2_add_2_L11 _ r x (nx_ σ2) (fI_ σ2 10 2 r) σ11
      rw [h2.2.2.2.2.2.1]
      refine L11 σ11 (nx_ σ2) (capN c) _ ka ?_ ?_ ?_ (by omega) v3 v1 ?_ ?_ (fun i hi => ?_) (Or.inr (by omega)) ?_ (by unfold capA; rw [if_pos hc]) (fun q hq => ?_) (fun q hq hq2 => ?_) (fun q hq hq2 => ?_) (fun σ' hA hN σ'' e'' => ?_)
      · rw [e11, e10]; show tg_ σ9 _ = _; rw [g3', u1_e]
      · have := hf.2.1; omega
      · rw [e11, e10]; exact g4
      · rw [e11, e10]; exact g2
      · rw [e11, e10]
        have := g7 10 2 r
        show fI_ σ9 10 2 r = _
        rw [this]; exact h2.2.2.2.2.2.1
      · rw [e11, e10]; exact g5 i hi
      · rw [e11, e10]; show _ < nx_ σ9; omega
      · rw [e11, e10] at hq ⊢
        have hq' : tg_ σ9 q ≠ 0 := hq
        show q < nx_ σ9
        rw [g3'] at hq'
        by_cases z : q = nx_ σ2
        · omega
        · rw [u1_k z, t2] at hq'
          have := hf.1 q hq'; omega
      · rw [e11, e10] at hq ⊢
        have hq' : tg_ σ9 q ≠ 0 := hq
        show tg_ σ9 q = 104
        rw [g3'] at hq' ⊢
        by_cases z : q = nx_ σ2
        · rw [z, u1_e]
        · rw [u1_k z, t2] at hq'
          have := hf.1 q hq'; omega
      · rw [e11, e10]
        show fR_ σ9 10 1 q = _
        rw [g9 10 1 q (by omega)]
        show fR_ σ2 10 1 q = _
        rw [r2]
      · rw [e'']
        refine k _ hA ?_
        show nx_ σ' = _
        rw [hN, e11, e10]
        show nx_ σ9 = _
        unfold g1A
        rw [g6', n2, if_pos hc]
  · -- it doesn't
    refine ⟨0, 0, Nat.zero_le _, Nat.zero_le _, ?_⟩
    unfold wJ2_add_2
    have hlt : R.length < c := by omega
    have c33 : c ≤ 33 := by unfold capOK at a5; omega
    have hlo : lo_ σ < fR_ σ 10 1 r := by
      rcases a9 with z | z
      · exact z.1
      · omega
    refine ⟨by rw [r2]; show tg_ σ2 _ = 104; rw [t2]; exact a3, fun _ => ?_, fun z => ?_⟩
    · rw [h2.2.2.2.2.2.1, r2]
      refine L11 (bu_ σ2 0 0) (fR_ σ 10 1 r) c _ k2 (by show tg_ σ2 _ = 104; rw [t2]; exact a3) hlo (by show ln_ σ2 _ = c; rw [e2]; exact a4) hlt c33 a5 (by show fR_ σ2 10 1 r = _; rw [r2]) h2.2.2.2.2.2.1 (fun i hi => by show aR_ σ2 _ i = _; rw [e2]; exact a8 i hi) (Or.inl rfl) (by show _ < nx_ σ2; omega) (by unfold capA; rw [if_neg hc]) (by show ∀ q, tg_ σ2 q ≠ 0 → q < nx_ σ2; rw [t2, n2]; exact hf.1) (fun q hq hq2 => ?_) (fun q _ _ => by show fR_ σ2 10 1 q = _; rw [r2]) (fun σ' hA hN σ'' e'' => ?_)
      · have hq' : tg_ σ2 q ≠ 0 := hq
        rw [t2] at hq'
        have := hf.1 q hq'; omega
      · rw [e'']
        refine k _ hA ?_
        show nx_ σ' = _
        rw [hN]
        show nx_ σ2 = _
        unfold g1A
        rw [n2, if_neg hc]; rfl
    · exfalso
      have z' : fI_ σ2 10 2 r = nI (ln_ σ2 (fR_ σ2 10 1 r)) := z
      rw [h2.2.2.2.2.2.1, h2.2.2.2.1, nI_eq (by omega) (by omega)] at z'
      exact hc z'
theorem l_addXC (h : Lst σ tk r R c) (hf : WF D σ) (hx : tg_ σ x = tk) (htk : tk = 6 ∨ tk = 10) (hlen : R.length < 33) (h1 : g1A R c ≤ bc_ σ) (h2 : g2A R c ≤ bs_ σ) {post : Int32 → Hp → Prop} (k : ∀ σ', Add D σ σ' tk r R c x → nx_ σ' = nx_ σ + g1A R c → bc_ σ' = bc_ σ - g1A R c → bs_ σ' = bs_ σ - g2A R c → post 1 σ') :
    ∃ mc ms : Nat, mc ≤ bc_ σ ∧ ms ≤ bs_ σ ∧ wJ2_add r x (bu_ σ mc ms) (fun r' σ' => ∀ σ'', σ'' = bu_ σ' (bc_ σ - mc) (bs_ σ - ms) → post r' σ'') := by
  refine ⟨g1A R c, g2A R c, h1, h2, l_addX (σ := bu_ σ (g1A R c) (g2A R c)) h hf hx htk hlen (fun e => ⟨?_, ?_⟩) (fun σ' hA hN σ'' e'' => ?_)⟩
  · show 1 ≤ g1A R c
    unfold g1A; rw [if_pos e]; exact Nat.le_refl _
  · show capN c ≤ g2A R c
    unfold g2A; rw [if_pos e]; exact Nat.le_refl _
  · rw [e'']
    exact k _ hA.bu hN rfl rfl
end
section
variable {S : Prop} {W : Nat → Prop} {D n : Nat} {σ0 σ σ' τ : Hp} {q c tk r : Nat} {t t' : TT} {rf : Nat → Nat} {R : List Nat}
theorem c_taddX (hf : WF D σ) (h : TrA D σ q t rf c) {x k' : Nat} (hx : NdA D σ x t' k') (hL : tL t' = tL t ++ [k']) (hN : tN t' = k' + 1) (hs : ∀ k ∈ tL t, sameN t t' k) (hlen : (tL t).length < 33) (h1 : g1A ((tL t).map rf) c ≤ bc_ σ) (h2 : g2A ((tL t).map rf) c ≤ bs_ σ) {post : Hp → Prop}
    (k : ∀ σ', WF D σ' → Kp False (WT σ q) σ σ' → TrA D σ' q t' (upA rf k' x) (capA ((tL t).map rf) c) → fR_ σ' 4 0 q = fR_ σ 4 0 q → (fR_ σ' 10 1 (fR_ σ 4 0 q) = fR_ σ 10 1 (fR_ σ 4 0 q) ∨ nx_ σ ≤ fR_ σ' 10 1 (fR_ σ 4 0 q)) → nx_ σ' = nx_ σ + g1A ((tL t).map rf) c → post σ') : wX5_add q x σ post := by
  have hws := WT_WS h hf
  have hnx := WT_nd h hx.1
  obtain ⟨a1, a2, a3, a4⟩ := id h
  have hqn := hf.lt a1
  have hxn := hf.lt hx.1
  unfold wX5_add
  refine ⟨a1, a3.1, l_addXC a3 hf hx.1 (Or.inl rfl) (by rw [List.length_map]; exact hlen) h1 h2 (fun s9 hA hNx _ _ => ?_)⟩
  obtain ⟨b1, b2, b3, b4, b5⟩ := hA
  have q1 : ¬ WL σ (fR_ σ 4 0 q) q := by
    rintro (e | ⟨e, _⟩)
    · have := a3.1
      rw [← e, a1] at this; cases this
    · have := a3.2.2.1
      rw [← e, a1] at this; cases this
  have x1 : ¬ WL σ (fR_ σ 4 0 q) x := fun z => hnx (Or.inr z)
  refine ⟨by rw [b2.t hxn]; exact hx.1, by rw [b2.t hqn]; exact a1, fun s12 e12 => ?_⟩
  have k9 : Kp False (WT σ q) σ s9 := b2.mono (fun z => z) (fun _ _ z => Or.inr z)
  have kk : Kp False (WT σ q) σ s12 := by rw [e12]; exact Kp.sI' k9 (Or.inl (Or.inl rfl))
  have hnk : k' ∉ tL t := by
    have := tL_nodup t'
    rw [hL, List.nodup_append] at this
    intro z
    exact this.2.2 k' z k' (by simp) rfl
  have r12 : fR_ s12 = fR_ s9 := by rw [e12]; rfl
  have t12 : tg_ s12 = tg_ s9 := by rw [e12]; rfl
  have fq : fR_ s9 4 0 q = fR_ σ 4 0 q := b2.r hqn q1
  have i9 : fI_ s9 5 0 x = nI k' := by rw [b2.i hxn x1 (by omega)]; exact hx.2.1
  refine k s12 (by rw [e12]; exact b1.sI (by decide)) kk ⟨by rw [t12, b2.t hqn]; exact a1, ?_, ?_, fun k hk => ?_⟩ (by rw [r12]; exact fq) (by rw [r12]; exact b4) (by rw [e12]; exact hNx)
  · rw [e12, afI_sI, u3_e, i9, li_1, nI_add, hN]
  · have hmap : (tL t').map (upA rf k' x) = (tL t).map rf ++ [x] := by
      rw [hL, List.map_append, List.map_cons, List.map_nil, upA_e]
      congr 1
      apply List.map_congr_left
      intro k hk
      exact upA_n (fun z => hnk (by rw [← z]; exact hk))
    rw [hmap, r12, fq]
    obtain ⟨c1, c2, c3, c4, c5, c6, c7, c8, c9, c10⟩ := b3
    rw [e12]
    refine ⟨c1, c2, c3, c4, c5, by rw [afI_sI, u3_c (by decide)]; exact c6, c7, c8, c9, c10⟩
  · rw [hL] at hk
    rcases List.mem_append.mp hk with z | z
    · have hne : k ≠ k' := fun e => hnk (by rw [← e]; exact z)
      rw [upA_n hne]
      exact ((a4 k z).kp hf kk hws (WT_nd h (a4 k z).1)).same (hs k z)
    · simp at z
      rw [z, upA_e]
      exact hx.kp hf kk hws hnx
end
section
variable {S : Prop} {W : Nat → Prop} {D n : Nat} {σ0 σ σ' τ : Hp} {q c tk r m : Nat} {t t' : TT} {rf : Nat → Nat} {R : List Nat} {B St : Nat → Nat} {Df : Nat → Bool}
/-- a directory's node is made: nothing else is -/
theorem c_ninit1 (hf : WF D σ) (hr : tg_ σ r = 6) (h0 : ∀ k, fI_ σ 5 k r = 0) {s : Nat} {l : List Nat} (hs : Str D σ s l) (num par : Int32) {post : Hp → Prop}
    (k : ∀ σ', WF D σ' → Kp False (fun z => z = r) σ σ' → nx_ σ' = nx_ σ → tg_ σ' r = 6 → fI_ σ' 5 0 r = num → fI_ σ' 5 1 r = nI 1 → fI_ σ' 5 2 r = par → (∀ k, 3 ≤ k → fI_ σ' 5 k r = 0) → Str D σ' (fR_ σ' 5 6 r) l → Str D σ' (fR_ σ' 5 7 r) l → post σ') : wX6_init r num par (nI 1) s σ post := by
  have lr := hf.lt hr
  have r0 : r ≠ 0 := fun z => by rw [z, hf.2.2.1] at hr; cases hr
  unfold wX6_init
  refine ⟨hr, fun s2 e2 s3 e3 => ⟨⟨rfl, rfl⟩, fun s5 e5 => ⟨0, 0, Nat.zero_le _, Nat.zero_le _, ?_⟩⟩⟩
  unfold wX6_call wX6_call_L36
  refine ⟨by rw [e5, e3, e2]; exact hr, fun s4 e4 => ⟨fun w => ?_, fun _ => ⟨by rw [e4, e5, e3, e2]; exact hr, fun s6 e6 s7 e7 => ?_⟩⟩⟩
  · exfalso
    rw [e4, afI_sR, afI_bu, e5, afI_sI, u3_e] at w
    exact absurd w (by decide)
  have kp : Kp False (fun z => z = r) σ s7 := by
    rw [e7, e6, e4, e5, e3, e2]
    (repeat' first | with_reducible exact Kp.refl | with_reducible assumption | with_reducible apply Kp.sI' | with_reducible apply Kp.sL' | with_reducible apply Kp.sR' | with_reducible apply Kp.wI' | with_reducible apply Kp.wR' | with_reducible apply Kp.cI' | with_reducible apply Kp.cR' | with_reducible apply Kp.mO' | with_reducible apply Kp.mA' | with_reducible apply Kp.bu' | exact Or.inl rfl | exact Or.inr (Nat.le_refl _) | exact Or.inr (by omega) | exact Or.inr (Or.inl (by omega)))
  have f7 : WF D s7 := by
    rw [e7, e6, e4, e5, e3, e2]
    exact WF.bu (WF.sR (WF.sR (WF.bu (WF.sI (WF.sI (hf.sI (by decide)) (by decide)) (by decide))) (by decide)) (by decide))
  have i7 : ∀ k, fI_ s7 5 k r = if k = 1 then nI 1 else if k = 2 then par else if k = 0 then num else 0 := by
    intro k
    rw [e7, afI_bu, e6, afI_sR, e4, afI_sR, afI_bu, e5, afI_sI]
    by_cases z : k = 1
    · rw [z, u3_e, if_pos rfl]
    · rw [u3_k z, if_neg z, e3, afI_sI]
      by_cases z2 : k = 2
      · rw [z2, u3_e, if_pos rfl]
      · rw [u3_k z2, if_neg z2, e2, afI_sI]
        by_cases z0 : k = 0
        · rw [z0, u3_e, if_pos rfl]
        · rw [u3_k z0, if_neg z0, h0]
  have hw : WS D σ (fun z => z = r) := fun z hz => by
    subst hz
    rw [hr]
    exact ⟨by decide, fun y => absurd y (by decide), r0⟩
  have st7 := hs.kp hf kp hw
  refine k s7 f7 kp (by rw [e7, e6, e4, e5, e3, e2]; rfl) (by rw [kp.t lr]; exact hr) (by rw [i7]; rfl) (by rw [i7]; rfl) (by rw [i7]; rfl) (fun k hk => by rw [i7, if_neg (by omega), if_neg (by omega), if_neg (by omega)]) ?_ ?_
  · have : fR_ s7 5 6 r = s := by rw [e7, afR_bu, e6, afR_sR, u3_k (by decide), e4, afR_sR, u3_e]
    rw [this]; exact st7
  · have : fR_ s7 5 7 r = s := by rw [e7, afR_bu, e6, afR_sR, u3_e]
    rw [this]; exact st7
theorem c_tinitX (hf : WF D σ) (ht : tg_ σ q = 5) (h0 : fI_ σ 4 1 q = 0) (hr : isRootT t) (h1 : 3 ≤ bc_ σ) (h2 : 25 ≤ bs_ σ) {post : Hp → Prop}
    (k : ∀ σ', WF D σ' → Kp False (fun p => p = q) σ σ' → TrA D σ' q t (upA (fun _ => 0) 0 (nx_ σ + 1)) 10 → fR_ σ' 4 0 q = nx_ σ → fR_ σ' 10 1 (nx_ σ) = nx_ σ + 2 → nx_ σ' = nx_ σ + 3 → post σ') : wX5_init q σ post := by
  obtain ⟨r1, r2, r3, r4, r5, r6, r7, r8, r9⟩ := hr
  have hq0 : q ≠ 0 := fun z => by rw [z, hf.2.2.1] at ht; cases ht
  have hqn := hf.lt ht
  have hlo := hf.2.1
  unfold wX5_init
  refine ⟨ht, nl_new hf 6 (by omega) (by omega) (fun s7 g7 n7 v1 v2 => ⟨by rw [g7.2.1.t hqn]; exact ht, fun s9 e9 => ?_⟩)⟩
  have k79 : Kp False (fun p => p = q) s7 s9 := by rw [e9]; exact Kp.sR' Kp.refl (Or.inl rfl)
  have k9 : Kp False (fun p => p = q) σ s9 := (g7.2.1.mono (fun z => z) (fun _ _ z => z.elim)).trans k79 (fun _ _ z => z)
  have f9 : WF D s9 := by rw [e9]; exact g7.1.sR (by decide)
  have b9 : bc_ s9 = bc_ σ - 1 ∧ bs_ s9 = bs_ σ - 3 := by rw [e9]; exact ⟨v1, v2⟩
  have n9 : nx_ s9 = nx_ σ + 1 := by rw [e9]; exact n7
  have t7 : tg_ s7 q = 5 := by rw [g7.2.1.t hqn]; exact ht
  refine ⟨by omega, by omega, fun s12 e12 => ⟨by rw [e12, atg_mO, u1_e], 0, 0, Nat.zero_le _, Nat.zero_le _, ?_⟩⟩
  have k12 : Kp False (fun _ => False) s9 s12 := by rw [e12]; exact Kp.mO' Kp.refl
  have f12 : WF D s12 := by rw [e12]; exact f9.mO
  have n12 : nx_ s12 = nx_ σ + 2 := by rw [e12]; show nx_ s9 + 1 = _; omega
  have b12 : bc_ s12 = bc_ σ - 2 ∧ bs_ s12 = bs_ σ - 15 := by rw [e12]; exact ⟨by show bc_ s9 - 1 = _; omega, by show bs_ s9 - 12 = _; omega⟩
  refine c_ninit1 (σ := bu_ s12 0 0) f12 (by show tg_ s12 _ = 6; rw [e12, atg_mO, u1_e]) (fun k => by show fI_ s12 5 k _ = 0; rw [e12, afI_mO, z3_e]) (l := []) (f12.2.2.2.2.1 5 (by decide)) 0 (-1) (fun s18 f18 k18 n18 t18 q0 q1 q2 q3 q6 q7 s19 e19 => ?_)
  have k18' : Kp False (fun z => z = nx_ s9) s12 s18 := k18
  have k19 : Kp False (fun _ => False) s9 s19 := by rw [e19]; exact k12.trans k18' (fun z hz e => by omega)
  have f19 : WF D s19 := by rw [e19]; exact f18
  have n19 : nx_ s19 = nx_ σ + 2 := by rw [e19]; show nx_ s18 = _; rw [n18]; exact n12
  have b19 : bc_ s19 = bc_ σ - 2 ∧ bs_ s19 = bs_ σ - 15 := by rw [e19]; exact ⟨by show bc_ s12 - 0 = _; omega, by show bs_ s12 - 0 = _; omega⟩
  have k719 : Kp False (fun p => p = q) s7 s19 := k79.trans (k19.mono (W' := fun p => p = q) (fun z => z) (fun _ _ z => z.elim)) (fun _ _ z => z)
  have k19' : Kp False (fun p => p = q) σ s19 := k9.trans (k19.mono (W' := fun p => p = q) (fun z => z) (fun _ _ z => z.elim)) (fun _ _ z => z)
  have r19 : fR_ s19 4 0 q = nx_ σ := by rw [k19.r (by omega) (fun z => z), e9, afR_sR, u3_e]
  have a7 : fR_ s7 10 1 (nx_ σ) ≤ lo_ s7 := by
    rcases g7.2.2.1.2.2.2.2.2.2.2.2.1 with z | z
    · exact absurd rfl z.2
    · rw [z.2]; exact g7.1.2.2.2.2.2.1.2.2
  have lo7 : lo_ s7 = lo_ σ := g7.2.1.1
  have hq7 : fR_ s7 10 1 (nx_ σ) ≠ q := fun z => by
    have := g7.2.2.1.2.2.1
    rw [z, t7] at this; cases this
  have l19 : Lst s19 6 (nx_ σ) [] 0 := g7.2.2.1.kp g7.1 k719 (by omega) hq7 (by omega) (fun x hx => by cases hx)
  have tr : TrA D s19 q (0, t.2) (fun _ => 0) 0 := by
    refine ⟨by rw [k19'.t hqn]; exact ht, ?_, by rw [r19]; exact l19, fun k hk => by cases hk⟩
    rw [k19.i (by omega) (fun z => z) (by omega), e9, afI_sR, g7.2.1.i hqn (fun z => z) (by omega), h0]; rfl
  have nd : NdA D s19 (nx_ s9) t 0 := by
    unfold NdA tI idb
    rw [r3, r4, r5, r6, r7, r8, r9, if_pos rfl, e19]
    exact ⟨t18, q0, q1, q2, q3 3 (by decide), q3 4 (by decide), q3 5 (by decide), q3 8 (by decide), q6, q7⟩
  refine ⟨by rw [k19'.t hqn]; exact ht, 1, 10, by omega, by omega, ?_⟩
  refine c_taddX (σ := bu_ s19 1 10) f19 tr (t' := t) (k' := 0) nd (by rw [r1]; rfl) (by rw [r2]) (fun k hk => by cases hk) (show 0 < 33 by decide) (show 1 ≤ 1 by decide) (show 10 ≤ 10 by decide) (fun s25 f25 k25 tr25 u1 u2 u3 s26 e26 => ?_)
  have u1' : fR_ s25 4 0 q = nx_ σ := u1.trans r19
  have u3' : nx_ s25 = nx_ σ + 3 := by
    have : nx_ s25 = nx_ s19 + 1 := u3
    omega
  have k25' : Kp False (WT s19 q) s19 s25 := k25
  have a19 : fR_ s19 10 1 (nx_ σ) = fR_ s7 10 1 (nx_ σ) := k719.r (by rw [n7]; omega) (by omega)
  have kk : Kp False (fun p => p = q) σ s25 := k19'.trans k25' (fun p hp z => by
    rcases z with z | z | ⟨z, z2⟩
    · exact z
    · rw [r19] at z; omega
    · rw [r19, a19] at z
      have := k19'.1
      omega)
  have f26 : WF D s26 := by rw [e26]; exact f25
  have u2' : fR_ s25 10 1 (fR_ s19 4 0 q) = fR_ s19 10 1 (fR_ s19 4 0 q) ∨ nx_ s19 ≤ fR_ s25 10 1 (fR_ s19 4 0 q) := u2
  rw [r19] at u2'
  have tl : tg_ s25 (nx_ σ) = 11 := by
    have := tr25.2.2.1.1
    rw [u1'] at this; exact this
  have alt : fR_ s25 10 1 (nx_ σ) < nx_ s25 := f25.2.2.2.2.2.2.1 _ tl
  have aeq : fR_ s25 10 1 (nx_ σ) = nx_ σ + 2 := by
    rcases u2' with z | z
    · exfalso
      have := tr25.2.2.1.2.2.2.2.2.2.2.2.1
      rw [u1'] at this
      rcases this with y | y
      · rw [z, a19, kk.1] at y
        omega
      · exact absurd y.1 (show ¬ (10 = 0) by decide)
    · omega
  rw [e26]
  refine k (bu_ s25 _ _) f25 kk ?_ u1' aeq u3'
  rw [← n9]; exact tr25
end
