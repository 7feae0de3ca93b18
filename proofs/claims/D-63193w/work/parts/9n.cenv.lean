/-! the reader's environment -/
/-- a found node at q -/
def FoA (σ : Hp) (q : Nat) (f : FT) : Prop := tg_ σ q = 10 ∧ fI_ σ 9 0 q = nI (fa_ f) ∧ fI_ σ 9 1 q = nI (fp_ f) ∧ fI_ σ 9 2 q = nI (fx_ f) ∧ fI_ σ 9 3 q = nI (fs_ f) ∧ fI_ σ 9 4 q = nI (fd_ f) ∧ fL_ σ 9 5 q = lN (wd (fn_ f))
/-- those that were made -/
def RMd (D : Nat) (σ : Hp) (r : Nat) : Prop := tg_ σ (r + 2) = 105 ∧ ln_ σ (r + 2) = 31 ∧ (∀ i, i < 31 → aR_ σ (r + 2) i = 0 ∨ (tg_ σ (aR_ σ (r + 2) i) = 10 ∧ D < aR_ σ (r + 2) i)) ∧ (∀ i j, i < 31 → j < 31 → aR_ σ (r + 2) i = aR_ σ (r + 2) j → aR_ σ (r + 2) i ≠ 0 → i = j)
def rfs (σ : Hp) (r k : Nat) : List Nat := (List.range k).map (aR_ σ (r + 2))
theorem rfs_len {σ : Hp} {r k : Nat} : (rfs σ r k).length = k := by simp [rfs]
theorem rfs_get {σ : Hp} {r k i : Nat} (h : i < k) : (rfs σ r k).getD i 0 = aR_ σ (r + 2) i := by simp [rfs, List.getD_eq_getElem?_getD, h]
theorem rfs_s {σ : Hp} {r k : Nat} : rfs σ r (k + 1) = rfs σ r k ++ [aR_ σ (r + 2) k] := by simp [rfs, List.range_succ]
theorem rfs_c {σ τ : Hp} {r k : Nat} (h : ∀ i, i < k → aR_ τ (r + 2) i = aR_ σ (r + 2) i) : rfs τ r k = rfs σ r k := by
  unfold rfs
  exact List.map_congr_left (fun i hi => h i (List.mem_range.mp hi))
theorem rfs_mem {σ : Hp} {r k q : Nat} (h : q ∈ rfs σ r k) : ∃ i, i < k ∧ q = aR_ σ (r + 2) i := by
  unfold rfs at h
  obtain ⟨i, h1, h2⟩ := List.mem_map.mp h
  exact ⟨i, List.mem_range.mp h1, h2.symm⟩
/-- a reader that has found F; its list's capacity is c -/
def RdS (D : Nat) (σ : Hp) (r md : Nat) (F : List FT) (c : Nat) : Prop := RdC σ r md ∧ RMd D σ r ∧ (tg_ σ (r + 3) = 102 ∧ ln_ σ (r + 3) = 30) ∧ Lst σ 10 (r + 1) (rfs σ r F.length) c ∧ (fR_ σ 10 1 (r + 1) ≤ lo_ σ ∨ D < fR_ σ 10 1 (r + 1)) ∧ (∀ i, i < F.length → FoA σ (aR_ σ (r + 2) i) (gF F i)) ∧ (lo_ σ < r ∧ r + 3 ≤ D) ∧ F.length ≤ 30
def RdE (D : Nat) (σ : Hp) (r md n : Nat) (B St : Nat → Nat) (Df : Nat → Bool) (F : List FT) (c : Nat) : Prop := WF D σ ∧ RdS D σ r md F c ∧ MdA D σ md n B St Df ∧ md + 3 < r ∧ D < nx_ σ
/-- what reading may change -/
def WRd (σ0 : Hp) (r : Nat) : Nat → Prop := fun q => (r ≤ q ∧ q ≤ r + 3) ∨ WL σ0 (r + 1) q ∨ (∃ i, i < 31 ∧ q = aR_ σ0 (r + 2) i ∧ q ≠ 0)
def FrR (σ0 σ : Hp) (r : Nat) : Prop := Kp False (WRd σ0 r) σ0 σ ∧ (fR_ σ 10 1 (r + 1) = fR_ σ0 10 1 (r + 1) ∨ nx_ σ0 ≤ fR_ σ 10 1 (r + 1)) ∧ (∀ i, i < 31 → aR_ σ (r + 2) i = aR_ σ0 (r + 2) i ∨ nx_ σ0 ≤ aR_ σ (r + 2) i) ∧ r + 3 < nx_ σ0
def BR (D : Nat) (σ0 σ : Hp) (r md n : Nat) (B St : Nat → Nat) (Df : Nat → Bool) (F : List FT) (c : Nat) : Prop := RdE D σ r md n B St Df F c ∧ FrR σ0 σ r
section
variable {S : Prop} {W : Nat → Prop} {D n : Nat} {σ0 σ τ : Hp} {r md p c q : Nat} {B St : Nat → Nat} {Df : Nat → Bool} {F : List FT} {f : FT}
theorem FoA.kp (h : FoA σ q f) (hf : WF D σ) (k : Kp S W σ τ) (hq : ¬ W q) : FoA τ q f := by
  obtain ⟨a1, a2, a3, a4, a5, a6, a7⟩ := h
  have l := hf.lt a1
  exact ⟨by rw [k.t l]; exact a1, by rw [k.i l hq (by omega)]; exact a2, by rw [k.i l hq (by omega)]; exact a3, by rw [k.i l hq (by omega)]; exact a4, by rw [k.i l hq (by omega)]; exact a5, by rw [k.i l hq (by omega)]; exact a6, by rw [k.l l hq]; exact a7⟩
theorem RdS.kp (h : RdS D σ r md F c) (hf : WF D σ) (k : Kp S W σ τ) (h0 : ¬ W 0) (hr : ∀ q, r ≤ q → q ≤ r + 3 → ¬ W q) (hl : ¬ W (fR_ σ 10 1 (r + 1))) (hF : ∀ i, i < F.length → ¬ W (aR_ σ (r + 2) i)) : RdS D τ r md F c := by
  obtain ⟨⟨c1, c2, c3, c4, c5⟩, ⟨m1, m2, m3, m4⟩, ⟨p1, p2⟩, l, la, fo, rr, len⟩ := h
  have l0 := hf.lt c1
  have l1 := hf.lt l.1
  have l2 := hf.lt m1
  have l3 := hf.lt p1
  have w0 := hr r (by omega) (by omega)
  have w1 := hr (r + 1) (by omega) (by omega)
  have w2 := hr (r + 2) (by omega) (by omega)
  have eA : ∀ i, aR_ τ (r + 2) i = aR_ σ (r + 2) i := fun i => k.aR l2 w2
  have eR : rfs τ r F.length = rfs σ r F.length := rfs_c (fun i _ => eA i)
  have e1 : fR_ τ 10 1 (r + 1) = fR_ σ 10 1 (r + 1) := k.r l1 w1
  refine ⟨⟨by rw [k.t l0]; exact c1, by rw [k.r l0 w0]; exact c2, by rw [k.r l0 w0]; exact c3, by rw [k.r l0 w0]; exact c4, by rw [k.r l0 w0]; exact c5⟩, ⟨by rw [k.t l2]; exact m1, by rw [k.n l2]; exact m2, fun i hi => ?_, fun i j hi hj => by rw [eA, eA]; exact m4 i j hi hj⟩, ⟨by rw [k.t l3]; exact p1, by rw [k.n l3]; exact p2⟩, by rw [eR]; exact l.kp hf k w1 hl h0 (l.lt hf (by decide)), by rw [e1, k.1]; exact la, fun i hi => by rw [eA]; exact (fo i hi).kp hf k (hF i hi), by rw [k.1]; exact rr, len⟩
  rw [eA]
  rcases m3 i hi with z | ⟨z1, z2⟩
  · exact Or.inl z
  · exact Or.inr ⟨by rw [k.t (hf.lt z1)]; exact z1, z2⟩
theorem RF.ws (hf : WF D σ) (ht : tg_ σ q = 8 ∨ tg_ σ q = 10) : WS D σ (fun z => z = q) := by
  intro z hz
  subst hz
  refine ⟨by rcases ht with h | h <;> rw [h] <;> decide, fun y => (by rcases ht with h | h <;> rw [h] at y <;> cases y), fun y => ?_⟩
  rw [y, hf.2.2.1] at ht
  rcases ht with h | h <;> cases h
theorem RF.wf (hf : WF D σ) (ht : tg_ σ q = 8 ∨ tg_ σ q = 10) (f : RF q σ τ) : WF D τ := hf.same (S := False) f.kp (RF.ws hf ht) f.1 f.2.2.2.2.2.2.1 f.2.1
theorem FrR.step (h : FrR σ0 σ r) (k : Kp False W σ τ) (hw : ∀ q, q < nx_ σ0 → W q → WRd σ0 r q) (h1 : fR_ τ 10 1 (r + 1) = fR_ σ 10 1 (r + 1) ∨ nx_ σ ≤ fR_ τ 10 1 (r + 1)) (h2 : ∀ i, i < 31 → aR_ τ (r + 2) i = aR_ σ (r + 2) i ∨ nx_ σ ≤ aR_ τ (r + 2) i) : FrR σ0 τ r := by
  obtain ⟨a1, a2, a3, a4⟩ := h
  have hn := a1.2.1
  refine ⟨a1.trans k hw, ?_, fun i hi => ?_, a4⟩
  · rcases h1 with e | e
    · rw [e]; exact a2
    · right; omega
  · rcases h2 i hi with e | e
    · rw [e]; exact a3 i hi
    · right; omega
theorem FrR.refl (h : r + 3 < nx_ σ) : FrR σ σ r := ⟨Kp.refl, Or.inl rfl, fun _ _ => Or.inl rfl, h⟩
theorem BR.bu {i j : Nat} (h : BR D σ0 σ r md n B St Df F c) : BR D σ0 (bu_ σ i j) r md n B St Df F c := h
/-- numbers of the reader -/
theorem BR.rf (h : BR D σ0 σ r md n B St Df F c) (f : RF r σ τ) : BR D σ0 τ r md n B St Df F c := by
  obtain ⟨⟨hf, ⟨hc, hmd, hp, hl, la, fo, rr, len⟩, hm, hmr, hD⟩, fr⟩ := h
  have t8 := hc.1
  have hf' := RF.wf hf (Or.inl t8) f
  have hm' := hm.rf t8 f
  have hc' := hc.rf f
  have n1 : r + 1 ≠ r := by omega
  obtain ⟨f1, f2, f3, f4, f5, f6, f7, f8, f9, f10, f11, f12⟩ := id f
  refine ⟨⟨hf', ⟨hc', ?_, by rw [f1, f3]; exact hp, ?_, by rw [f2, f10]; exact la, fun i hi => ?_, by rw [f10]; exact rr, len⟩, hm', hmr, by rw [f7]; exact hD⟩, fr.step f.kp (fun q _ z => Or.inl (by omega)) (Or.inl (by rw [f2])) (fun i _ => Or.inl (by rw [f6]))⟩
  · unfold RMd at hmd ⊢
    rw [f1, f3, f6]; exact hmd
  · have e : rfs τ r F.length = rfs σ r F.length := rfs_c (fun i _ => by rw [f6])
    rw [e]
    unfold Lst at hl ⊢
    rw [f1, f10, f2, f3, f6, f11 _ _ _ n1]; exact hl
  · rw [f6]
    have g := fo i hi
    have ne : aR_ σ (r + 2) i ≠ r := fun z => by have := g.1; rw [z, t8] at this; cases this
    unfold FoA at g ⊢
    rw [f1, f11 _ _ _ ne, f11 _ _ _ ne, f11 _ _ _ ne, f11 _ _ _ ne, f11 _ _ _ ne, f12 _ _ _ ne]; exact g
/-- numbers of a found node that is not yet in the list -/
theorem BR.rfF (h : BR D σ0 σ r md n B St Df F c) {i : Nat} (hi : F.length ≤ i) (hi2 : i < 31) (hq : q = aR_ σ (r + 2) i) (h0 : tg_ σ q = 10) (f : RF q σ τ) : BR D σ0 τ r md n B St Df F c := by
  obtain ⟨⟨hf, ⟨hc, hmd, hp, hl, la, fo, rr, len⟩, hm, hmr, hD⟩, fr⟩ := h
  have t8 := hc.1
  have q0 : q ≠ 0 := fun z => by rw [z, hf.2.2.1] at h0; cases h0
  have hf' := RF.wf hf (Or.inr h0) f
  have n1 : r + 1 ≠ q := fun z => by have := hl.1; rw [z, h0] at this; cases this
  have n0 : r ≠ q := fun z => by rw [z, h0] at t8; cases t8
  have hm' : MdA D τ md n B St Df := by
    have hne : md ≠ q := fun e => by
      have := hm.tag
      rw [e, h0] at this; cases this
    unfold MdA at hm ⊢
    rw [f.1, f.2.1, f.2.2.1, f.2.2.2.1, f.2.2.2.2.2.2.2.2.2.1, f.2.2.2.2.2.2.2.2.2.2.1 _ _ _ hne]; exact hm
  obtain ⟨f1, f2, f3, f4, f5, f6, f7, f8, f9, f10, f11, f12⟩ := id f
  refine ⟨⟨hf', ⟨by unfold RdC at hc ⊢; rw [f1, f2]; exact hc, ?_, by rw [f1, f3]; exact hp, ?_, by rw [f2, f10]; exact la, fun j hj => ?_, by rw [f10]; exact rr, len⟩, hm', hmr, by rw [f7]; exact hD⟩, fr.step f.kp (fun z hz e => ?_) (Or.inl (by rw [f2])) (fun i _ => Or.inl (by rw [f6]))⟩
  · unfold RMd at hmd ⊢
    rw [f1, f3, f6]; exact hmd
  · have e : rfs τ r F.length = rfs σ r F.length := rfs_c (fun i _ => by rw [f6])
    rw [e]
    unfold Lst at hl ⊢
    rw [f1, f10, f2, f3, f6, f11 _ _ _ n1]; exact hl
  · rw [f6]
    have g := fo j hj
    have ne : aR_ σ (r + 2) j ≠ q := fun z => by
      rw [hq] at z
      have := hmd.2.2.2 j i (by omega) hi2 z (by rw [z, ← hq]; exact q0)
      omega
    unfold FoA at g ⊢
    rw [f1, f11 _ _ _ ne, f11 _ _ _ ne, f11 _ _ _ ne, f11 _ _ _ ne, f11 _ _ _ ne, f12 _ _ _ ne]; exact g
  · refine Or.inr (Or.inr ⟨i, hi2, ?_, by rw [e]; exact q0⟩)
    rcases fr.2.2.1 i hi2 with y | y
    · rw [e, hq, y]
    · omega
/-- a found node is made -/
theorem BR.mk (h : BR D σ0 σ r md n B St Df F c) {i : Nat} (hi : F.length ≤ i) (hi2 : i < 31) (h0 : aR_ σ (r + 2) i = 0) (e : τ = wR_ (mO_ σ 9 6) (r + 2) i (nx_ σ)) : BR D σ0 τ r md n B St Df F c ∧ aR_ τ (r + 2) i = nx_ σ ∧ tg_ τ (nx_ σ) = 10 := by
  obtain ⟨⟨hf, hS, hm, hmr, hD⟩, fr⟩ := h
  obtain ⟨hc, hmd, hp, hl, la, fo, rr, len⟩ := id hS
  have l2 := hf.lt hmd.1
  have l1 := hf.lt hl.1
  have l0 := hf.lt hc.1
  have l3 := hf.lt hp.1
  have n0 : 0 < nx_ σ := by have := hf.2.1; omega
  have hf1 : WF D (mO_ σ 9 6) := hf.mO
  have k1 : Kp False (fun _ => False) σ (mO_ σ 9 6) := Kp.mO' Kp.refl
  have k2 : Kp False (fun z => z = r + 2) σ τ := by rw [e]; exact Kp.wR' (Kp.mO' Kp.refl) (Or.inl rfl)
  have ta : aR_ τ (r + 2) i = nx_ σ := by rw [e, aaR_wR, u2_e]
  have tb : ∀ j, j ≠ i → aR_ τ (r + 2) j = aR_ σ (r + 2) j := fun j hj => by rw [e, aaR_wR, u2_i hj, aaR_mO]
  have tn : tg_ τ (nx_ σ) = 10 := by rw [e]; show tg_ (mO_ σ 9 6) _ = _; rw [atg_mO, u1_e]
  have hws : WS D (mO_ σ 9 6) (fun z => z = r + 2) := by
    intro z hz
    subst hz
    have : tg_ (mO_ σ 9 6) (r + 2) = 105 := by rw [k1.t l2]; exact hmd.1
    exact ⟨by rw [this]; decide, fun y => (by rw [this] at y; cases y), by omega⟩
  have hf' : WF D τ := by
    have kk : Kp False (fun z => z = r + 2) (mO_ σ 9 6) τ := by rw [e]; exact Kp.wR' Kp.refl (Or.inl rfl)
    exact hf1.same kk hws (by rw [e]; rfl) (by rw [e]; rfl) (by rw [e]; rfl)
  have eR : rfs τ r F.length = rfs σ r F.length := rfs_c (fun j hj => tb j (by omega))
  have w1 : ¬ (r + 1 = r + 2) := by omega
  have wl : ¬ (fR_ σ 10 1 (r + 1) = r + 2) := fun z => by have := hl.2.2.1; rw [z, hmd.1] at this; cases this
  refine ⟨⟨⟨hf', ⟨?_, ⟨by rw [k2.t l2]; exact hmd.1, by rw [k2.n l2]; exact hmd.2.1, fun j hj => ?_, fun j j' hj hj' he hz => ?_⟩, ⟨by rw [k2.t l3]; exact hp.1, by rw [k2.n l3]; exact hp.2⟩, ?_, by rw [k2.r l1 w1, k2.1]; exact la, fun j hj => ?_, by rw [k2.1]; exact rr, len⟩, ?_, hmr, by have := k2.2.1; omega⟩, ?_⟩, ta, tn⟩
  · have w0 : ¬ (r = r + 2) := by omega
    exact ⟨by rw [k2.t l0]; exact hc.1, by rw [k2.r l0 w0]; exact hc.2.1, by rw [k2.r l0 w0]; exact hc.2.2.1, by rw [k2.r l0 w0]; exact hc.2.2.2.1, by rw [k2.r l0 w0]; exact hc.2.2.2.2⟩
  · by_cases ej : j = i
    · rw [ej, ta]; exact Or.inr ⟨tn, hD⟩
    · rw [tb j ej]
      rcases hmd.2.2.1 j hj with z | ⟨z1, z2⟩
      · exact Or.inl z
      · exact Or.inr ⟨by rw [k2.t (hf.lt z1)]; exact z1, z2⟩
  · have old : ∀ j, j < 31 → j ≠ i → aR_ σ (r + 2) j ≠ nx_ σ := by
      intro j hj _ z
      rcases hmd.2.2.1 j hj with y | ⟨y, _⟩
      · omega
      · have := hf.lt y; omega
    by_cases ej : j = i
    · by_cases ej' : j' = i
      · omega
      · rw [ej, ta, tb j' ej'] at he
        exact absurd he.symm (old j' hj' ej')
    · by_cases ej' : j' = i
      · rw [ej', ta, tb j ej] at he
        exact absurd he (old j hj ej)
      · rw [tb j ej, tb j' ej'] at he
        rw [tb j ej] at hz
        exact hmd.2.2.2 j j' hj hj' he hz
  · rw [eR]
    exact hl.kp hf k2 w1 wl (by omega) (hl.lt hf (by decide))
  · rw [tb j (by omega)]
    exact (fo j hj).kp hf k2 (fun z => by have := (fo j hj).1; rw [z, hmd.1] at this; cases this)
  · exact hm.kp hf k2 (by omega) (by omega) (by omega) (by omega)
  · refine fr.step k2 (fun z _ hz => Or.inl (by omega)) (Or.inl (k2.r l1 w1)) (fun j hj => ?_)
    by_cases ej : j = i
    · right; rw [ej, ta]; exact Nat.le_refl _
    · left; exact tb j ej
/-- a found node joins the list -/
theorem BR.add {f : FT} (h : BR D σ0 σ r md n B St Df F c) (hF : FoA σ (aR_ σ (r + 2) F.length) f) (hl30 : F.length < 30) (hA : Add D σ τ 10 (r + 1) (rfs σ r F.length) c (aR_ σ (r + 2) F.length)) : BR D σ0 τ r md n B St Df (F ++ [f]) (capA (rfs σ r F.length) c) := by
  obtain ⟨⟨hf, hS, hm, hmr, hD⟩, fr⟩ := h
  obtain ⟨hc, hmd, hp, hl, la, fo, rr, len⟩ := id hS
  obtain ⟨A1, A2, A3, A4, A5⟩ := hA
  have l0 := hf.lt hc.1
  have l1 := hf.lt hl.1
  have l2 := hf.lt hmd.1
  have l3 := hf.lt hp.1
  have aT := hl.2.2.1
  have tn : ∀ z, tg_ σ z ≠ 11 → tg_ σ z ≠ 104 → ¬ WL σ (r + 1) z := by
    rintro z z1 z2 (e | ⟨e, _⟩)
    · rw [e] at z1; exact z1 hl.1
    · rw [e] at z2; exact z2 aT
  have w2 : ¬ WL σ (r + 1) (r + 2) := tn _ (by rw [hmd.1]; decide) (by rw [hmd.1]; decide)
  have w0 : ¬ WL σ (r + 1) r := tn _ (by rw [hc.1]; decide) (by rw [hc.1]; decide)
  have w3 : ¬ WL σ (r + 1) (r + 3) := tn _ (by rw [hp.1]; decide) (by rw [hp.1]; decide)
  have eA : ∀ j, aR_ τ (r + 2) j = aR_ σ (r + 2) j := fun j => A2.aR l2 w2
  have eR : rfs τ r (F ++ [f]).length = rfs σ r F.length ++ [aR_ σ (r + 2) F.length] := by
    rw [List.length_append, List.length_singleton, rfs_s, eA, rfs_c (fun j _ => eA j)]
  have fq : ∀ q g, FoA σ q g → FoA τ q g := fun q g hg => hg.kp hf A2 (tn _ (by rw [hg.1]; decide) (by rw [hg.1]; decide))
  refine ⟨⟨A1, ⟨?_, ⟨by rw [A2.t l2]; exact hmd.1, by rw [A2.n l2]; exact hmd.2.1, fun j hj => ?_, fun j j' hj hj' => by rw [eA, eA]; exact hmd.2.2.2 j j' hj hj'⟩, ⟨by rw [A2.t l3]; exact hp.1, by rw [A2.n l3]; exact hp.2⟩, by rw [eR]; exact A3, ?_, fun j hj => ?_, by rw [A2.1]; exact rr, by simp; omega⟩, ?_, hmr, by have := A2.2.1; omega⟩, ?_⟩
  · exact ⟨by rw [A2.t l0]; exact hc.1, by rw [A2.r l0 w0]; exact hc.2.1, by rw [A2.r l0 w0]; exact hc.2.2.1, by rw [A2.r l0 w0]; exact hc.2.2.2.1, by rw [A2.r l0 w0]; exact hc.2.2.2.2⟩
  · rw [eA]
    rcases hmd.2.2.1 j hj with z | ⟨z1, z2⟩
    · exact Or.inl z
    · exact Or.inr ⟨by rw [A2.t (hf.lt z1)]; exact z1, z2⟩
  · rw [A2.1]
    rcases A4 with z | z
    · rw [z]; exact la
    · right; omega
  · rw [eA]
    by_cases e : j < F.length
    · rw [gF_app e]; exact fq _ _ (fo j e)
    · have : j = F.length := by simp at hj; omega
      rw [this, gF_new]; exact fq _ _ hF
  · obtain ⟨⟨m1, _⟩, ⟨m2, m3, m4⟩, _⟩ := id hm
    exact hm.kp hf A2 (tn _ (by rw [m1]; decide) (by rw [m1]; decide)) (tn _ (by rw [m2]; decide) (by rw [m2]; decide)) (tn _ (by rw [m3]; decide) (by rw [m3]; decide)) (tn _ (by rw [m4]; decide) (by rw [m4]; decide))
  · refine fr.step A2 (fun z hz hW => ?_) A4 (fun j _ => Or.inl (eA j))
    rcases hW with e | ⟨e, e2⟩
    · exact Or.inl (by omega)
    · refine Or.inr (Or.inl (Or.inr ⟨?_, by rw [← fr.1.1]; exact e2⟩))
      rcases fr.2.1 with y | y
      · rw [e, y]
      · omega
end
