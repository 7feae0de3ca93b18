/-! the class: the tree changes -/
theorem tL_add {t : TT} {d : Nat} {l : List Nat} {dir size seed : Nat} : tL (tAdd t d l dir size seed) = tL t ++ [tN t] := by
  show (List.range (tN t + 1)).filter (upA (tT t) (tN t) true) = (List.range (tN t)).filter (tT t) ++ [tN t]
  rw [List.range_succ, List.filter_append]
  congr 1
  · apply List.filter_congr
    intro i hi
    exact upA_n (by have := List.mem_range.mp hi; omega)
  · simp [upA_e]
section
variable {S' : Prop} {W : Nat → Prop} {D n : Nat} {σ σ' τ υ : Hp} {x md od q la r r' m c c' : Nat} {t t' : TT} {rf : Nat → Nat} {O F F' : List FT} {S S2 : AS}
/-- what changing a tree may touch -/
def WTn (σ : Hp) (q : Nat) (t : TT) (rf : Nat → Nat) : Nat → Prop := fun z => z = q ∨ WL σ (fR_ σ 4 0 q) z ∨ ∃ k ∈ tL t, z = rf k
theorem WTn_d (ht : TrA D σ q t rf c) (hz : TZ D x σ q t rf) {z : Nat} (h : WTn σ q t rf z) : dz D x z ∧ lo_ σ < z ∨ dz D x z ∧ (tg_ σ z = 5 ∨ tg_ σ z = 6) := by
  obtain ⟨z1, z2, z3, z4⟩ := hz
  rcases h with e | e | ⟨k, hk, e⟩
  · rw [e]; exact Or.inr ⟨z1, Or.inl ht.1⟩
  · rcases e with e | ⟨e, e2⟩
    · rw [e]; exact Or.inl ⟨z2, ht.2.2.1.2.1⟩
    · rw [e] at e2 ⊢; exact Or.inl ⟨z3, e2⟩
  · rw [e]; exact Or.inr ⟨z4 k hk, Or.inr (ht.2.2.2 k hk).1⟩
theorem WTn_t (ht : TrA D σ q t rf c) {z : Nat} (h : WTn σ q t rf z) : tg_ σ z = 5 ∨ tg_ σ z = 6 ∨ (tg_ σ z = 11 ∧ z = fR_ σ 4 0 q) ∨ (tg_ σ z = 104 ∧ fR_ σ 10 1 (fR_ σ 4 0 q) = z ∧ lo_ σ < z) := by
  rcases h with e | e | ⟨k, hk, e⟩
  · rw [e]; exact Or.inl ht.1
  · rcases e with e | ⟨e, e2⟩
    · rw [e]; exact Or.inr (Or.inr (Or.inl ⟨ht.2.2.1.1, rfl⟩))
    · rw [e] at e2 ⊢; exact Or.inr (Or.inr (Or.inr ⟨ht.2.2.1.2.2.1, rfl, e2⟩))
  · rw [e]; exact Or.inr (Or.inl (ht.2.2.2 k hk).1)
theorem CJ.tree (h : CJ D σ x md od q S) (ht : TrA D σ q (sT S) rf c) (hz : TZ D x σ q (sT S) rf) (k : Kp False (WTn σ q (sT S) rf) σ τ) (hf' : WF D τ) (hT : CT D τ x q t') : CJ D τ x md od q (wT S t') ∧ Cf D x σ τ := by
  obtain ⟨hf, hz', hx, hb, hp, hmd, ⟨Bo, Sto, Dfo, hod⟩, _, hr⟩ := h
  have hm' := hz'.2.1
  have hzz := hz'.1
  obtain ⟨hb1, ⟨f, hpg⟩, R, ct, htb⟩ := id hb
  have zd := fun z h => WTn_d (z := z) ht hz h
  have zt := fun z h => WTn_t (z := z) ht h
  have z2 : dz D x (fR_ σ 4 0 q) := hz.2.1
  unfold dz at zd z2
  have w0 : ¬ WTn σ q (sT S) rf 0 := fun y => by have := zd _ y; have := hz'.1.2.1; omega
  have nt : ∀ z, tg_ σ z ≠ 5 → tg_ σ z ≠ 6 → tg_ σ z ≠ 11 → tg_ σ z ≠ 104 → ¬ WTn σ q (sT S) rf z := fun z h1 h2 h3 h4 y => by
    rcases zt z y with e | e | e | e
    · exact h1 e
    · exact h2 e
    · exact h3 e.1
    · exact h4 e.1
  have nb : ∀ z, x ≤ z → z ≤ D → ¬ (x + 6 ≤ z ∧ z ≤ x + 9) → ¬ WTn σ q (sT S) rf z := fun z h1 h2 h3 y => by
    have := zd z y; omega
  refine ⟨⟨hf', hz'.kp hf k, hx.kp hf k (nb _ (by omega) (by omega) (by omega)), hb.kp hf k w0 (fun z a b => nb _ (by omega) (by omega) (by omega)) (fun y => ?_), hp.kp hf k (nb _ (by omega) (by omega) (by omega)), hmd.kp hf k (nb _ (by omega) (by omega) (by omega)) (nb _ (by omega) (by omega) (by omega)) (nb _ (by omega) (by omega) (by omega)) (nb _ (by omega) (by omega) (by omega)), ⟨Bo, Sto, Dfo, hod.kp hf k (nb _ (by omega) (by omega) (by omega)) (nb _ (by omega) (by omega) (by omega)) (nb _ (by omega) (by omega) (by omega)) (nb _ (by omega) (by omega) (by omega))⟩, hT, hr.ow hf k w0 (fun z a b => nb _ (by omega) (by omega) (by omega)) (fun z a y => ?_) (fun z y a => ?_)⟩, k.cf (fun z y => ?_)⟩
  · rcases zt _ y with e | e | e | e
    · rw [htb.1.2.2.1] at e; cases e
    · rw [htb.1.2.2.1] at e; cases e
    · rw [htb.1.2.2.1] at e; cases e.1
    · have := hf.2.2.2.2.2.2.2 (fR_ σ 4 0 q) (x + 3) ht.2.2.1.1 htb.1.1 (by omega) e.2.1
      omega
  · rcases zt _ y with e | e | e | e
    · rw [a] at e; cases e
    · rw [a] at e; cases e
    · rw [a] at e; cases e.1
    · rw [a] at e; cases e.1
  · rcases zt _ y with e | e | e | e
    · rw [a] at e; cases e
    · rw [a] at e; cases e
    · rw [a] at e; cases e.1
    · exact ⟨fR_ σ 4 0 q, ht.2.2.1.1, e.2.1, e.2.2, by omega⟩
  · have := zd z y; omega
/-- readers stay while the tree changes -/
theorem CJ.treeR (h : CJ D σ x md od q S) (ht : TrA D σ q (sT S) rf c) (hz : TZ D x σ q (sT S) rf) (k : Kp False (WTn σ q (sT S) rf) σ τ) (a : x + 18 ≤ r) (b : r ≤ x + 26) (hS : RdS D σ r m F c') : RdS D τ r m F c' := by
  obtain ⟨hf, hz', hx, hb, hp, hmd, hod, _, hr⟩ := h
  have zd := fun z h => WTn_d (z := z) ht hz h
  have zt := fun z h => WTn_t (z := z) ht h
  have z2 : dz D x (fR_ σ 4 0 q) := hz.2.1
  unfold dz at zd z2
  have hzz := hz'.1
  refine hS.ow hf k (fun y => by have := zd _ y; omega) (fun z a b y => by have := zd _ y; have := hS.2.2.2.2.2.2.1; omega) (fun z t10 y => ?_) (fun z y t104 => ?_)
  · rcases zt _ y with e | e | e | e
    · rw [t10] at e; cases e
    · rw [t10] at e; cases e
    · rw [t10] at e; cases e.1
    · rw [t10] at e; cases e.1
  · rcases zt _ y with e | e | e | e
    · rw [t104] at e; cases e
    · rw [t104] at e; cases e
    · rw [t104] at e; cases e.1
    · exact ⟨fR_ σ 4 0 q, ht.2.2.1.1, e.2.1, e.2.2, by omega⟩
/-- things are made -/
theorem CJ.made (h : CJ D σ x md od q S) (k : Kp False (fun _ => False) σ τ) (hf' : WF D τ) : CJ D τ x md od q S ∧ Cf D x σ τ := by
  obtain ⟨hf, hz, hx, hb, hp, hmd, ⟨Bo, Sto, Dfo, hod⟩, ht, hr⟩ := h
  have hs : Sx D σ (fun _ => False) := fun z y => y.elim
  exact ⟨⟨hf', hz.kp hf k, hx.kp hf k (fun z => z), hb.sx hf k hs (fun _ _ _ z => z), hp.kp hf k (fun z => z), hmd.kp hf k (fun z => z) (fun z => z) (fun z => z) (fun z => z), ⟨Bo, Sto, Dfo, hod.kp hf k (fun z => z) (fun z => z) (fun z => z) (fun z => z)⟩, ht.sx hf k hs, hr.sx hf k hs (fun _ _ _ z => z)⟩, k.cf (fun _ z => z.elim)⟩
theorem CJ.bu {a b : Nat} (h : CJ D σ x md od q S) : CJ D (bu_ σ a b) x md od q S := h
theorem TZ.add {k' y : Nat} (h : TZ D x σ q t rf) (hL : tL t' = tL t ++ [k']) (hn : k' ∉ tL t) (h1 : fR_ τ 4 0 q = fR_ σ 4 0 q) (h2 : fR_ τ 10 1 (fR_ σ 4 0 q) = fR_ σ 10 1 (fR_ σ 4 0 q) ∨ D < fR_ τ 10 1 (fR_ σ 4 0 q)) (hy : D < y) : TZ D x τ q t' (upA rf k' y) := by
  obtain ⟨z1, z2, z3, z4⟩ := h
  refine ⟨z1, by rw [h1]; exact z2, ?_, fun k hk => ?_⟩
  · rw [h1]
    rcases h2 with e | e
    · rw [e]; exact z3
    · exact Or.inr e
  · rw [hL] at hk
    rcases List.mem_append.mp hk with z | z
    · rw [upA_n (fun e => hn (by rw [← e]; exact z))]; exact z4 k z
    · simp at z
      rw [z, upA_e]; exact Or.inr hy
theorem isDir_c (h : CJ D σ x md od q S) (ok : AOK S) (v : Int32) {post : Int32 → Prop} (k1 : ∀ d, d ∈ tL (sT S) → v = nI d → nodeOf (sT S) v = some d → tD (sT S) d = 1 → post 1) (k0 : (nodeOf (sT S) v = none ∨ ∃ d, nodeOf (sT S) v = some d ∧ tD (sT S) d ≠ 1) → post 0) : wX1_isDirectory x v σ post := by
  obtain ⟨hf, hz, hx, hb, hp, hmd, hod, ⟨rf, c, ht, htz⟩, hr⟩ := id h
  have hT := ok.2.1
  unfold wX1_isDirectory
  rw [hx.2.2.2.2.2.1]
  refine ⟨hx.1, ht.1, ?_⟩
  rcases nodeOf_cases hT v with ⟨d, hd, ev, en⟩ | ⟨hno, en⟩
  · subst ev
    have dd := root_D hT (mem_tL.mp hd).1 (mem_tL.mp hd).2
    refine c_findK ht hT hd (fun tg => ⟨fun w => ?_, fun _ => c_findK ht hT hd (fun _ => ⟨tg, ?_⟩)⟩)
    · rw [w, hf.2.2.1] at tg; cases tg
    · rw [(ht.2.2.2 d hd).2.2.1, li_0, nI_eq (by omega) (by decide)]
      exact ⟨fun w => k0 (Or.inr ⟨d, en, by omega⟩), fun w => k1 d hd rfl en (by omega)⟩
  · exact c_find ht v (fun d hd e _ => absurd e.symm (hno d hd)) (fun _ => ⟨fun _ => k0 (Or.inl en), fun w => absurd rfl w⟩)
/-- why a node can't be made -/
def hinC (S : AS) (d dir : Nat) (l : List Nat) (right : Prop) : Prop := ¬ right ∨ tD (sT S) d ≠ 1 ∨ l = [] ∨ (dir = 1 ∧ dep (sT S) d = 6)
theorem nmd_c (hT : TOK n t) {d : Nat} (hd : d ∈ tL t) {l : List Nat} {but : Int32} {b : Nat} (hb : ∀ k ∈ tL t, nI k ≠ but ↔ (0 < k → k ≠ b)) : (∃ k ∈ tL t, tP t k = d ∧ nI k ≠ but ∧ tM t k = l) ↔ nmd t d l b := by
  unfold nmd
  have dl := tL_lt hT hd
  constructor
  · rintro ⟨k, h1, h2, h3, h4⟩
    have h0 : 0 < k := by
      rcases Nat.eq_zero_or_pos k with e | e
      · rw [e, hT.2.1.2.2.1] at h2; omega
      · exact e
    exact ⟨k, h1, h0, (hb k h1).mp h3 h0, h2, h4⟩
  · rintro ⟨k, h1, h0, h3, h2, h4⟩
    exact ⟨k, h1, h2, (hb k h1).mpr (fun _ => h3), h4⟩
theorem c_hind (h : CJ D σ x md od q S) (ok : AOK S) {v : Int32} {s dir : Nat} {l : List Nat} (hs : Str D σ s l) (hdir : dir ≤ 1) {x4 : Int32} {right : Prop} (hr4 : x4 = 0 ↔ ¬ right) {post : Int32 → Prop}
    (kL : sLo S = true → post (-4)) (k2 : sLo S = false → nodeOf (sT S) v = none → post (-2)) (k2' : ∀ d, sLo S = false → nodeOf (sT S) v = some d → hinC S d dir l right → post (-2))
    (k5 : ∀ d, sLo S = false → nodeOf (sT S) v = some d → ¬ hinC S d dir l right → nmd (sT S) d l 0 → post (-5)) (k3 : ∀ d, sLo S = false → nodeOf (sT S) v = some d → ¬ hinC S d dir l right → ¬ nmd (sT S) d l 0 → (tL (sT S)).length = 30 → post (-3))
    (k0 : ∀ d, d ∈ tL (sT S) → v = nI d → sLo S = false → nodeOf (sT S) v = some d → ¬ hinC S d dir l right → ¬ nmd (sT S) d l 0 → (tL (sT S)).length ≠ 30 → post 0) : wX1_hindrance x v s (nI dir) x4 σ post := by
  obtain ⟨hf, hz, hx, hb, hp, hmd, hod, ⟨rf, c, ht, htz⟩, hr⟩ := id h
  have hT := ok.2.1
  have l30 := hT.1.2.2
  unfold wX1_hindrance
  rw [hx.2.1, hx.2.2.2.2.2.1, hp.2.2.2]
  have e0 : b2 (bLo (sBS S)) = 0 ↔ sLo S = false := b2_0
  rw [e0]
  refine ⟨hx.1, hp.1, fun lo => isDir_c h ok v (fun d hd ev en hd1 => ⟨fun w => absurd w (by decide), fun _ => ⟨hs.1, s_length hs ?_⟩⟩) (fun hno => ⟨fun _ => ?_, fun w => absurd rfl w⟩), fun lo => kL (by cases hh : sLo S with | true => rfl | false => exact absurd hh lo)⟩
  rotate_left
  · rcases hno with e | ⟨d, e1, e2⟩
    · exact k2 lo e
    · exact k2' d lo e1 (Or.inr (Or.inl e2))
  have hl8 : l.length < 1000 := hs.2.2.2.2.2.2.2
  rw [li_0, nI_eq (by omega) (by decide), nI_eq (by omega) (by decide)]
  refine ⟨fun w => k2' d lo en (Or.inr (Or.inr (Or.inl (List.length_eq_zero_iff.mp w)))), fun w => ⟨fun u => k2' d lo en (Or.inl (hr4.mp u)), fun u => ?_⟩⟩
  have hright : right := Classical.not_not.mp (fun y => u (hr4.mpr y))
  have L53 : (dir = 1 → dep (sT S) d ≠ 6) → wX1_hindrance_L53 post x v s σ := by
    intro hdp
    have hnc : ¬ hinC S d dir l right := by
      rintro (y | y | y | y)
      · exact y hright
      · exact y hd1
      · rw [y] at w; exact w rfl
      · exact hdp y.1 y.2
    unfold wX1_hindrance_L53
    rw [hx.2.2.2.2.2.1, ev]
    have key := nmd_c (l := l) (but := -1) (b := 0) hT hd (fun k hk => by
      have := tL_lt hT hk
      refine ⟨fun _ h0 => by omega, fun _ e => ?_⟩
      have : nI k = nI 4294967295 := e
      rw [nI_eq32 (by omega) (by decide)] at this
      omega)
    refine ⟨hx.1, ht.1, c_named ht hT (by have := tL_lt hT hd; omega) hs (-1) (fun y => ⟨fun w => absurd w (by decide), fun _ => k5 d lo en hnc (key.mp y)⟩) (fun y => ⟨fun _ => ⟨ht.2.2.1.1, l_size ht.2.2.1 ?_⟩, fun w => absurd rfl w⟩)⟩
    have hnn : ¬ nmd (sT S) d l 0 := fun z => y (key.mpr z)
    rw [List.length_map, show (30 : Int32) = nI 30 from rfl, nI_eq (by omega) (by decide)]
    exact ⟨fun z => k0 d hd ev lo en hnc hnn z, fun z => k3 d lo en hnc hnn z⟩
  refine ⟨fun y => L53 (fun z => by omega), fun y => ?_⟩
  have dl := dep_7 hT (mem_tL.mp hd).1 (mem_tL.mp hd).2
  rw [ev]
  refine ⟨ht.1, c_depth ht hT hd ?_⟩
  rw [show (6 : Int32) = nI 6 from rfl, nI_eq (by omega) (by decide)]
  exact ⟨fun z => by rw [← ev]; exact L53 (fun _ => z), fun z => k2' d lo en (Or.inr (Or.inr (Or.inr ⟨by omega, z⟩)))⟩
end
