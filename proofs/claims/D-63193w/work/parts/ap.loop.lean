/-! the law's loop and its start -/
section
variable {D x sc L j : Nat} {xs : Nat → Int32} {SC : Hp → Prop} {rc : Int32 → Hp → Prop} {S S2 : AS} {σ τ υ : Hp} {post : Int32 → Hp → Prop}
theorem LE.next0 (h : LE D x sc L xs j SC rc S σ) : wL_law_L1000 SC post rc sc x (x + 31) D (nI (1 + 6 * j)) σ := by
  intro y e
  have : y = nI (1 + 6 * (j + 1)) := by rw [e, show (6 : Int32) = nI 6 from rfl, nI_add]; congr 1
  rw [this]
  obtain ⟨hSC, V, I, t, ⟨hj, hL⟩, ⟨b1, b2⟩, hr⟩ := h
  have h9 : 64 - (j + 1) ≤ 64 - j := by omega
  exact hr σ ⟨S, V, I.up (by omega), t, Nat.le_trans (Nat.mul_le_mul_right _ h9) b1, Nat.le_trans (Nat.mul_le_mul_right _ h9) b2⟩
theorem ltL {k : Nat} (hL : L ≤ 385) (hk : k < 2000) : (nI L - (6 : Int32) < nI k) ↔ L < k + 6 := by
  have e : ((L : Int) - 6).bmod (2 ^ 32) = (L : Int) - 6 := by rw [Int.bmod_def]; omega
  rw [Int32.lt_iff_toInt_lt, Int32.toInt_sub, nI_toInt (by omega), nI_toInt (by omega), show (6 : Int32).toInt = 6 from rfl, e]
  omega
set_option maxRecDepth 4000 in
theorem law_loop (hSC : ∀ s, SC s → tg_ s sc = 102 → ln_ s sc = L → ∀ i, i < L → aI_ s sc i = xs i) (hL : L ≤ 385) (h : LI D x sc L xs 0 σ) : wL_law_L33 SC (fun r _ => r = 1) sc x (x + 31) D 1 σ := by
  unfold wL_law_L33
  refine lpG2 (B := fun R y s => wL_law_B33 SC (fun r _ => r = 1) R sc x (x + 31) D y s) (fun jj y s => ∃ j, jj + j = 64 ∧ y = nI (1 + 6 * j) ∧ LI D x sc L xs j s) 64 ⟨0, rfl, rfl, h⟩ ?_
  rintro jj y s R ⟨j, g1, rfl, S, V, I, t, b1, b2⟩ hR
  unfold wL_law_B33
  rw [V.2.2.2.1.2.1]
  refine ⟨V.2.2.2.1.1, fun _ => rfl, fun w => ?_⟩
  rw [ltL hL (by omega)] at w
  have hj : 7 + 6 * j ≤ L := by omega
  refine ⟨(vin_ (by omega)).mpr (by omega), fun y3 _ => ?_⟩
  have E : LE D x sc L xs j SC R S s := ⟨hSC, V, I, t, ⟨hj, hL⟩, ⟨b1, b2⟩, fun s' h' => hR (63 - j) _ s' (by omega) ⟨j + 1, by omega, rfl, h'⟩⟩
  exact ⟨fun _ => E.next0, fun _ => L_defect E, fun _ => L_power E, fun _ => L_directory E, fun _ => L_file E, fun _ => L_replace E, fun _ => L_remove E, fun _ => L_rename E, fun _ => L_commit E, fun _ => L_discover E, fun _ => L_compact E, fun _ => L_state E, fun _ => L_byteAt E, fun _ => L_spoil E, fun _ => L_writes E, fun _ => L_mark E, fun _ => L_open E, fun _ => L_node E, fun _ => L_name E, fun _ => L_read E, fun _ => L_tree E⟩
theorem c_cell (h1 : tg_ σ sc = 102) (h2 : ln_ σ sc = L) (hL : L ≤ 385) {v : Int32} (hv : v = if L = 0 then 0 else aI_ σ sc 0) {post : Int32 → Prop} (k : post v) : wX0_cell sc 0 σ post := by
  unfold wX0_cell
  rw [h2, li_0, nI_leI (by omega) (by omega)]
  refine ⟨h1, fun w => ?_, fun w => ⟨(vin_ (by omega)).mpr (by omega), ?_⟩⟩
  · rw [hv, if_pos (by omega)] at k; exact k
  · rw [hv, if_neg (by omega)] at k; exact k
theorem WF.bel (hf : WF D σ) (hn : nx_ σ = x + 31) (hB : Bel (x + 31) σ τ) (hM : MW τ (x + 31)) (hnx : nx_ τ = x + 60) (h1 : ∀ r, tg_ τ r ≠ 0 → r < nx_ τ) : Kp False (fun _ => False) σ τ ∧ WF D τ := by
  have k : Kp False (fun _ => False) σ τ := by
    refine ⟨hB.1, by omega, fun r hr => ?_, fun r hr _ => ?_⟩
    · have z := hB.2 r (by omega)
      exact ⟨z.1, z.2.1⟩
    · have z := hB.2 r (by omega)
      exact ⟨fun c k _ => z.2.2.1 c k, z.2.2.2.1, z.2.2.2.2.1, z.2.2.2.2.2.1, z.2.2.2.2.2.2.1, z.2.2.2.2.2.2.2⟩
  refine ⟨k, hf.kp k (fun r w => w.elim) h1 (fun r hr => ?_) (fun r hr => k.r (hf.lt hr) (fun w => w))⟩
  have hl := h1 r (by rw [hr]; decide)
  by_cases hlt : r < nx_ σ
  · exact hlt
  · have := hM.tg (z := r) (by omega) (by omega)
    omega
set_option maxRecDepth 4000 in
theorem law_ok (hSC : ∀ s, SC s → tg_ s sc = 102 → ln_ s sc = L → ∀ i, i < L → aI_ s sc i = xs i) (hS2 : ∀ s, SC s → ∀ r, tg_ s r ≠ 0 → r < nx_ s) (hL : L ≤ 385) (hx : nx_ σ = x) (hlo : lo_ σ < x) (hf : WF (x + 60) σ) (h1 : tg_ σ sc = 102) (h2 : ln_ σ sc = L) (h3 : sc ≤ lo_ σ) (h4 : ∀ i, i < L → aI_ σ sc i = xs i) (hb1 : bc_ σ = 600128) (hb2 : bs_ σ = 7301064) : wL_law SC sc σ (fun r _ => r = 1) := by
  obtain ⟨v, hv⟩ : ∃ v : Int32, v = if L = 0 then 0 else xs 0 := ⟨_, rfl⟩
  have cell : ∀ s, tg_ s sc = 102 → ln_ s sc = L → (∀ i, i < L → aI_ s sc i = xs i) → ∀ {post : Int32 → Prop}, post v → wX0_cell sc 0 s post := fun s a b d post k => c_cell a b hL (by
    rw [hv]
    by_cases e : L = 0
    · rw [if_pos e, if_pos e]
    · rw [if_neg e, if_neg e, d 0 (by omega)]) k
  unfold wL_law
  rw [hx]
  refine ⟨by omega, by omega, fun s1 e1 => ?_⟩
  have k1 : Kp False (fun _ => False) σ s1 := by rw [e1]; exact Kp.mO' Kp.refl
  have f1 : WF (x + 60) s1 := by rw [e1]; exact hf.mO
  have n1 : nx_ s1 = x + 1 := by rw [e1, ← hx]; rfl
  have t1 : tg_ s1 x = 1 := by rw [e1, ← hx, atg_mO, u1_e]
  have z1 : fI_ s1 0 9 x = 0 := by rw [e1, ← hx]; show z3_ (fI_ σ) (nx_ σ) 0 0 9 (nx_ σ) = 0; simp [z3_]
  have c1 : bc_ s1 = 600127 := by rw [e1]; show bc_ σ - 1 = _; omega
  have d1 : bs_ s1 = 7301053 := by rw [e1]; show bs_ σ - 11 = _; omega
  have ls : sc < nx_ σ := by omega
  have a1 : tg_ s1 sc = 102 := by rw [k1.t ls]; exact h1
  have b1 : ln_ s1 sc = L := by rw [k1.n ls]; exact h2
  have ls1 : sc < nx_ s1 := by omega
  have l1 : lo_ s1 = lo_ σ := k1.1
  obtain ⟨mc, hmc⟩ : ∃ m, m = 30 := ⟨_, rfl⟩
  obtain ⟨ms, hms⟩ : ∃ m, m = 822838 := ⟨_, rfl⟩
  refine cell s1 a1 b1 (fun i hi => by rw [k1.a ls (fun w => w)]; exact h4 i hi) ⟨t1, mc, ms, by omega, by omega, ?_⟩
  refine C_init (σ := bu_ s1 mc ms) (D := x + 60) f1 t1 n1 (by show lo_ s1 < x; omega) (by omega) z1 (by show 30 ≤ mc; omega) (by show 822838 ≤ ms; omega) (fun s3 f3 n3 k3 cl s4 e4 g4 y4 hy4 => ?_)
  rw [hy4]
  have k3' : Kp False (fun z => z = x) s1 s3 := k3
  have f4 : WF (x + 60) s4 := by rw [e4]; exact f3
  have n4 : nx_ s4 = x + 31 := by rw [e4]; exact n3
  have c4 : bc_ s4 = 600097 := by rw [e4]; show bc_ s1 - mc = _; omega
  have d4 : bs_ s4 = 6478215 := by rw [e4]; show bs_ s1 - ms = _; omega
  have k4 : Kp False (fun z => z = x) s1 s4 := by rw [e4]; exact k3'.bu'
  have a4 : tg_ s4 sc = 102 := by rw [k4.t ls1]; exact a1
  have b4 : ln_ s4 sc = L := by rw [k4.n ls1]; exact b1
  have l4 : lo_ s4 = lo_ σ := by rw [k4.1]; exact l1
  refine ⟨by omega, by omega, fun s5 e5 => ?_⟩
  rw [n4]
  have k5 : Kp False (fun _ => False) s4 s5 := by rw [e5]; exact Kp.mO' Kp.refl
  have n5 : nx_ s5 = x + 32 := by rw [e5]; show nx_ s4 + 1 = _; omega
  have t5 : tg_ s5 (x + 31) = 9 := by rw [e5, ← n4, atg_mO, u1_e]
  have z5 : ∀ k, fI_ s5 8 k (x + 31) = 0 := fun k => by rw [e5, ← n4]; show z3_ (fI_ s4) (nx_ s4) 0 8 k (nx_ s4) = 0; simp [z3_]
  have c5 : bc_ s5 = 600096 := by rw [e5]; show bc_ s4 - 1 = _; omega
  have d5 : bs_ s5 = 6478174 := by rw [e5]; show bs_ s4 - 41 = _; omega
  have ls4 : sc < nx_ s4 := by omega
  have t4 := hSC s4 g4 a4 b4
  obtain ⟨nc, hnc⟩ : ∃ m, m = 28 := ⟨_, rfl⟩
  obtain ⟨ns, hns⟩ : ∃ m, m = 993759 := ⟨_, rfl⟩
  refine cell s5 (by rw [k5.t ls4]; exact a4) (by rw [k5.n ls4]; exact b4) (fun i hi => by rw [k5.a ls4 (fun w => w)]; exact t4 i hi) ⟨t5, nc, ns, by omega, by omega, ?_⟩
  refine M_init (σ := bu_ s5 nc ns) (m := x + 31) t5 (by show lo_ s5 < _; have := k5.1; omega) n5 (by show 28 ≤ nc; omega) (by show 993759 ≤ ns; omega) z5 (fun s6 m6 B6 n6 _ _ s7 e7 g7 y7 hy7 => ?_)
  rw [hy7]
  have n7 : nx_ s7 = x + 60 := by rw [e7]; show nx_ s6 = _; omega
  have M7 : MI s7 (x + 31) (S0 v) := by rw [e7]; exact m6
  have B7 : Bel (x + 31) s4 s7 := by
    refine ⟨by rw [e7]; exact B6.1.trans k5.1, fun r hr => ?_⟩
    have z := B6.2 r hr
    have hr4 : r < nx_ s4 := by omega
    have w := k5.2.2.2 r hr4 (fun w => w)
    have w2 := k5.2.2.1 r hr4
    rw [e7]
    exact ⟨z.1.trans w2.1, z.2.1.trans w2.2, fun c k => (z.2.2.1 c k).trans (w.1 c k (fun q => q.elim)), fun c k => (z.2.2.2.1 c k).trans (w.2.1 c k), fun c k => (z.2.2.2.2.1 c k).trans (w.2.2.1 c k), fun i => (z.2.2.2.2.2.1 i).trans (w.2.2.2.1 i), fun i => (z.2.2.2.2.2.2.1 i).trans (w.2.2.2.2.1 i), fun i => (z.2.2.2.2.2.2.2 i).trans (w.2.2.2.2.2 i)⟩
  obtain ⟨k7, f7⟩ := f4.bel n4 B7 M7.mw n7 (hS2 s7 g7)
  have c7 : bc_ s7 = 600068 := by rw [e7]; show bc_ s5 - nc = _; omega
  have d7 : bs_ s7 = 5484415 := by rw [e7]; show bs_ s5 - ns = _; omega
  have a7 : tg_ s7 sc = 102 := by rw [k7.t ls4]; exact a4
  have b7 : ln_ s7 sc = L := by rw [k7.n ls4]; exact b4
  have t7 := hSC s7 g7 a7 b7
  have ls7 : sc < nx_ s7 := by omega
  refine ⟨by decide, by decide, by omega, by rw [d7]; decide, fun s8 e8 y8 hy8 => ?_⟩
  rw [n7] at hy8
  rw [hy8]
  have k8 : Kp False (fun _ => False) s7 s8 := by rw [e8]; exact Kp.mA' Kp.refl
  have f8 : WF (x + 60) s8 := by rw [e8]; exact f7.mA (by decide)
  have n8 : nx_ s8 = x + 61 := by rw [e8]; show nx_ s7 + 1 = _; omega
  have k38 : Kp False (fun z => x + 31 ≤ z) s3 s8 := by
    have k34 : Kp False (fun _ => False) s3 s4 := by rw [e4]; exact Kp.refl.bu'
    exact ((k34.trans k7 (fun _ _ w => w)).trans k8 (fun _ _ w => w)).mono (fun w => w) (fun _ _ w => w.elim)
  have C8 : CI (x + 60) s8 x (S0 v) := cl s8 k38 f8 (by omega)
  refine law_loop hSC hL ⟨S0 v, ⟨C8, M7.kp k8 (fun z _ _ w => w) (by omega), ⟨?_, ?_⟩, ⟨by rw [k8.t ls7]; exact a7, by rw [k8.n ls7]; exact b7, by rw [k8.1, k7.1, l4]; exact h3⟩, rfl⟩, I_0 v, fun i hi => by rw [k8.a ls7 (fun w => w)]; exact t7 i hi, ?_, ?_⟩
  · rw [e8, ← n7]; show u1_ (tg_ s7) (nx_ s7) 103 (nx_ s7) = 103; simp [u1_]
  · rw [e8, ← n7]; show u1_ (ln_ s7) (nx_ s7) _ (nx_ s7) = 1; simp [u1_]
  · rw [e8]; show _ ≤ bc_ s7 - 1; omega
  · rw [e8]; show _ ≤ bs_ s7 - _; rw [d7]; decide
end
