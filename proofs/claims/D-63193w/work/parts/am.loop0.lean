/-! the two beside each other -/
section
variable {S' : Prop} {W : Nat → Prop} {D n : Nat} {σ σ0 σ' τ υ : Hp} {x md od q la r r' m c c' : Nat} {S S2 : AS}
theorem CJ.sx (h : CJ D σ x md od q S) (k : Kp False W σ τ) (hf' : WF D τ) (hs : Sx D σ W) (hw : ∀ z, W z → x + 31 ≤ z) : CJ D τ x md od q S := by
  obtain ⟨hf, hz, hx, hb, hp, hmd, ⟨Bo, Sto, Dfo, hod⟩, ht, hr⟩ := h
  have hm' := hz.2.1
  have nw : ∀ z, z < x + 31 → ¬ W z := fun z hz' y => by have := hw z y; omega
  exact ⟨hf', hz.kp hf k, hx.kp hf k (nw _ (by omega)), hb.sx hf k hs (fun z a b => nw _ (by omega)), hp.kp hf k (nw _ (by omega)), hmd.kp hf k (nw _ (by omega)) (nw _ (by omega)) (nw _ (by omega)) (nw _ (by omega)), ⟨Bo, Sto, Dfo, hod.kp hf k (nw _ (by omega)) (nw _ (by omega)) (nw _ (by omega)) (nw _ (by omega))⟩, ht.sx hf k hs, hr.sx hf k hs (fun z a b => nw _ (by omega))⟩
theorem MW.kp (h : MW σ m) (k : Kp S' W σ τ) (hw : ∀ z, m ≤ z → z ≤ m + 28 → ¬ W z) (hn : m + 28 < nx_ σ) : MW τ m := by
  obtain ⟨h1, h2, h3⟩ := h
  refine ⟨by rw [(k.2.2.1 m (by omega)).1]; exact h1, by rw [k.1]; exact h2, fun i hi => ?_⟩
  have z := k.2.2.2 m (by omega) (hw _ (by omega) (by omega))
  rw [z.2.2.1, (k.2.2.1 (m + (1 + i)) (by omega)).1, (k.2.2.1 (m + (1 + i)) (by omega)).2]
  exact h3 i hi
theorem MI.kp (h : MI σ m S) (k : Kp S' W σ τ) (hw : ∀ z, m ≤ z → z ≤ m + 28 → ¬ W z) (hn : m + 28 < nx_ σ) : MI τ m S := by
  have aIe : ∀ j i, j ≤ 28 → aI_ τ (m + j) i = aI_ σ (m + j) i := fun j i hj => (k.2.2.2 (m + j) (by omega) (hw _ (by omega) (by omega))).2.2.2.1 i
  have aLe : ∀ j i, j ≤ 28 → aL_ τ (m + j) i = aL_ σ (m + j) i := fun j i hj => (k.2.2.2 (m + j) (by omega) (hw _ (by omega) (by omega))).2.2.2.2.1 i
  have Fi : ∀ q, fI_ τ 8 q m = fI_ σ 8 q m := fun q => (k.2.2.2 m (by omega) (hw _ (by omega) (by omega))).1 8 q (fun _ z => absurd z.1 (by decide))
  obtain ⟨⟨sd, hM⟩, hP, hT, hO⟩ := h
  refine ⟨⟨sd, hM.1.kp k hw hn, hM.2.1, ?_⟩, ?_, ?_, ?_⟩
  · have z := hM.2.2
    simp (disch := decide) only [Fi, aIe]
    exact z
  · unfold MP at hP ⊢
    simp (disch := decide) only [Fi, aIe]
    exact hP
  · unfold MT MTk at hT ⊢
    simp (disch := decide) only [Fi, aIe, aLe]
    exact hT
  · unfold MO OFd at hO ⊢
    simp (disch := decide) only [Fi, aIe, aLe]
    exact hO
theorem MFr.kp {P : Nat → Nat → Prop} {Q : Nat → Prop} (f : MFr m σ σ' P Q) : Kp False (fun z => m ≤ z ∧ z ≤ m + 28) σ σ' := by
  obtain ⟨⟨f1, f2, f3, f4, f5, f6, f7, f8, f9⟩, g1, g2⟩ := f
  refine ⟨f9, by rw [f6]; exact Nat.le_refl _, fun r _ => ⟨by rw [f1], by rw [f2]⟩, fun r _ hr => ⟨fun c k _ => g1 c k r (fun z => hr (by omega)), fun c k => by rw [f4], fun c k => by rw [f3], fun i => (g2 r i (fun ⟨j, a, b, d, _⟩ => hr (by omega))).1, fun i => (g2 r i (fun ⟨j, a, b, d, _⟩ => hr (by omega))).2, fun i => by rw [f5]⟩⟩
/-- both at once: the reference holds S, the class T -/
def HV (D x sc L : Nat) (S T : AS) (σ : Hp) : Prop := CI D σ x T ∧ MI σ (x + 31) S ∧ (tg_ σ D = 103 ∧ ln_ σ D = 1) ∧ (tg_ σ sc = 102 ∧ ln_ σ sc = L ∧ sc ≤ lo_ σ) ∧ D = x + 60
variable {sc L : Nat} {T T' : AS}
theorem CI.wf (h : CI D σ x S) : WF D σ := by obtain ⟨md, od, q, hj⟩ := h; exact hj.1
theorem CI.d (h : CI D σ x S) : D < nx_ σ ∧ lo_ σ < x := by obtain ⟨md, od, q, hj⟩ := h; exact ⟨hj.2.1.1.2.2, hj.2.1.1.2.1⟩
theorem CI.t (h : CI D σ x S) : tg_ σ x = 1 := by obtain ⟨md, od, q, hj⟩ := h; exact hj.2.2.1.1
theorem MI.mw (h : MI σ m S) : MW σ m := by obtain ⟨⟨sd, hM⟩, _⟩ := h; exact hM.1
theorem HV.bu {a b : Nat} (h : HV D x sc L S T σ) : HV D x sc L S T (bu_ σ a b) := h
theorem HV.x1 (h : HV D x sc L S T σ) : tg_ σ x = 1 := h.1.t
theorem HV.m9 (h : HV D x sc L S T σ) : tg_ σ (x + 31) = 9 := h.2.1.mw.1
theorem HV.kp (h : HV D x sc L S T σ) (c : CI D τ x T') (k : Kp S' W σ τ) (hw : ∀ z, x + 31 ≤ z → z ≤ x + 59 → ¬ W z) : HV D x sc L S T' τ := by
  obtain ⟨h1, h2, ⟨h3, h4⟩, ⟨h5, h6, h7⟩, h8⟩ := h
  have d := h1.d
  have ls : sc < nx_ σ := by omega
  exact ⟨c, h2.kp k (fun z a b => hw z a (by omega)) (by omega), ⟨by rw [k.t (by omega)]; exact h3, by rw [k.n (by omega)]; exact h4⟩, ⟨by rw [k.t ls]; exact h5, by rw [k.n ls]; exact h6, by rw [k.1]; exact h7⟩, h8⟩
theorem HV.cls (h : HV D x sc L S T σ) (c : CI D τ x T') (f : Cf D x σ τ) : HV D x sc L S T' τ := h.kp c f (fun z a b y => by have := h.2.2.2.2; omega)
theorem MW.tg (h : MW σ m) {z : Nat} (a : m ≤ z) (b : z ≤ m + 28) : tg_ σ z = 9 ∨ tg_ σ z = 100 ∨ tg_ σ z = 101 ∨ tg_ σ z = 102 ∨ tg_ σ z = 103 := by
  rcases Nat.eq_or_lt_of_le a with e | e
  · rw [← e]; exact Or.inl h.1
  · have := (h.2.2 (z - m - 1) (by omega)).2.1
    rw [show m + (1 + (z - m - 1)) = z by omega] at this
    rw [this]
    have hk : z - m - 1 < 28 := by omega
    generalize z - m - 1 = k at hk
    exact Or.inr (by revert k; decide)
theorem CI.mfr (h : CI D σ x T) (hM : MW σ (x + 31)) (hD : D = x + 60) {P : Nat → Nat → Prop} {Q : Nat → Prop} (f : MFr (x + 31) σ τ P Q) : CI D τ x T := by
  obtain ⟨md, od, q, hj⟩ := id h
  have k := f.kp
  have hz := hj.2.1.1
  have hs : Sx D σ (fun z => x + 31 ≤ z ∧ z ≤ x + 31 + 28) := fun z hz' => by
    have := hM.tg hz'.1 hz'.2
    exact ⟨by omega, by omega, by omega, by omega, by omega, by omega, by omega, fun w => by omega⟩
  obtain ⟨⟨f1, f2, f3, f4, f5, f6, f7, f8, f9⟩, g1, g2⟩ := f
  have hf : WF D τ := hj.1.kp k hs.ws (fun r hr => by rw [f1] at hr; rw [f6]; exact hj.1.1 r hr) (fun r hr => by rw [f1] at hr; exact hj.1.1 r (by rw [hr]; decide)) (fun r hr => by rw [f3])
  exact ⟨md, od, q, hj.sx k hf hs (fun z hz' => hz'.1)⟩
theorem HV.ref (h : HV D x sc L S T σ) (g : MI τ (x + 31) S2) (f : MFr (x + 31) σ τ TP TQ) : HV D x sc L S2 T τ := by
  have c := h.1.mfr h.2.1.mw h.2.2.2.2 f
  obtain ⟨h1, h2, ⟨h3, h4⟩, ⟨h5, h6, h7⟩, h8⟩ := h
  obtain ⟨⟨f1, f2, f3, f4, f5, f6, f7, f8, f9⟩, g1, g2⟩ := f
  exact ⟨c, g, ⟨by rw [f1]; exact h3, by rw [f2]; exact h4⟩, ⟨by rw [f1]; exact h5, by rw [f2]; exact h6, by rw [f9]; exact h7⟩, h8⟩
theorem CI.et (h : CI D σ x T) (e : ET σ τ) : CI D τ x T := by
  obtain ⟨md, od, q, hj⟩ := id h
  exact ⟨md, od, q, hj.sx e.kp (e.wf hj.1) (fun z y => y.elim) (fun z y => y.elim)⟩
theorem HV.et (h : HV D x sc L S T σ) (e : ET σ τ) : HV D x sc L S T τ := h.kp (h.1.et e) e.kp (fun z _ _ y => y)
theorem Kp.wL' (h : Kp S' W σ τ) {r i : Nat} {v : Int64} (hr : W r ∨ nx_ σ ≤ r) : Kp S' W σ (wL_ τ r i v) := by
  obtain ⟨a1, a2, a3, a4⟩ := h
  refine ⟨a1, a2, a3, fun z hz hw => ?_⟩
  obtain ⟨b1, b2, b3, b4, b5, b6⟩ := a4 z hz hw
  refine ⟨b1, b2, b3, b4, fun j => ?_, b6⟩
  show u2_ (aL_ τ) r i v z j = _
  unfold u2_
  rw [if_neg (fun e => by
    have e1 := e.1
    rcases hr with y | y
    · exact hw (e1 ▸ y)
    · omega)]
  exact b5 j
theorem HV.out (h : HV D x sc L S T σ) {v : Int64} : HV D x sc L S T (wL_ σ D 0 v) := by
  have k : Kp False (fun z => z = D) σ (wL_ σ D 0 v) := Kp.wL' Kp.refl (Or.inl rfl)
  have hD := h.2.2.2.2
  refine h.kp ?_ k (fun z a b y => by omega)
  obtain ⟨md, od, q, hj⟩ := id h.1
  have hz := hj.2.1.1
  exact ⟨md, od, q, hj.sx k hj.1 (fun z y => by
    subst y
    rw [h.2.2.1.1]
    exact ⟨by omega, by decide, by decide, by decide, by decide, by decide, by decide, fun w => absurd w (by decide)⟩) (fun z y => by omega)⟩
end
/-- the loop's invariant before call j -/
def LI (D x sc L : Nat) (xs : Nat → Int32) (j : Nat) (σ : Hp) : Prop := ∃ S, HV D x sc L S S σ ∧ INV j S ∧ (∀ i, i < L → aI_ σ sc i = xs i) ∧ (64 - j) * 7298 ≤ bc_ σ ∧ (64 - j) * 56510 ≤ bs_ σ
def LE (D x sc L : Nat) (xs : Nat → Int32) (j : Nat) (SC : Hp → Prop) (rc : Int32 → Hp → Prop) (S : AS) (σ : Hp) : Prop :=
  (∀ s, SC s → tg_ s sc = 102 → ln_ s sc = L → ∀ i, i < L → aI_ s sc i = xs i) ∧ HV D x sc L S S σ ∧ INV j S ∧ (∀ i, i < L → aI_ σ sc i = xs i) ∧ (7 + 6 * j ≤ L ∧ L ≤ 385) ∧ ((64 - j) * 7298 ≤ bc_ σ ∧ (64 - j) * 56510 ≤ bs_ σ) ∧ (∀ s, LI D x sc L xs (j + 1) s → rc (nI (1 + 6 * (j + 1))) s)
section
variable {D x sc L j : Nat} {xs : Nat → Int32} {SC : Hp → Prop} {rc : Int32 → Hp → Prop} {S S2 : AS} {σ τ : Hp} {post : Int32 → Hp → Prop}
theorem LE.next (h : LE D x sc L xs j SC rc S σ) (V : HV D x sc L S2 S2 τ) (I : INV (j + 1) S2) (k : SC τ) (b : (63 - j) * 7298 ≤ bc_ τ ∧ (63 - j) * 56510 ≤ bs_ τ) : wL_law_L1000 SC post rc sc x (x + 31) D (nI (1 + 6 * j)) τ := by
  intro y e
  have : y = nI (1 + 6 * (j + 1)) := by rw [e, show (6 : Int32) = nI 6 from rfl, nI_add]; congr 1
  rw [this]
  exact h.2.2.2.2.2.2 τ ⟨S2, V, I, h.1 τ k V.2.2.2.1.1 V.2.2.2.1.2.1, by rw [show 64 - (j + 1) = 63 - j by omega]; exact b.1, by rw [show 64 - (j + 1) = 63 - j by omega]; exact b.2⟩
theorem lidx (hj : 7 + 6 * j ≤ L) (hL : L ≤ 385) (k : Nat) (hk : k ≤ 5) : (nI (1 + 6 * j) + nI k).toNatClampNeg = 1 + 6 * j + k := by rw [nI_add, nI_clamp (by omega)]
theorem lvin (hj : 7 + 6 * j ≤ L) (hL : L ≤ 385) (k : Nat) (hk : k ≤ 5) : vp_in (nI (1 + 6 * j) + nI k) L := by rw [nI_add]; exact (vin_ (by omega)).mpr (by omega)
theorem lN_sur (z : Int64) : ∃ a, a < 2 ^ 64 ∧ z = lN a := ⟨z.toUInt64.toNat, z.toUInt64.toNat_lt, by
  apply Int64.toBitVec_inj.mp
  show z.toBitVec = BitVec.ofNat 64 z.toBitVec.toNat
  simp⟩
end
