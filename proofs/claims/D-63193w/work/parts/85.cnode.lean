/-! names, nodes -/
theorem sar_dg {a k : Nat} (hk : k < 8) : ((lN a >>> ((nI (8 * k)).toInt64 &&& 63)).toInt32 &&& (255 : Int32)) = nI (dg a k) := by
  have key : ∀ n, n + 8 ≤ 64 → ((BitVec.ofNat 64 a).sshiftRight n).setWidth 32 &&& 255#32 = BitVec.ofNat 32 (a / 2 ^ n % 256) := by
    intro n hn
    apply BitVec.eq_of_getLsbD_eq
    intro i hi
    rw [show (256 : Nat) = 2 ^ 8 from rfl, show (255#32) = BitVec.ofNat 32 (2 ^ 8 - 1) from rfl, BitVec.getLsbD_and, BitVec.getLsbD_setWidth, BitVec.getLsbD_sshiftRight, BitVec.getLsbD_ofNat, BitVec.getLsbD_ofNat, BitVec.getLsbD_ofNat, Nat.testBit_mod_two_pow, Nat.testBit_div_two_pow, Nat.testBit_two_pow_sub_one]
    by_cases z : i < 8
    · simp [hi, z, show ¬ (64 ≤ i) by omega, show n + i < 64 by omega]
      rw [Nat.add_comm]
    · simp [z]
  have hb : ∀ s : Int64, ((lN a >>> s).toInt32 &&& (255 : Int32)).toBitVec = ((BitVec.ofNat 64 a).sshiftRight (s.toBitVec.smod 64).toNat).setWidth 32 &&& 255#32 := fun s => by rw [Int32.toBitVec_and, Int64.toBitVec_toInt32, Int64.toBitVec_shiftRight, BitVec.signExtend_eq_setWidth_of_le _ (by decide)]; rfl
  apply Int32.toBitVec_inj.mp
  rw [hb]
  have e2 : (nI (dg a k)).toBitVec = BitVec.ofNat 32 (a / 2 ^ (8 * k) % 256) := by rw [p256]; rfl
  rw [e2]
  have e : k = 0 ∨ k = 1 ∨ k = 2 ∨ k = 3 ∨ k = 4 ∨ k = 5 ∨ k = 6 ∨ k = 7 := by omega
  rcases e with e | e | e | e | e | e | e | e <;> subst e
  · rw [show (((nI (8 * 0)).toInt64 &&& 63 : Int64).toBitVec.smod 64).toNat = 0 by decide, key 0 (by omega)]
  · rw [show (((nI (8 * 1)).toInt64 &&& 63 : Int64).toBitVec.smod 64).toNat = 8 by decide, key 8 (by omega)]
  · rw [show (((nI (8 * 2)).toInt64 &&& 63 : Int64).toBitVec.smod 64).toNat = 16 by decide, key 16 (by omega)]
  · rw [show (((nI (8 * 3)).toInt64 &&& 63 : Int64).toBitVec.smod 64).toNat = 24 by decide, key 24 (by omega)]
  · rw [show (((nI (8 * 4)).toInt64 &&& 63 : Int64).toBitVec.smod 64).toNat = 32 by decide, key 32 (by omega)]
  · rw [show (((nI (8 * 5)).toInt64 &&& 63 : Int64).toBitVec.smod 64).toNat = 40 by decide, key 40 (by omega)]
  · rw [show (((nI (8 * 6)).toInt64 &&& 63 : Int64).toBitVec.smod 64).toNat = 48 by decide, key 48 (by omega)]
  · rw [show (((nI (8 * 7)).toInt64 &&& 63 : Int64).toBitVec.smod 64).toNat = 56 by decide, key 56 (by omega)]
section
variable {D : Nat} {σ0 σ τ : Hp} {b r : Nat} {l l' : List Nat}
theorem WF.k0 (hf : WF D σ) {j : Nat} (hj : j < 9) : fR_ σ 101 j 0 ≠ 0 := fun z => by
  have := (hf.2.2.2.2.1 j hj).1
  rw [z, hf.2.2.1] at this; cases this
theorem SBk.wf (hf : WF D σ0) (h : SBk σ0 σ b l) : WF D σ := hf.new h.1 h.2.1 h.2.2.1
theorem c_nameOf (hf : WF D σ) (hD : D < nx_ σ) {a : Nat} (h1 : 4 ≤ bc_ σ) (h2 : 32 ≤ bs_ σ) {post : Nat → Hp → Prop} (k : ∀ r σ', NewS D σ σ' r (told a) → post r σ') : wX1_nameOf (lN a) σ post := by
  unfold wX1_nameOf
  refine sb_new hf (by omega) (by omega) (fun σ1 hb q1 q2 y hy => ?_)
  subst hy
  unfold wX1_nameOf_L11
  refine lpG2 (B := fun R x s => wX1_nameOf_B11 post R (lN a) (nx_ σ) x s) (fun j x s => ∃ l : List Nat, j ≤ 8 ∧ x = nI j + (-1) ∧ tdl a j l = told a ∧ (∀ c ∈ l, isL c) ∧ l.length + j ≤ 8 ∧ SBk σ s (nx_ σ) l ∧ bc_ s = bc_ σ - 2 ∧ bs_ s = bs_ σ - 20) 8 ⟨[], Nat.le_refl _, by decide, rfl, fun c hc => (by cases hc), by simp, hb, q1, q2⟩ ?_
  rintro j x s R ⟨l, h1', rfl, h4, h5, h6, h7, h8, h9⟩ hR
  have hf' := h7.wf hf
  unfold wX1_nameOf_B11 wX1_nameOf_L55
  cases j with
  | zero =>
    refine ⟨fun _ => ⟨h7.2.2.2.2.1, sb_str hf hD h7 (by omega) (by omega) (fun s' hn _ _ => k _ s' ?_)⟩, fun q => absurd (by decide) q⟩
    unfold tdl at h4
    rw [← h4]; exact hn
  | succ j =>
    have e : nI (j + 1) + (-1) = nI j := by rw [nI_dec (by omega)]; rfl
    have hlt := dg_lt a j
    rw [e, li_8, pk_mul, sar_dg (by omega)]
    refine ⟨fun q => absurd q (nI_pos (by omega)), fun _ y3 hy3 => ?_⟩
    rw [hy3, li_0, nI_eq (by omega) (by decide), chr_ (by omega)]
    unfold tdl at h4
    refine ⟨fun q => c_isName hlt (fun hl => ⟨fun _ => ⟨h7.2.2.2.2.1, sb_chr h7 hlt (by rw [h7.1.1]; exact hf.2.1) (by omega) (fun s' hs' w1 w2 s'' e'' y1 hy1 => ?_)⟩, fun z => absurd z (by decide)⟩) (fun hl => ⟨fun z => absurd rfl z, fun _ => k _ s ⟨hf', h7.1, ?_⟩⟩), fun q y1 hy1 => ?_⟩
    · rw [ic_f q, ic_t hl] at h4
      refine hR j y1 s'' (by omega) ⟨l ++ [dg a j], by omega, hy1, h4, fun c hc => ?_, by simp; omega, by rw [e'']; exact hs', by rw [e'']; exact h8, by rw [e'']; exact h9⟩
      rcases List.mem_append.mp hc with z | z
      · exact h5 c z
      · simp at z; rw [z]; exact hl
    · rw [ic_f q, ic_f hl] at h4
      rw [← h4]
      exact hf'.2.2.2.2.1 0 (by decide)
    · rw [ic_t q] at h4
      exact hR j y1 s (by omega) ⟨l, by omega, hy1, h4, h5, by omega, h7, h8, h9⟩
theorem NewS.ne {D : Nat} {σ0 σ : Hp} {r : Nat} {l : List Nat} (h : NewS D σ0 σ r l) : r ≠ 0 := fun z => by
  have := h.2.2.1
  rw [z, h.1.2.2.1] at this; cases this
theorem Str.ne (hf : WF D σ) (h : Str D σ r l) : r ≠ 0 := fun z => by
  have := h.1
  rw [z, hf.2.2.1] at this; cases this
theorem c_special (hf : WF D σ) (hD : D < nx_ σ) {c : Nat} (hc : c < 256) (h1 : 4 ≤ bc_ σ) (h2 : 25 ≤ bs_ σ) {post : Nat → Hp → Prop} (k : ∀ r σ', NewS D σ σ' r [c] → post r σ') : wX3_special (nI c) σ post := by
  unfold wX3_special
  refine sb_new hf (by omega) (by omega) (fun σ1 hb q1 q2 => ⟨hb.2.2.2.2.1, ?_⟩)
  have hlo : lo_ σ1 < nx_ σ := by rw [hb.1.1]; exact hf.2.1
  have f1 := hb.wf hf
  refine sb_app hb (f1.2.2.2.2.1 3 (by decide)) (f1.k0 (by decide)) hlo (by decide) (fun s2 g2 w1 w2 s3 e3 => ⟨by rw [e3]; exact g2.2.2.2.2.1, ?_⟩)
  have g3 : SBk σ s3 (nx_ σ) [] := by rw [e3]; exact g2
  rw [chr_ (by omega)]
  have hlo3 : lo_ s3 < nx_ σ := by rw [g3.1.1]; exact hf.2.1
  refine sb_chr g3 hc hlo3 (by decide) (fun s4 g4 w3 w4 s5 e5 => ⟨by rw [e5]; exact g4.2.2.2.2.1, ?_⟩)
  have g5 : SBk σ s5 (nx_ σ) [c] := by rw [e5]; exact g4
  have b5 : bc_ s5 = bc_ σ - 2 ∧ bs_ s5 = bs_ σ - 20 := by
    rw [e5, e3]; exact ⟨q1, q2⟩
  exact sb_str hf hD g5 (by omega) (by simp; omega) (fun s' hn _ _ => k _ s' hn)
/-- a node is called -/
theorem c_call (hf : WF D σ) {d : Nat} (hD : d = 1 ∨ D < nx_ σ) {x : Nat} (hx : tg_ σ x = 6) (hd : fI_ σ 5 1 x = nI d) (hd1 : d ≤ 1) (hs : Str D σ r l) (hl : l.length ≤ 8) (h1 : 4 ≤ bc_ σ) (h2 : 35 ≤ bs_ σ) {post : Hp → Prop}
    (k : ∀ σ', WF D σ' → Kp False (fun q => q = x) σ σ' → fR_ σ' 5 6 x = r → Str D σ' (fR_ σ' 5 7 x) (idb l d) → (∀ c k', fI_ σ' c k' x = fI_ σ c k' x) → post σ') : wX6_call x r σ post := by
  have hxn := hf.lt hx
  have wsx : WS D σ (fun q => q = x) := fun q hq => by subst hq; exact ⟨by omega, fun z => by omega, fun z => by rw [z, hf.2.2.1] at hx; cases hx⟩
  unfold wX6_call
  refine ⟨hx, fun σ4 e4 => ?_⟩
  have k4 : Kp False (fun q => q = x) σ σ4 := by rw [e4]; exact Kp.sR' Kp.refl (Or.inl rfl)
  have f4 : WF D σ4 := hf.kp k4 wsx (by rw [e4]; exact hf.1) (fun r z => by rw [e4] at z; exact hf.lt z) (fun r z => by rw [e4, afR_sR, u3_c (by decide)])
  have s4 := hs.kp hf k4 wsx
  have i4 : fI_ σ4 = fI_ σ := by rw [e4]; rfl
  have n4 : nx_ σ4 = nx_ σ := by rw [e4]; rfl
  have r4 : fR_ σ4 5 6 x = r := by rw [e4, afR_sR, u3_e]
  have t4 : tg_ σ4 x = 6 := by rw [e4]; exact hx
  have bc4 : bc_ σ4 = bc_ σ := by rw [e4]; rfl
  have bs4 : bs_ σ4 = bs_ σ := by rw [e4]; rfl
  have L36 : ∀ (s : Hp) (q : Nat), NewS D σ4 s q (idb l d) → wX6_call_L36 post q x s := by
    rintro s q ⟨g1, g2, g3⟩
    unfold wX6_call_L36
    refine ⟨by rw [g2.t (by omega)]; exact t4, fun σ2 e2 => ?_⟩
    have wsx2 : WS D s (fun q => q = x) := fun q hq => by subst hq; rw [g2.t (by omega)]; exact ⟨by omega, fun z => by omega, fun z => by rw [z, hf.2.2.1] at hx; cases hx⟩
    have k2 : Kp False (fun q => q = x) s σ2 := by rw [e2]; exact Kp.sR' Kp.refl (Or.inl rfl)
    have kk : Kp False (fun q => q = x) σ σ2 := (k4.trans (g2.mono (W' := fun q => q = x) (fun z => z) (fun _ _ z => z.elim)) (fun _ _ z => z)).trans k2 (fun _ _ z => z)
    refine k σ2 (g1.kp k2 wsx2 (by rw [e2]; exact g1.1) (fun r z => by rw [e2] at z; exact g1.lt z) (fun r z => by rw [e2, afR_sR, u3_c (by decide)])) kk ?_ ?_ (fun c k' => ?_)
    · rw [e2, afR_sR, u3_k (by decide), g2.r (by omega) (fun z => z)]; exact r4
    · have : fR_ σ2 5 7 x = q := by rw [e2, afR_sR, u3_e]
      rw [this]; exact g3.kp g1 k2 wsx2
    · rw [e2, afI_sR]
      have := (g2.2.2.2 x (by omega) (fun z => z)).1 c k' (fun z => z.elim)
      rw [this, i4]
  rw [i4, hd, li_0, nI_eq (by omega) (by decide)]
  refine ⟨fun z => ?_, fun z => L36 σ4 r ⟨f4, Kp.refl, ?_⟩⟩
  · refine sb_new f4 (by omega) (by omega) (fun σ1 hb q1 q2 => ⟨hb.2.2.2.2.1, ?_⟩)
    have hlo : lo_ σ1 < nx_ σ4 := by rw [hb.1.1]; exact f4.2.1
    have s1 : Str D σ1 r l := s4.kp f4 hb.1 WS0
    refine sb_app hb s1 (s1.ne (hb.wf f4)) hlo (by simp; omega) (fun s2 g2 w1 w2 s3 e3 => ⟨by rw [e3]; exact g2.2.2.2.2.1, ?_⟩)
    have g3 : SBk σ4 s3 (nx_ σ4) ([] ++ l) := by rw [e3]; exact g2
    have f3 := g3.wf f4
    have hlo3 : lo_ s3 < nx_ σ4 := by rw [g3.1.1]; exact f4.2.1
    refine sb_app g3 (f3.2.2.2.2.1 6 (by decide)) (f3.k0 (by decide)) hlo3 (by show ([] ++ l).length + 3 ≤ 15; simp; omega) (fun s4 g4 w3 w4 s5 e5 => ⟨by rw [e5]; exact g4.2.2.2.2.1, ?_⟩)
    have g5 : SBk σ4 s5 (nx_ σ4) (idb l d) := by
      rw [e5]
      have : idb l d = [] ++ l ++ kstL 6 := by unfold idb; rw [if_neg (by omega)]; rfl
      rw [this]; exact g4
    have b5 : bc_ s5 = bc_ σ4 - 2 ∧ bs_ s5 = bs_ σ4 - 20 := by
      rw [e5, e3]; exact ⟨q1, q2⟩
    have li : (idb l d).length = l.length + 3 := by unfold idb; rw [if_neg (by omega)]; simp
    exact sb_str f4 (by omega) g5 (by omega) (by omega) (fun s' hn _ _ => L36 s' _ hn)
  · have : idb l d = l := by unfold idb; rw [if_pos (by omega)]
    rw [this]; exact s4
end
