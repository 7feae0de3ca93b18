/-! the reference holds the state; its plain operations -/
def OFd (σ : Hp) (m k : Nat) (f : FT) : Prop := aI_ σ (m + 24) k = nI (fa_ f) ∧ aI_ σ (m + 25) k = nI (fd_ f) ∧ aI_ σ (m + 26) k = nI (fs_ f) ∧ aI_ σ (m + 27) k = nI (fx_ f) ∧ aL_ σ (m + 28) k = lN (wd (fn_ f))
/-- node k of the tree in the reference -/
def MTk (σ : Hp) (m : Nat) (t : TT) (k : Nat) : Prop := aI_ σ (m + 6) k = nI (tD t k) ∧ aI_ σ (m + 7) k = nI (tP t k) ∧ aL_ σ (m + 8) k = lN (wd (tM t k)) ∧ aI_ σ (m + 9) k = nI (tS t k) ∧ aI_ σ (m + 10) k = nI (tE t k) ∧ (tD t k = 0 → 0 < tS t k → aI_ σ (m + 11) k = b2 (tW t k)) ∧ aI_ σ (m + 12) k = nI (tX t k)
def MT (σ : Hp) (m : Nat) (t : TT) : Prop := fI_ σ 8 10 m = nI (tN t) ∧ (∀ k, k < tN t → aI_ σ (m + 5) k = b2 (tT t k)) ∧ ∀ k, k < tN t → tT t k = true → MTk σ m t k
/-- the same, but whether it is written -/
def MTk0 (σ : Hp) (m : Nat) (t : TT) (k : Nat) : Prop := aI_ σ (m + 6) k = nI (tD t k) ∧ aI_ σ (m + 7) k = nI (tP t k) ∧ aL_ σ (m + 8) k = lN (wd (tM t k)) ∧ aI_ σ (m + 9) k = nI (tS t k) ∧ aI_ σ (m + 10) k = nI (tE t k) ∧ True ∧ aI_ σ (m + 12) k = nI (tX t k)
def MT0 (σ : Hp) (m : Nat) (t : TT) : Prop := fI_ σ 8 10 m = nI (tN t) ∧ (∀ k, k < tN t → aI_ σ (m + 5) k = b2 (tT t k)) ∧ ∀ k, k < tN t → tT t k = true → MTk0 σ m t k
theorem MT.m0 {σ : Hp} {m : Nat} {t : TT} (h : MT σ m t) : MT0 σ m t := ⟨h.1, h.2.1, fun k hk ht => by obtain ⟨a, b, c, d, e, _, f⟩ := h.2.2 k hk ht; exact ⟨a, b, c, d, e, trivial, f⟩⟩
def MO (σ : Hp) (m : Nat) (O : List FT) : Prop := fI_ σ 8 35 m = nI O.length ∧ ∀ k, k < O.length → OFd σ m k (gF O k)
def MP (σ : Hp) (m n : Nat) (St : Nat → Nat) (Df : Nat → Bool) (lo : Bool) (lf wr : Int32) (la : Nat) : Prop := (∀ s, s < n → St s = 0 → aI_ σ (m + 3) s = b2 (Df s)) ∧ fI_ σ 8 6 m = b2 lo ∧ (lo = false → fI_ σ 8 7 m = lf) ∧ fI_ σ 8 8 m = wr ∧ fI_ σ 8 20 m = nI la
def MI (σ : Hp) (m : Nat) (S : AS) : Prop := (∃ sd, MedM σ m (sN S) sd (sB S) (sSt S)) ∧ MP σ m (sN S) (sSt S) (sDf S) (sLo S) (sLf S) (sWr S) (sLa S) ∧ MT σ m (sT S) ∧ MO σ m (sO S)
section
variable {σ σ' : Hp} {m : Nat} {P : Nat → Nat → Prop} {Q : Nat → Prop}
theorem MT.fr {t : TT} (h : MT σ m t) (f : MFr m σ σ' P Q) (q : ¬ Q 10) (p : ∀ j i, 5 ≤ j → j ≤ 12 → ¬ P j i) : MT σ' m t := by
  refine ⟨by rw [f.f q]; exact h.1, fun k hk => by rw [f.a (p _ _ (by omega) (by omega))]; exact h.2.1 k hk, fun k hk ht => ?_⟩
  obtain ⟨a, b, c, d, e, g, i⟩ := h.2.2 k hk ht
  exact ⟨by rw [f.a (p _ _ (by omega) (by omega))]; exact a, by rw [f.a (p _ _ (by omega) (by omega))]; exact b, by rw [f.l (p _ _ (by omega) (by omega))]; exact c, by rw [f.a (p _ _ (by omega) (by omega))]; exact d, by rw [f.a (p _ _ (by omega) (by omega))]; exact e, by rw [f.a (p _ _ (by omega) (by omega))]; exact g, by rw [f.a (p _ _ (by omega) (by omega))]; exact i⟩
theorem MT0.fr {t : TT} (h : MT0 σ m t) (f : MFr m σ σ' P Q) (q : ¬ Q 10) (p : ∀ j i, 5 ≤ j → j ≤ 12 → ¬ P j i) : MT0 σ' m t := by
  refine ⟨by rw [f.f q]; exact h.1, fun k hk => by rw [f.a (p _ _ (by omega) (by omega))]; exact h.2.1 k hk, fun k hk ht => ?_⟩
  obtain ⟨a, b, c, d, e, -, i⟩ := h.2.2 k hk ht
  exact ⟨by rw [f.a (p _ _ (by omega) (by omega))]; exact a, by rw [f.a (p _ _ (by omega) (by omega))]; exact b, by rw [f.l (p _ _ (by omega) (by omega))]; exact c, by rw [f.a (p _ _ (by omega) (by omega))]; exact d, by rw [f.a (p _ _ (by omega) (by omega))]; exact e, trivial, by rw [f.a (p _ _ (by omega) (by omega))]; exact i⟩
theorem MO.fr {O : List FT} (h : MO σ m O) (f : MFr m σ σ' P Q) (q : ¬ Q 35) (p : ∀ j i, 24 ≤ j → j ≤ 28 → ¬ P j i) : MO σ' m O := by
  refine ⟨by rw [f.f q]; exact h.1, fun k hk => ?_⟩
  obtain ⟨a, b, c, d, e⟩ := h.2 k hk
  exact ⟨by rw [f.a (p _ _ (by omega) (by omega))]; exact a, by rw [f.a (p _ _ (by omega) (by omega))]; exact b, by rw [f.a (p _ _ (by omega) (by omega))]; exact c, by rw [f.a (p _ _ (by omega) (by omega))]; exact d, by rw [f.l (p _ _ (by omega) (by omega))]; exact e⟩
theorem MP.fr {n la : Nat} {St : Nat → Nat} {Df : Nat → Bool} {lo : Bool} {lf wr : Int32} (h : MP σ m n St Df lo lf wr la) (f : MFr m σ σ' P Q) (q : ∀ k, k = 6 ∨ k = 7 ∨ k = 8 ∨ k = 20 → ¬ Q k) (p : ∀ i, ¬ P 3 i) : MP σ' m n St Df lo lf wr la := by
  obtain ⟨a, b, c, d, e⟩ := h
  exact ⟨fun s h1 h2 => by rw [f.a (p _)]; exact a s h1 h2, by rw [f.f (q _ (by omega))]; exact b, by rw [f.f (q _ (by omega))]; exact c, by rw [f.f (q _ (by omega))]; exact d, by rw [f.f (q _ (by omega))]; exact e⟩
/-- scratch: what may change freely -/
def PX : Nat → Nat → Prop := fun j _ => j = 4 ∨ 13 ≤ j ∧ j ≤ 23
def QX : Nat → Prop := fun k => k = 0 ∨ k = 22 ∨ k = 23 ∨ k = 27 ∨ k = 28
theorem MI.fr {S : AS} (h : MI σ m S) (f : MFr m σ σ' PX QX) : MI σ' m S := by
  obtain ⟨⟨sd, a⟩, b, c, d⟩ := h
  exact ⟨⟨sd, f.med a (by unfold QX; omega) (by unfold QX; omega) (fun i q => by unfold PX at q; omega) (fun i q => by unfold PX at q; omega)⟩, b.fr f (fun k hk q => by unfold QX at q; omega) (fun i q => by unfold PX at q; omega), c.fr f (by unfold QX; omega) (fun j i h1 h2 q => by unfold PX at q; omega), d.fr f (by unfold QX; omega) (fun j i h1 h2 q => by unfold PX at q; omega)⟩
theorem MFr.sx (h : MFr m σ σ' PS QS) : MFr m σ σ' PX QX := h.mono (fun j i q => by unfold PS at q; unfold PX; omega) (fun k q => by unfold QS at q; unfold QX; omega)
def TP : Nat → Nat → Prop := fun _ _ => True
def TQ : Nat → Prop := fun _ => True
theorem MFr.tt (h : MFr m σ σ' P Q) : MFr m σ σ' TP TQ := h.mono (fun _ _ _ => trivial) (fun _ _ => trivial)
theorem MFr.thr {v : Int32} : MFr m σ (sI_ σ 8 0 m v) PX QX := MFr.sI (Or.inl rfl)
end
section
variable {σ : Hp} {m : Nat} {S : AS}
theorem m_in0 {x : Int32} {a : Nat} (ha : a < 2 ^ 31) {post : Int32 → Prop} (k1 : ∀ j, j < a → x = nI j → ixN x a = some j → post 1) (k0 : ixN x a = none → post 0) : wX9_in x 0 (nI a - 1) σ post := by
  refine m_in (fun p q => ?_) (fun p => ?_)
  · rcases ix_cases x ha with ⟨j, h1, h2, h3⟩ | ⟨h1, h2⟩
    · exact k1 j h1 h2 h3
    · exfalso
      rcases h1 with h1 | h1
      · exact p h1
      · apply q
        obtain ⟨i, hi, e⟩ := nI_of p
        subst e
        rw [nI_leI ha hi] at h1
        rcases Nat.eq_zero_or_pos a with e | e
        · subst e
          rw [show nI 0 - 1 = (-1 : Int32) from rfl, Int32.lt_iff_toInt_lt, nI_toInt hi]
          have : (-1 : Int32).toInt = -1 := by decide
          omega
        · rw [li_1, pk_sub e, nI_ltI (by omega) hi]; omega
  · rcases ix_cases x ha with ⟨j, h1, h2, h3⟩ | ⟨h1, h2⟩
    · exfalso
      subst h2
      rw [li_1, pk_sub (by omega), nI_ltI (by omega) (by omega)] at p
      rcases p with p | p
      · exact nI_pos (by omega) p
      · omega
    · exact k0 h2
theorem M_defect (h : MI σ m S) (ok : AOK S) {x : Int32} {post : Int32 → Hp → Prop} (k : ∀ σ', MI σ' m (opDefect S x).2 → MFr m σ σ' TP TQ → post (opDefect S x).1 σ') : wX9_defect m x σ post := by
  obtain ⟨⟨sd, hM⟩, hP, hT, hO⟩ := id h
  have hn := hM.2.1.2.1
  have hw := hM.1
  have hSt := hM.2.1.2.2.2
  unfold wX9_defect
  refine ⟨mw_tag hw, fun σ2 e2 => ?_⟩
  have f2 : MFr m σ σ2 PX QX := by rw [e2]; exact MFr.thr
  have h2 := h.fr f2
  obtain ⟨⟨sd2, hM2⟩, hP2, hT2, hO2⟩ := id h2
  have hw := hM2.1
  have hs2 := hM2.2.2.2.2.1
  rw [hM2.2.2.1]
  refine m_in0 (by omega) (fun j hj hx hi => ⟨fun _ => ?_, fun z => absurd z (by decide)⟩) (fun hi => ⟨fun z => absurd rfl z, fun _ => ?_⟩)
  · have hst := hSt j
    have ek : opDefect S x = (1, wMed S (sB S) (sSt S) (upA (sDf S) j true)) := by unfold opDefect; rw [hi]
    rw [ek] at k
    subst hx
    simp (disch := omega) only [atg_sI, afI_sI, afL_sI, afR_sI, aln_sI, aaI_sI, aaL_sI, aaR_sI, anx_sI, abc_sI, abs_sI, alo_sI, atg_wI, afI_wI, afL_wI, afR_wI, aln_wI, aaI_wI, aaL_wI, aaR_wI, anx_wI, abc_wI, abs_wI, alo_wI, atg_wL, afI_wL, afL_wL, afR_wL, aln_wL, aaI_wL, aaL_wL, aaR_wL, anx_wL, abc_wL, abs_wL, alo_wL, u2_e, u2_r, u2_i, u3_e, u3_k, u3_c, u3_r, mw_tag hw, mw_lo hw, mw_loa hw, mf_3 hw, mt_3 hw, ml_3 hw, mf_4 hw, mt_4 hw, ml_4 hw, mf_5 hw, mt_5 hw, ml_5 hw, mf_9 hw, mt_9 hw, ml_9 hw, mf_11 hw, mt_11 hw, ml_11 hw, mf_12 hw, mt_12 hw, ml_12 hw, mf_13 hw, mt_13 hw, ml_13 hw, mf_14 hw, mt_14 hw, ml_14 hw, mf_15 hw, mt_15 hw, ml_15 hw, mf_16 hw, mt_16 hw, ml_16 hw, mf_17 hw, mt_17 hw, ml_17 hw, mf_18 hw, mt_18 hw, ml_18 hw, mf_19 hw, mt_19 hw, ml_19 hw, mf_21 hw, mt_21 hw, ml_21 hw, mf_24 hw, mt_24 hw, ml_24 hw, mf_25 hw, mt_25 hw, ml_25 hw, mf_26 hw, mt_26 hw, ml_26 hw, mf_29 hw, mt_29 hw, ml_29 hw, mf_30 hw, mt_30 hw, ml_30 hw, mf_31 hw, mt_31 hw, ml_31 hw, mf_32 hw, mt_32 hw, ml_32 hw, mf_33 hw, mt_33 hw, ml_33 hw, mf_34 hw, mt_34 hw, ml_34 hw, mf_36 hw, mt_36 hw, ml_36 hw, mf_37 hw, mt_37 hw, ml_37 hw, mf_38 hw, mt_38 hw, ml_38 hw, mf_39 hw, mt_39 hw, ml_39 hw, mf_40 hw, mt_40 hw, ml_40 hw, li_0, li_1, li_2, li_3, li_4, li_5, li_6, li_7, li_8, li_9, li_10, li_12, li_14, li_16, li_17, li_18, li_19, li_20, li_25, li_28, li_30, li_31, li_32, li_33, li_34, li_40, li_46, li_48, li_49, li_57, li_59, li_65, li_67, li_68, li_75, li_77, li_80, li_82, li_90, li_95, li_100, li_128, li_130, li_132, li_136, li_140, li_148, li_156, li_200, li_255, li_256, li_400, li_700, li_2047, li_2048, li_2049, li_2050, li_2054, li_2056, li_4096, li_6000, li_163840, li_409600, li_819200, nI_add, pk_mul, pk_sub, nI_leI, nI_ltI, nI_eq, nI_clamp, vin_t, forall_eq, true_and, and_true, forall_const, implies_true, hM2.2.2.2.1, hM2.2.2.2.2.2.2 j hj]
    refine ⟨fun q => k σ2 ?_ f2.tt, fun q => k _ ?_ (f2.tt.trans (MFr.wI (by omega) (by omega) trivial))⟩
    · refine ⟨⟨sd2, hM2⟩, ⟨fun s a b => ?_, hP2.2⟩, hT2, hO2⟩
      show aI_ σ2 (m + 3) s = b2 (upA (sDf S) j true s)
      rw [upA_n (by intro e; subst e; exact q b)]
      exact hP2.1 s a b
    · have f3 : MFr m σ2 (wI_ σ2 (m + 3) j (vp_nar .boolean (nI 1))) (fun j _ => j = 3) (fun _ => False) := MFr.wI (by omega) (by omega) rfl
      refine ⟨⟨sd2, f3.med hM2 (fun z => z) (fun z => z) (fun i z => by omega) (fun i z => by omega)⟩, ⟨fun s a b => ?_, hP2.2⟩, hT2.fr f3 (fun z => z) (fun j i h1 h2 z => by omega), hO2.fr f3 (fun z => z) (fun j i h1 h2 z => by omega)⟩
      show u2_ (aI_ σ2) (m + 3) j _ (m + 3) s = b2 (upA (sDf S) j true s)
      by_cases e : s = j
      · subst e
        rw [u2_e, upA_e]; rfl
      · rw [u2_i e, upA_n e]; exact hP2.1 s a b
  · have ek : opDefect S x = (0, S) := by unfold opDefect; rw [hi]
    rw [ek] at k
    exact k σ2 h2 f2.tt
theorem M_power (h : MI σ m S) {x : Int32} {post : Hp → Prop} (k : ∀ σ', MI σ' m (opPower S x) → MFr m σ σ' TP TQ → post σ') : wX9_power m x σ post := by
  obtain ⟨⟨sd, hM⟩, hP, hT, hO⟩ := id h
  unfold wX9_power wX9_power_L22
  refine ⟨mw_tag hM.1, fun σ2 e2 => ?_⟩
  have f2 : MFr m σ σ2 PX QX := by rw [e2]; exact MFr.thr
  obtain ⟨⟨sd2, hM2⟩, hP2, hT2, hO2⟩ := h.fr f2
  rw [hP2.2.1]
  have set : ∀ v : Int32, v = (if x < 0 then -1 else x) → sLo S = false → post (sI_ σ2 8 7 m v) := by
    intro v hv hl
    have f3 : MFr m σ2 (sI_ σ2 8 7 m v) (fun _ _ => False) (fun k => k = 7) := MFr.sI rfl
    refine k _ ⟨⟨sd2, f3.med hM2 (by omega) (by omega) (fun i z => z) (fun i z => z)⟩, ⟨fun s a b => hP2.1 s a b, hP2.2.1, fun _ => ?_, hP2.2.2.2⟩, hT2, hO2⟩ (f2.tt.trans f3.tt)
    rw [afI_sI, u3_e, hv]; rfl
  cases hl : sLo S with
  | true =>
    refine ⟨fun _ => k σ2 ⟨⟨sd2, hM2⟩, ⟨hP2.1, hP2.2.1, fun z => ?_, hP2.2.2.2⟩, hT2, hO2⟩ f2.tt, fun z => absurd z (by decide)⟩
    have : sLo S = false := z
    rw [hl] at this; cases this
  | false =>
    refine ⟨fun z => absurd rfl z, fun _ => ⟨fun q => ⟨mw_tag hM2.1, fun σ3 e3 => ?_⟩, fun q => ⟨mw_tag hM2.1, fun σ3 e3 => ?_⟩⟩⟩
    · rw [e3]; exact set x (by rw [if_neg (Int32.not_lt.mpr q)]) hl
    · rw [e3]; exact set (-1) (by rw [if_pos (Int32.not_le.mp q)]) hl
theorem M_state (h : MI σ m S) {x : Int32} {post : Int32 → Hp → Prop} (k : ∀ σ', MI σ' m S → MFr m σ σ' TP TQ → post (opState S x) σ') : wX9_state m x σ post := by
  obtain ⟨⟨sd, hM⟩, -⟩ := id h
  have hn := hM.2.1.2.1
  unfold wX9_state
  refine ⟨mw_tag hM.1, fun σ2 e2 => ?_⟩
  have f2 : MFr m σ σ2 PX QX := by rw [e2]; exact MFr.thr
  have h2 := h.fr f2
  obtain ⟨⟨sd2, hM2⟩, -⟩ := id h2
  have hw := hM2.1
  have hs2 := hM2.2.2.2.2.1
  rw [hM2.2.2.1]
  have kk := k σ2 h2 f2.tt
  unfold opState at kk
  refine m_in0 (by omega) (fun j hj hx hi => ⟨fun z => absurd z (by decide), fun _ => ?_⟩) (fun hi => ⟨fun _ => ?_, fun z => absurd rfl z⟩)
  · rw [hi] at kk
    subst hx
    simp (disch := omega) only [atg_sI, afI_sI, afL_sI, afR_sI, aln_sI, aaI_sI, aaL_sI, aaR_sI, anx_sI, abc_sI, abs_sI, alo_sI, atg_wI, afI_wI, afL_wI, afR_wI, aln_wI, aaI_wI, aaL_wI, aaR_wI, anx_wI, abc_wI, abs_wI, alo_wI, atg_wL, afI_wL, afL_wL, afR_wL, aln_wL, aaI_wL, aaL_wL, aaR_wL, anx_wL, abc_wL, abs_wL, alo_wL, u2_e, u2_r, u2_i, u3_e, u3_k, u3_c, u3_r, mw_tag hw, mw_lo hw, mw_loa hw, mf_3 hw, mt_3 hw, ml_3 hw, mf_4 hw, mt_4 hw, ml_4 hw, mf_5 hw, mt_5 hw, ml_5 hw, mf_9 hw, mt_9 hw, ml_9 hw, mf_11 hw, mt_11 hw, ml_11 hw, mf_12 hw, mt_12 hw, ml_12 hw, mf_13 hw, mt_13 hw, ml_13 hw, mf_14 hw, mt_14 hw, ml_14 hw, mf_15 hw, mt_15 hw, ml_15 hw, mf_16 hw, mt_16 hw, ml_16 hw, mf_17 hw, mt_17 hw, ml_17 hw, mf_18 hw, mt_18 hw, ml_18 hw, mf_19 hw, mt_19 hw, ml_19 hw, mf_21 hw, mt_21 hw, ml_21 hw, mf_24 hw, mt_24 hw, ml_24 hw, mf_25 hw, mt_25 hw, ml_25 hw, mf_26 hw, mt_26 hw, ml_26 hw, mf_29 hw, mt_29 hw, ml_29 hw, mf_30 hw, mt_30 hw, ml_30 hw, mf_31 hw, mt_31 hw, ml_31 hw, mf_32 hw, mt_32 hw, ml_32 hw, mf_33 hw, mt_33 hw, ml_33 hw, mf_34 hw, mt_34 hw, ml_34 hw, mf_36 hw, mt_36 hw, ml_36 hw, mf_37 hw, mt_37 hw, ml_37 hw, mf_38 hw, mt_38 hw, ml_38 hw, mf_39 hw, mt_39 hw, ml_39 hw, mf_40 hw, mt_40 hw, ml_40 hw, li_0, li_1, li_2, li_3, li_4, li_5, li_6, li_7, li_8, li_9, li_10, li_12, li_14, li_16, li_17, li_18, li_19, li_20, li_25, li_28, li_30, li_31, li_32, li_33, li_34, li_40, li_46, li_48, li_49, li_57, li_59, li_65, li_67, li_68, li_75, li_77, li_80, li_82, li_90, li_95, li_100, li_128, li_130, li_132, li_136, li_140, li_148, li_156, li_200, li_255, li_256, li_400, li_700, li_2047, li_2048, li_2049, li_2050, li_2054, li_2056, li_4096, li_6000, li_163840, li_409600, li_819200, nI_add, pk_mul, pk_sub, nI_leI, nI_ltI, nI_eq, nI_clamp, vin_t, forall_eq, true_and, and_true, forall_const, implies_true, hM2.2.2.2.1, hM2.2.2.2.2.2.2 j hj]
    exact kk
  · rw [hi] at kk; exact kk
theorem M_byteAt (h : MI σ m S) {x : Int32} {post : Int32 → Hp → Prop} (k : ∀ σ', MI σ' m S → MFr m σ σ' TP TQ → post (opByte S x) σ') : wX9_byteAt m x σ post := by
  obtain ⟨⟨sd, hM⟩, -⟩ := id h
  have hn := hM.2.1.2.1
  unfold wX9_byteAt
  refine ⟨mw_tag hM.1, fun σ2 e2 => ?_⟩
  have f2 : MFr m σ σ2 PX QX := by rw [e2]; exact MFr.thr
  have h2 := h.fr f2
  obtain ⟨⟨sd2, hM2⟩, -⟩ := id h2
  rw [hM2.2.2.1, li_2048, pk_mul]
  have kk := k σ2 h2 f2.tt
  unfold opByte at kk
  refine m_in0 (by omega) (fun j hj hx hi => ⟨fun z => absurd z (by decide), fun _ => ?_⟩) (fun hi => ⟨fun _ => ?_, fun z => absurd rfl z⟩)
  · rw [hi] at kk
    subst hx
    exact m_get hM2 hj kk
  · rw [hi] at kk; exact kk
theorem M_spoil (h : MI σ m S) {x v : Int32} {post : Int32 → Hp → Prop} (k : ∀ σ', MI σ' m (opSpoil S x v).2 → MFr m σ σ' TP TQ → post (opSpoil S x v).1 σ') : wX9_spoil m x v σ post := by
  obtain ⟨⟨sd, hM⟩, -⟩ := id h
  have hn := hM.2.1.2.1
  have hSt := hM.2.1.2.2.2
  unfold wX9_spoil
  refine ⟨mw_tag hM.1, fun σ2 e2 => ?_⟩
  have f2 : MFr m σ σ2 PX QX := by rw [e2]; exact MFr.thr
  have h2 := h.fr f2
  obtain ⟨⟨sd2, hM2⟩, hP2, hT2, hO2⟩ := id h2
  have hw := hM2.1
  have hs2 := hM2.2.2.2.2.1
  rw [hM2.2.2.1, li_2048, pk_mul]
  unfold opSpoil at k
  refine m_in0 (by omega) (fun p hp hx hi => ⟨fun z => absurd z (by decide), fun _ => ?_⟩) (fun hi => ⟨fun _ => ?_, fun z => absurd rfl z⟩)
  · rw [hi] at k
    have hst := hSt (p / 2048)
    have hps : p / 2048 < sN S := by omega
    subst hx
    rw [pk_div (by omega) (by decide) (by decide)]
    simp (disch := omega) only [atg_sI, afI_sI, afL_sI, afR_sI, aln_sI, aaI_sI, aaL_sI, aaR_sI, anx_sI, abc_sI, abs_sI, alo_sI, atg_wI, afI_wI, afL_wI, afR_wI, aln_wI, aaI_wI, aaL_wI, aaR_wI, anx_wI, abc_wI, abs_wI, alo_wI, atg_wL, afI_wL, afL_wL, afR_wL, aln_wL, aaI_wL, aaL_wL, aaR_wL, anx_wL, abc_wL, abs_wL, alo_wL, u2_e, u2_r, u2_i, u3_e, u3_k, u3_c, u3_r, mw_tag hw, mw_lo hw, mw_loa hw, mf_3 hw, mt_3 hw, ml_3 hw, mf_4 hw, mt_4 hw, ml_4 hw, mf_5 hw, mt_5 hw, ml_5 hw, mf_9 hw, mt_9 hw, ml_9 hw, mf_11 hw, mt_11 hw, ml_11 hw, mf_12 hw, mt_12 hw, ml_12 hw, mf_13 hw, mt_13 hw, ml_13 hw, mf_14 hw, mt_14 hw, ml_14 hw, mf_15 hw, mt_15 hw, ml_15 hw, mf_16 hw, mt_16 hw, ml_16 hw, mf_17 hw, mt_17 hw, ml_17 hw, mf_18 hw, mt_18 hw, ml_18 hw, mf_19 hw, mt_19 hw, ml_19 hw, mf_21 hw, mt_21 hw, ml_21 hw, mf_24 hw, mt_24 hw, ml_24 hw, mf_25 hw, mt_25 hw, ml_25 hw, mf_26 hw, mt_26 hw, ml_26 hw, mf_29 hw, mt_29 hw, ml_29 hw, mf_30 hw, mt_30 hw, ml_30 hw, mf_31 hw, mt_31 hw, ml_31 hw, mf_32 hw, mt_32 hw, ml_32 hw, mf_33 hw, mt_33 hw, ml_33 hw, mf_34 hw, mt_34 hw, ml_34 hw, mf_36 hw, mt_36 hw, ml_36 hw, mf_37 hw, mt_37 hw, ml_37 hw, mf_38 hw, mt_38 hw, ml_38 hw, mf_39 hw, mt_39 hw, ml_39 hw, mf_40 hw, mt_40 hw, ml_40 hw, li_0, li_1, li_2, li_3, li_4, li_5, li_6, li_7, li_8, li_9, li_10, li_12, li_14, li_16, li_17, li_18, li_19, li_20, li_25, li_28, li_30, li_31, li_32, li_33, li_34, li_40, li_46, li_48, li_49, li_57, li_59, li_65, li_67, li_68, li_75, li_77, li_80, li_82, li_90, li_95, li_100, li_128, li_130, li_132, li_136, li_140, li_148, li_156, li_200, li_255, li_256, li_400, li_700, li_2047, li_2048, li_2049, li_2050, li_2054, li_2056, li_4096, li_6000, li_163840, li_409600, li_819200, nI_add, pk_mul, pk_sub, nI_leI, nI_ltI, nI_eq, nI_clamp, vin_t, forall_eq, true_and, and_true, forall_const, implies_true, hM2.2.2.2.1, hM2.2.2.2.2.2.2 _ hps]
    refine ⟨fun q => m_get hM2 hp ?_, fun q => ?_⟩
    · simp only [q, if_true] at k
      try simp (disch := omega) only [atg_sI, afI_sI, afL_sI, afR_sI, aln_sI, aaI_sI, aaL_sI, aaR_sI, anx_sI, abc_sI, abs_sI, alo_sI, atg_wI, afI_wI, afL_wI, afR_wI, aln_wI, aaI_wI, aaL_wI, aaR_wI, anx_wI, abc_wI, abs_wI, alo_wI, atg_wL, afI_wL, afL_wL, afR_wL, aln_wL, aaI_wL, aaL_wL, aaR_wL, anx_wL, abc_wL, abs_wL, alo_wL, u2_e, u2_r, u2_i, u3_e, u3_k, u3_c, u3_r, mw_tag hw, mw_lo hw, mw_loa hw, mf_3 hw, mt_3 hw, ml_3 hw, mf_4 hw, mt_4 hw, ml_4 hw, mf_5 hw, mt_5 hw, ml_5 hw, mf_9 hw, mt_9 hw, ml_9 hw, mf_11 hw, mt_11 hw, ml_11 hw, mf_12 hw, mt_12 hw, ml_12 hw, mf_13 hw, mt_13 hw, ml_13 hw, mf_14 hw, mt_14 hw, ml_14 hw, mf_15 hw, mt_15 hw, ml_15 hw, mf_16 hw, mt_16 hw, ml_16 hw, mf_17 hw, mt_17 hw, ml_17 hw, mf_18 hw, mt_18 hw, ml_18 hw, mf_19 hw, mt_19 hw, ml_19 hw, mf_21 hw, mt_21 hw, ml_21 hw, mf_24 hw, mt_24 hw, ml_24 hw, mf_25 hw, mt_25 hw, ml_25 hw, mf_26 hw, mt_26 hw, ml_26 hw, mf_29 hw, mt_29 hw, ml_29 hw, mf_30 hw, mt_30 hw, ml_30 hw, mf_31 hw, mt_31 hw, ml_31 hw, mf_32 hw, mt_32 hw, ml_32 hw, mf_33 hw, mt_33 hw, ml_33 hw, mf_34 hw, mt_34 hw, ml_34 hw, mf_36 hw, mt_36 hw, ml_36 hw, mf_37 hw, mt_37 hw, ml_37 hw, mf_38 hw, mt_38 hw, ml_38 hw, mf_39 hw, mt_39 hw, ml_39 hw, mf_40 hw, mt_40 hw, ml_40 hw, li_0, li_1, li_2, li_3, li_4, li_5, li_6, li_7, li_8, li_9, li_10, li_12, li_14, li_16, li_17, li_18, li_19, li_20, li_25, li_28, li_30, li_31, li_32, li_33, li_34, li_40, li_46, li_48, li_49, li_57, li_59, li_65, li_67, li_68, li_75, li_77, li_80, li_82, li_90, li_95, li_100, li_128, li_130, li_132, li_136, li_140, li_148, li_156, li_200, li_255, li_256, li_400, li_700, li_2047, li_2048, li_2049, li_2050, li_2054, li_2056, li_4096, li_6000, li_163840, li_409600, li_819200, nI_add, pk_mul, pk_sub, nI_leI, nI_ltI, nI_eq, nI_clamp, vin_t, forall_eq, true_and, and_true, forall_const, implies_true, hM2.2.2.2.1]
      refine k _ ⟨⟨sd2, ?_⟩, hP2.fr (P := fun j _ => j = 1) (Q := fun _ => False) (MFr.wI (by omega) (by omega) rfl) (fun _ _ z => z) (fun i z => by omega), ?_, ?_⟩ (f2.tt.trans (MFr.wI (by omega) (by omega) trivial))
      · obtain ⟨a1, ⟨a2, a3, a4, a5⟩, a6, a7, a8, a9, a10⟩ := hM2
        refine ⟨a1, ⟨a2, a3, fun q => ?_, a5⟩, a6, a7, a8, fun q hq => ?_, fun s hs => ?_⟩
        · show upA (sB S) p (byt v) q < 256
          by_cases e : q = p
          · rw [e, upA_e]; exact Nat.mod_lt _ (by decide)
          · rw [upA_n e]; exact a4 q
        · show u2_ (aI_ σ2) (m + 1) (2048 * sd2 + p) _ (m + 1) (2048 * sd2 + q) = sb_b (upA (sB S) p (byt v) q)
          by_cases e : q = p
          · subst e
            rw [u2_e, upA_e, vp_nar_byte, ← byt_b]
            have := pk_vb v
            rw [vp_nar_byte] at this
            exact this
          · rw [u2_i (by omega), upA_n e]; exact a9 q hq
        · show u2_ (aI_ σ2) (m + 1) (2048 * sd2 + p) _ (m + 2) _ = _
          rw [u2_r (by omega)]; exact a10 s hs
      · exact hT2.fr (P := fun j _ => j = 1) (Q := fun _ => False) (MFr.wI (by omega) (by omega) rfl) (fun z => z) (fun j i h1 h2 z => by omega)
      · exact hO2.fr (P := fun j _ => j = 1) (Q := fun _ => False) (MFr.wI (by omega) (by omega) rfl) (fun z => z) (fun j i h1 h2 z => by omega)
    · simp only [q, if_false] at k
      exact k σ2 h2 f2.tt
  · rw [hi] at k; exact k σ2 h2 f2.tt
theorem M_writes (h : MI σ m S) {post : Int32 → Hp → Prop} (k : ∀ σ', MI σ' m S → MFr m σ σ' TP TQ → post (sWr S) σ') : wX9_writes m σ post := by
  obtain ⟨⟨sd, hM⟩, -⟩ := id h
  unfold wX9_writes
  refine ⟨mw_tag hM.1, fun σ2 e2 => ?_⟩
  have f2 : MFr m σ σ2 PX QX := by rw [e2]; exact MFr.thr
  have h2 := h.fr f2
  rw [h2.2.1.2.2.2.1]
  exact k σ2 h2 f2.tt
end
