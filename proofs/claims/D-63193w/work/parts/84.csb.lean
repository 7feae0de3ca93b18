/-! texts that are put together -/
/-- a builder, made since σ0, that holds l -/
def SBk (σ0 σ : Hp) (b : Nat) (l : List Nat) : Prop := Kp False (fun _ => False) σ0 σ ∧ (∀ r, tg_ σ r ≠ 0 → r < nx_ σ) ∧ (∀ r, nx_ σ0 ≤ r → tg_ σ r ≠ 11) ∧ nx_ σ0 ≤ b ∧ tg_ σ b = 12 ∧ nx_ σ0 ≤ fR_ σ 11 0 b ∧ tg_ σ (fR_ σ 11 0 b) = 100 ∧ ln_ σ (fR_ σ 11 0 b) = 16 ∧ fI_ σ 11 1 b = 0 ∧ fI_ σ 11 3 b = nI l.length ∧ l.length ≤ 15 ∧ (∀ i, i < l.length → aI_ σ (fR_ σ 11 0 b) i = sb_b (l.getD i 0)) ∧ (∀ c ∈ l, c < 256)
/-- what making a text leaves -/
def NewS (D : Nat) (σ0 σ : Hp) (r : Nat) (l : List Nat) : Prop := WF D σ ∧ Kp False (fun _ => False) σ0 σ ∧ Str D σ r l
section
variable {D : Nat} {σ0 σ τ : Hp} {b r : Nat} {l l' : List Nat}
theorem WF.new (hf : WF D σ0) (k : Kp False (fun _ => False) σ0 σ) (h1 : ∀ r, tg_ σ r ≠ 0 → r < nx_ σ) (h2 : ∀ r, nx_ σ0 ≤ r → tg_ σ r ≠ 11) : WF D σ :=
  hf.kp k WS0 h1 (fun r z => Nat.lt_of_not_le (fun y => h2 r y z)) (fun r z => k.r (hf.lt z) (fun y => y))
theorem sb_new (hf : WF D σ) (h1 : 2 ≤ bc_ σ) (h2 : 20 ≤ bs_ σ) {P : Hp → Prop} (k : ∀ σ', SBk σ σ' (nx_ σ) [] → bc_ σ' = bc_ σ - 2 → bs_ σ' = bs_ σ - 20 → P σ') :
    1 ≤ bc_ σ ∧ (4 ≤ bs_ σ ∧ (∀ σ3, σ3 = mO_ σ 11 4 → (tg_ σ3 (nx_ σ) = 12 ∧ (∃ mc5 ms6 : Nat, (mc5 ≤ bc_ σ3 ∧ (ms6 ≤ bs_ σ3 ∧ (wJ4_init (nx_ σ)  (bu_ σ3 mc5 ms6) (fun σ9 => (∀ σ10, σ10 = bu_ σ9 (bc_ σ3 - mc5) (bs_ σ3 - ms6) → P σ10))))))))) := by
  refine ⟨by omega, by omega, fun σ3 e3 => ?_⟩
  have t3 : tg_ σ3 = u1_ (tg_ σ) (nx_ σ) 12 := by rw [e3]; rfl
  have b3 : bc_ σ3 = bc_ σ - 1 := by rw [e3]; rfl
  have s3 : bs_ σ3 = bs_ σ - 4 := by rw [e3]; rfl
  have n3 : nx_ σ3 = nx_ σ + 1 := by rw [e3]; rfl
  refine ⟨by rw [t3, u1_e], 1, 16, by omega, by omega, ?_⟩
  unfold wJ4_init
  refine ⟨by show tg_ σ3 _ = 12; rw [t3, u1_e], 1, 16, Nat.le_refl _, Nat.le_refl _, ?_⟩
  unfold wJ3_init
  refine ⟨by show tg_ σ3 _ = 12; rw [t3, u1_e], fun z => absurd z (by decide), fun _ => ⟨by decide, by decide, Nat.le_refl _, by rw [li_16, nI_clamp (by decide)]; exact Nat.le_refl _, fun σ7 e7 => ⟨?_, fun σ9 e9 σ10 e10 σ11 e11 σ12 e12 => ?_⟩⟩⟩
  · rw [e7]; show u1_ (tg_ σ3) _ _ _ = 12
    rw [u1_k (by show nx_ σ ≠ nx_ σ3; omega), t3, u1_e]
  · rw [li_16, nI_clamp (by decide)] at e7
    have e9' : σ9 = sR_ σ7 11 0 (nx_ σ) (nx_ σ3) := e9
    have t12 : tg_ σ12 = u1_ (tg_ σ3) (nx_ σ3) 100 := by rw [e12, e11, e10, e9', e7]; rfl
    have l12 : ln_ σ12 = u1_ (ln_ σ3) (nx_ σ3) 16 := by rw [e12, e11, e10, e9', e7]; rfl
    have n12 : nx_ σ12 = nx_ σ + 2 := by rw [e12, e11, e10, e9', e7]; show nx_ σ3 + 1 = _; omega
    have r12 : fR_ σ12 11 0 (nx_ σ) = nx_ σ3 := by rw [e12, e11, e10, e9']; show u3_ _ _ _ _ _ _ _ _ = _; rw [u3_e]
    have i1 : fI_ σ12 11 1 (nx_ σ) = 0 := by rw [e12, e11, e10]; show u3_ _ _ _ _ _ _ _ _ = _; rw [u3_e]
    have i3 : fI_ σ12 11 3 (nx_ σ) = nI 0 := by
      rw [e12, e11, e10, e9', e7, afI_bu, afI_bu, afI_sI, u3_k (by decide)]
      show fI_ σ3 11 3 (nx_ σ) = _
      rw [e3]; show z3_ _ _ _ _ _ _ = _; rw [z3_e]; rfl
    refine k σ12 ⟨?_, fun q hq => ?_, fun q hq => ?_, Nat.le_refl _, ?_, ?_, ?_, ?_, i1, i3, by simp, fun i hi => absurd hi (by simp), fun c hc => absurd hc (by simp)⟩ ?_ ?_
    · rw [e12, e11, e10, e9', e7, e3]
      (repeat' first | with_reducible exact Kp.refl | with_reducible assumption | with_reducible apply Kp.sI' | with_reducible apply Kp.sL' | with_reducible apply Kp.sR' | with_reducible apply Kp.wI' | with_reducible apply Kp.wR' | with_reducible apply Kp.cI' | with_reducible apply Kp.cR' | with_reducible apply Kp.mO' | with_reducible apply Kp.mA' | with_reducible apply Kp.bu' | exact Or.inl rfl | exact Or.inr (Nat.le_refl _) | exact Or.inr (by omega) | exact Or.inr (Or.inl (by omega)))
    · rw [n12]
      rw [t12, t3] at hq
      by_cases z : q = nx_ σ3
      · omega
      · rw [u1_k z] at hq
        by_cases y : q = nx_ σ
        · omega
        · rw [u1_k y] at hq
          have := hf.1 q hq; omega
    · rw [t12, t3]
      by_cases z : q = nx_ σ3
      · rw [z, u1_e]; decide
      · rw [u1_k z]
        by_cases y : q = nx_ σ
        · rw [y, u1_e]; decide
        · rw [u1_k y]
          intro w
          have := hf.lt w; omega
    · rw [t12, u1_k (by omega), t3, u1_e]
    · rw [r12]; omega
    · rw [r12, t12, u1_e]
    · rw [r12, l12, u1_e]
    · rw [e12]; show bc_ σ3 - 1 = _; omega
    · rw [e12]; show bs_ σ3 - 16 = _; omega
theorem byte_fits (c : Nat) : fits .byte (.int (sb_b c)) = true := by
  unfold fits
  have h1 : -128 ≤ sb_b c := by
    rw [Int32.le_iff_toInt_le, sb_b, Int8.toInt_toInt32]
    have := Int8.le_toInt (nI c).toInt8
    have e : (-128 : Int32).toInt = -128 := by decide
    omega
  have h2 : sb_b c ≤ 127 := by
    rw [Int32.le_iff_toInt_le, sb_b, Int8.toInt_toInt32]
    have := Int8.toInt_lt (nI c).toInt8
    have e : (127 : Int32).toInt = 127 := by decide
    omega
  simp [h1, h2]
theorem ens_ (h : SBk σ0 σ b l) {n : Nat} (hn : n ≤ 16) {post : Hp → Prop} (k : post σ) : wJ3_ensureCapacityInternal b (nI n) σ post := by
  obtain ⟨a1, a2, a3, a4, a5, a6, a7, a8, a9, a10, a11, a12, a13⟩ := h
  unfold wJ3_ensureCapacityInternal
  rw [a8, a9, shr0]
  refine ⟨a5, a7, fun y hy => ⟨fun _ => k, fun z => absurd ?_ z⟩⟩
  rw [hy, Int32.le_iff_toInt_le, pk_sub_toInt (by omega) (by omega)]
  have : (0 : Int32).toInt = 0 := by decide
  omega
theorem SBk.len (h : SBk σ0 σ b l) : l.length ≤ 15 := h.2.2.2.2.2.2.2.2.2.2.1
theorem sb_app (h : SBk σ0 σ b l) (hs : Str D σ r l') (hr : r ≠ 0) (hl : lo_ σ < nx_ σ0) (hn : l.length + l'.length ≤ 15) {post : Nat → Hp → Prop} (k : ∀ σ', SBk σ0 σ' b (l ++ l') → bc_ σ' = bc_ σ → bs_ σ' = bs_ σ → post b σ') : wJ4_append b r σ post := by
  obtain ⟨a1, a2, a3, a4, a5, a6, a7, a8, a9, a10, a11, a12, a13⟩ := id h
  obtain ⟨c1, c2, c3, c4, c5, c6, c7, c8⟩ := id hs
  unfold wJ4_append wJ3_append
  refine ⟨a5, fun _ => ⟨c1, s_length hs ⟨a5, ?_⟩⟩, fun z => absurd z hr⟩
  rw [a10, nI_add]
  refine ens_ h (by omega) ⟨a5, ?_⟩
  unfold wJ3_putStringAt wJ3_inflateIfNeededFor wJ5_getBytes wJ5_coder
  rw [a9, a10, c4, c3]
  have z5 : (nI l.length <<< ((0 : Int32) &&& 31)) = nI l.length := by
    have e : ((0 : Int32) &&& 31) = 0 := by decide
    rw [e]; simp
  have cl : (nI l'.length).toNatClampNeg = l'.length := nI_clamp (by omega)
  have cl2 : (nI l.length).toNatClampNeg = l.length := nI_clamp (by omega)
  have cl0 : ((0 : Int32)).toNatClampNeg = 0 := by decide
  rw [z5, cl, cl2, cl0]
  refine ⟨a5, fun z => absurd z (by decide), fun _ => ⟨a5, c1, fun z => absurd z (by decide), fun _ => ⟨c1, rfl, fun _ => ⟨c1, c1, fun z => absurd z (by decide), fun _ => ⟨c1, rfl, fun z => absurd rfl z, fun _ => ⟨c2, a7, by omega, by decide, nI_pos (by omega), nI_pos (by omega), by omega, by rw [a8]; omega, fun i hi => ?_, fun σ14 e14 => ⟨?_, fun σ9 e9 => ?_⟩⟩⟩⟩, fun z => absurd rfl z⟩⟩⟩
  · rw [Nat.zero_add, c5 i hi]
    exact byte_fits _
  · rw [e14]; exact a5
  · have t9 : tg_ σ9 = tg_ σ := by rw [e9, e14]; rfl
    have n9 : nx_ σ9 = nx_ σ := by rw [e9, e14]; rfl
    have r9 : fR_ σ9 = fR_ σ := by rw [e9, e14]; rfl
    have l9 : ln_ σ9 = ln_ σ := by rw [e9, e14]; rfl
    refine k σ9 ⟨?_, by rw [t9, n9]; exact a2, by rw [t9]; exact a3, a4, by rw [t9]; exact a5, by rw [r9]; exact a6, by rw [r9, t9]; exact a7, by rw [r9, l9]; exact a8, ?_, ?_, by simp; omega, fun i hi => ?_, fun c hc => ?_⟩ (by rw [e9, e14]; rfl) (by rw [e9, e14]; rfl)
    · rw [e9, e14]
      exact Kp.sI' (Kp.cI' a1 (Or.inr a6)) (Or.inr (Or.inl a4))
    · rw [e9, afI_sI, u3_k (by decide), e14, afI_cI]; exact a9
    · rw [e9, afI_sI, u3_e, e14, afI_cI, a10, nI_add, List.length_append]
    · rw [r9, e9, aaI_sI, e14, aaI_cI, getD_app]
      by_cases z : i < l.length
      · rw [if_pos z, cp_o (by omega)]; exact a12 i z
      · rw [if_neg z]
        have hi' : i < l.length + l'.length := by simpa using hi
        rw [cp_i (by omega) (by omega), Nat.zero_add]
        exact c5 _ (by omega)
    · rcases List.mem_append.mp hc with z | z
      · exact a13 c z
      · exact c6 c z
theorem sb_chr (h : SBk σ0 σ b l) {c : Nat} (hc : c < 256) (hl : lo_ σ < nx_ σ0) (hn : l.length ≤ 14) {post : Nat → Hp → Prop} (k : ∀ σ', SBk σ0 σ' b (l ++ [c]) → bc_ σ' = bc_ σ → bs_ σ' = bs_ σ → post b σ') : wJ4_append_2 b (nI c) σ post := by
  obtain ⟨a1, a2, a3, a4, a5, a6, a7, a8, a9, a10, a11, a12, a13⟩ := id h
  unfold wJ4_append_2 wJ3_append_2
  refine ⟨a5, a5, ?_⟩
  rw [a10, li_1, nI_add]
  refine ens_ h (by omega) ⟨a5, ?_⟩
  unfold wJ3_isLatin1 wJ11_canEncode
  rw [a9, li_255, nI_ltI (by omega) (by omega)]
  refine ⟨fun z => absurd z (by decide), fun _ => ⟨a5, fun z => absurd rfl z, fun _ => ⟨fun z => absurd z (by decide), fun _ => ⟨fun z => by omega, fun _ => ⟨fun z => absurd z (by decide), fun _ σ13 e13 => ?_⟩⟩⟩⟩⟩
  rw [a10] at e13 ⊢
  rw [nI_clamp (by omega)]
  refine ⟨by rw [e13]; exact a7, by rw [e13]; show lo_ σ < _; omega, by rw [e13]; show vp_in _ (ln_ σ _); rw [a8]; exact (vin_ (by omega)).mpr (by omega), fun σ9 e9 => ?_⟩
  have t9 : tg_ σ9 = tg_ σ := by rw [e9, e13]; rfl
  have n9 : nx_ σ9 = nx_ σ := by rw [e9, e13]; rfl
  have r9 : fR_ σ9 = fR_ σ := by rw [e9, e13]; rfl
  have l9 : ln_ σ9 = ln_ σ := by rw [e9, e13]; rfl
  refine k σ9 ⟨?_, by rw [t9, n9]; exact a2, by rw [t9]; exact a3, a4, by rw [t9]; exact a5, by rw [r9]; exact a6, by rw [r9, t9]; exact a7, by rw [r9, l9]; exact a8, ?_, ?_, by simp; omega, fun i hi => ?_, fun c' hc' => ?_⟩ (by rw [e9, e13]; rfl) (by rw [e9, e13]; rfl)
  · rw [e9, e13]
    exact Kp.wI' (Kp.sI' a1 (Or.inr (Or.inl a4))) (Or.inr a6)
  · rw [e9, afI_wI, e13, afI_sI, u3_k (by decide)]; exact a9
  · rw [e9, afI_wI, e13, afI_sI, u3_e, nI_add, List.length_append]; rfl
  · rw [r9, e9, aaI_wI, e13, aaI_sI, getD_app]
    by_cases z : i < l.length
    · rw [if_pos z, u2_i (by omega)]; exact a12 i z
    · have hi' : i < l.length + 1 := by simpa using hi
      rw [if_neg z, show i = l.length by omega, u2_e, nI_b hc, nar_b]; simp
  · rcases List.mem_append.mp hc' with z | z
    · exact a13 c' z
    · simp at z; omega
theorem sb_str (hf : WF D σ0) (hD : D < nx_ σ0) (h : SBk σ0 σ b l) (h1 : 2 ≤ bc_ σ) (h2 : 4 + l.length ≤ bs_ σ) {post : Nat → Hp → Prop} (k : ∀ σ', NewS D σ0 σ' (nx_ σ) l → bc_ σ' = bc_ σ - 2 → bs_ σ' = bs_ σ - (4 + l.length) → post (nx_ σ) σ') :
    ∃ mc20 ms21 : Nat, (mc20 ≤ bc_ σ ∧ (ms21 ≤ bs_ σ ∧ (wJ4_toString b (bu_ σ mc20 ms21) (fun r24 σ25 => (∀ σ26, σ26 = bu_ σ25 (bc_ σ - mc20) (bs_ σ - ms21) → post r24 σ26))))) := by
  obtain ⟨a1, a2, a3, a4, a5, a6, a7, a8, a9, a10, a11, a12, a13⟩ := id h
  have hlo : lo_ σ < nx_ σ0 := by rw [a1.1]; exact hf.2.1
  have hn0 := a1.2.1
  have hbn := a2 b (by omega)
  have hvn := a2 (fR_ σ 11 0 b) (by omega)
  refine ⟨2, 4 + l.length, h1, h2, ?_⟩
  unfold wJ4_toString
  refine ⟨by show 1 ≤ 2; omega, by show 4 ≤ 4 + l.length; omega, fun σ3 e3 => ?_⟩
  have e3' : σ3 = mO_ (bu_ σ 2 (4 + l.length)) 12 4 := e3
  have t3 : tg_ σ3 = u1_ (tg_ σ) (nx_ σ) 13 := by rw [e3]; rfl
  have n3 : nx_ σ3 = nx_ σ + 1 := by rw [e3]; rfl
  have l3 : ln_ σ3 = ln_ σ := by rw [e3]; rfl
  have bc3 : bc_ σ3 = 1 := by rw [e3]; rfl
  have bs3 : bs_ σ3 = l.length := by rw [e3]; show 4 + l.length - 4 = _; omega
  have aI3 : aI_ σ3 = aI_ σ := by rw [e3]; rfl
  have lo3 : lo_ σ3 = lo_ σ := by rw [e3]; rfl
  have fR3 : ∀ c k q, q ≠ nx_ σ → fR_ σ3 c k q = fR_ σ c k q := fun c k q z => by rw [e3, afR_mO, anx_bu, z3_r z]; rfl
  have fI3 : ∀ c k q, q ≠ nx_ σ → fI_ σ3 c k q = fI_ σ c k q := fun c k q z => by rw [e3, afI_mO, anx_bu, z3_r z]; rfl
  show tg_ σ3 (nx_ σ) = 13 ∧ _
  have tn : tg_ σ3 (nx_ σ) = 13 := by rw [t3, u1_e]
  refine ⟨tn, 1, l.length, by omega, by omega, ?_⟩
  show wJ5_init (nx_ σ) b (bu_ σ3 1 l.length) _
  unfold wJ5_init
  refine ⟨tn, 1, l.length, Nat.le_refl _, Nat.le_refl _, ?_⟩
  unfold wJ5_init_2 wJ3_getValue wJ4_length wJ3_length wJ3_isLatin1
  have tb3 : tg_ σ3 b = 12 := by rw [t3, u1_k (by omega)]; exact a5
  have i1 : fI_ (bu_ (bu_ σ3 1 l.length) 1 l.length) 11 1 b = 0 := by rw [afI_bu, afI_bu, fI3 _ _ _ (by omega)]; exact a9
  have i3 : fI_ (bu_ (bu_ σ3 1 l.length) 1 l.length) 11 3 b = nI l.length := by rw [afI_bu, afI_bu, fI3 _ _ _ (by omega)]; exact a10
  have r0 : fR_ (bu_ (bu_ σ3 1 l.length) 1 l.length) 11 0 b = fR_ σ 11 0 b := by rw [afR_bu, afR_bu, fR3 _ _ _ (by omega)]
  rw [i1, i3, r0]
  refine ⟨tn, tb3, tb3, tb3, tb3, fun z => absurd z (by decide), fun _ => ⟨tb3, fun z => absurd rfl z, fun _ => ⟨fun z => absurd z (by decide), fun _ => ⟨by show lo_ σ3 < _; omega, fun σ23 e23 => ⟨1, l.length, by rw [e23]; exact Nat.le_refl _, by rw [e23]; exact Nat.le_refl _, ?_⟩⟩⟩⟩⟩
  unfold wJ9_copyOfRange
  have t23 : tg_ σ23 = tg_ σ3 := by rw [e23]; rfl
  have l23 : ln_ σ23 = ln_ σ := by rw [e23]; exact l3
  have tv23 : tg_ σ23 (fR_ σ 11 0 b) = 100 := by rw [t23, t3, u1_k (by omega)]; exact a7
  have lv23 : ln_ σ23 (fR_ σ 11 0 b) = 16 := by rw [l23]; exact a8
  have n23 : nx_ σ23 = nx_ σ + 1 := by rw [e23]; exact n3
  refine ⟨fun z => absurd rfl z, fun _ => ⟨tv23, fun z => ?_, fun _ => ?_⟩⟩
  · have z' : nI l.length = nI (ln_ σ23 (fR_ σ 11 0 b)) := z
    rw [lv23, nI_eq (by omega) (by decide)] at z'
    omega
  unfold wJ9_copyOfRange_L10
  refine ⟨1, l.length, Nat.le_refl _, Nat.le_refl _, ?_⟩
  unfold wJ9_copyOfRangeByte wJ9_checkLength
  have cl : (nI l.length).toNatClampNeg = l.length := nI_clamp (by omega)
  have h0c : ((0 : Int32)).toNatClampNeg = 0 := by decide
  have s0 : nI l.length - 0 = nI l.length := by simp
  refine ⟨fun _ y1 hy1 => ?_, fun z => absurd (by rw [li_0, nI_leI (by omega) (by omega)]; omega) z⟩
  rw [s0] at hy1
  subst hy1
  rw [cl]
  refine ⟨nI_pos (by omega), by omega, Nat.le_refl _, Nat.le_refl _, fun σ6 e6 y7 hy7 => ?_⟩
  have hy7' : y7 = nx_ σ + 1 := by rw [hy7]; exact n23
  subst hy7'
  have e6' : σ6 = mA_ (bu_ (bu_ σ23 1 l.length) 1 l.length) 100 l.length := e6
  have t6 : tg_ σ6 = u1_ (tg_ σ23) (nx_ σ + 1) 100 := by rw [e6, ← n23]; rfl
  have l6 : ln_ σ6 = u1_ (ln_ σ23) (nx_ σ + 1) l.length := by rw [e6, ← n23]; rfl
  have tv6 : tg_ σ6 (fR_ σ 11 0 b) = 100 := by rw [t6, u1_k (by omega)]; exact tv23
  have lv6 : ln_ σ6 (fR_ σ 11 0 b) = 16 := by rw [l6, u1_k (by omega)]; exact lv23
  have av6 : ∀ i, aI_ σ6 (fR_ σ 11 0 b) i = aI_ σ (fR_ σ 11 0 b) i := fun i => by
    rw [e6', aaI_mA, z2_r (by show _ ≠ nx_ σ23; omega), aaI_bu, aaI_bu, e23, aaI_sI, aaI_bu, aaI_bu, aI3]
  have lo6 : lo_ σ6 = lo_ σ := by rw [e6', e23]; exact lo3
  have hif : (if nI l.length < nI 16 - 0 then nI l.length else nI 16 - 0) = nI l.length := by
    have e16 : nI 16 - 0 = nI 16 := by decide
    rw [e16, if_pos ((nI_ltI (by omega) (by omega)).mpr (by omega))]
  rw [lv6, hif, cl, h0c]
  refine ⟨tv6, by rw [t6, u1_e], by rw [lo6]; omega, by decide, by decide, nI_pos (by omega), by omega, by rw [l6, u1_e]; omega, fun i hi => ?_, fun σ17 e17 σ18 e18 σ19 e19 => ?_⟩
  · rw [av6, Nat.zero_add, a12 i hi]; exact byte_fits _
  have t19 : tg_ σ19 = tg_ σ6 := by rw [e19, e18, e17]; rfl
  refine ⟨by rw [t19, t6, u1_k (by omega), t23]; exact tn, by rw [e19, e18, e17]; show lo_ σ6 < _; omega, fun σ33 e33 σ34 e34 σ35 e35 σ36 e36 => ?_⟩
  obtain ⟨q1, q2, q3, q4, q5, q6, ef⟩ : ∃ q1 q2 q3 q4 q5 q6 : Nat, σ36 = bu_ (bu_ (bu_ (sR_ σ19 12 0 (nx_ σ) (nx_ σ + 1)) q1 q2) q3 q4) q5 q6 := ⟨_, _, _, _, _, _, by rw [e36, e35, e34, e33]⟩
  have tF : tg_ σ36 = u1_ (u1_ (tg_ σ) (nx_ σ) 13) (nx_ σ + 1) 100 := by rw [ef]; show tg_ σ19 = _; rw [t19, t6, t23, t3]
  have nF : nx_ σ36 = nx_ σ + 2 := by rw [ef, e19, e18, e17, e6']; show nx_ σ23 + 1 = _; omega
  have kF : Kp False (fun _ => False) σ0 σ36 := by
    rw [ef, e19, e18, e17, e6', e23, e3']
    exact Kp.bu' (Kp.bu' (Kp.bu' (Kp.sR' (Kp.bu' (Kp.bu' (Kp.cI' (Kp.mA' (Kp.bu' (Kp.bu' (Kp.sI' (Kp.bu' (Kp.bu' (Kp.mO' (Kp.bu' a1)))) (Or.inr (Or.inl (by omega))))))) (Or.inr (by omega))))) (Or.inr (by omega)))))
  have rF : fR_ σ36 12 0 (nx_ σ) = nx_ σ + 1 := by rw [ef, afR_bu, afR_bu, afR_bu, afR_sR, u3_e]
  refine k σ36 ⟨hf.new kF (fun q hq => ?_) (fun q hq => ?_), kF, ?_, ?_, ?_, ?_, fun i hi => ?_, a13, ?_, by omega⟩ (by rw [e36]; rfl) (by rw [e36]; rfl)
  · rw [nF]
    rw [tF] at hq
    by_cases z : q = nx_ σ + 1
    · omega
    · rw [u1_k z] at hq
      by_cases y : q = nx_ σ
      · omega
      · rw [u1_k y] at hq
        have := a2 q hq; omega
  · rw [tF]
    by_cases z : q = nx_ σ + 1
    · rw [z, u1_e]; decide
    · rw [u1_k z]
      by_cases y : q = nx_ σ
      · rw [y, u1_e]; decide
      · rw [u1_k y]; exact a3 q hq
  · rw [tF, u1_k (by omega), u1_e]
  · rw [rF, tF, u1_e]
  · rw [rF, ef, e19, e18, e17]; show ln_ σ6 _ = _; rw [l6, u1_e]
  · rw [ef, e19, e18, e17, e6', e23]
    simp only [afI_bu, afI_sR, afI_cI, afI_mA, afI_sI, u3_e]
  · rw [rF, ef, e19, e18, e17]
    simp only [aaI_bu, aaI_sR, aaI_cI]
    rw [cp_i (by omega) (by omega), av6, show 0 + (i - 0) = i by omega]
    exact a12 i hi
  · rw [rF]; right; omega
end
