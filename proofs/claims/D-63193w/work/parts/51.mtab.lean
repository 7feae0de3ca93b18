/-! the reference compares the path tables -/
def oM (B : Nat → Nat) (p : Nat) (o : Option Nat) (l : List Nat) : Option Nat := match o with
  | some w => some w
  | none => mism B p l
theorem oM_app (B : Nat → Nat) (p : Nat) (o : Option Nat) (a b : List Nat) : oM B p o (a ++ b) = oM B (p + a.length) (oM B p o a) b := by
  cases o with
  | some w => rfl
  | none =>
    show mism B p (a ++ b) = _
    rw [mism_app]
    show _ = oM B (p + a.length) (mism B p a) b
    cases mism B p a <;> rfl
theorem oM_nil (B : Nat → Nat) (p : Nat) (o : Option Nat) : oM B p o [] = o := by cases o <;> rfl
theorem mism_lt {B : Nat → Nat} : ∀ (l : List Nat) (p w : Nat), mism B p l = some w → p ≤ w ∧ w < p + l.length
  | [], p, w, h => by simp [mism] at h
  | c :: l, p, w, h => by
    unfold mism at h
    split at h
    · have := mism_lt l (p + 1) w h
      simp; omega
    · simp at h; simp; omega
def WR (σ : Hp) (m : Nat) (o : Option Nat) : Prop := match o with
  | some w => fI_ σ 8 28 m = nI w ∧ w < 2 ^ 30
  | none => fI_ σ 8 28 m = -1
def Q28 : Nat → Prop := fun k => k = 28
def P0 : Nat → Nat → Prop := fun _ _ => False
/-- a byte of a number -/
theorem shb {x : Nat} (hx : x < 2 ^ 31) : ∀ i, i < 4 → (nI x >>> ((nI 8 * nI i) &&& 31)) &&& 255 = nI (x / 256 ^ i % 256) := by
  intro i hi
  have e : i = 0 ∨ i = 1 ∨ i = 2 ∨ i = 3 := by omega
  rcases e with e | e | e | e <;> subst e
  · rw [pk_shrN hx _ 0 (by decide), pk_andN (k := 8) (by omega) (by decide)]
  · rw [pk_shrN hx _ 8 (by decide), pk_andN (k := 8) (by omega) (by decide)]
  · rw [pk_shrN hx _ 16 (by decide), pk_andN (k := 8) (by omega) (by decide)]
  · rw [pk_shrN hx _ 24 (by decide), pk_andN (k := 8) (by omega) (by decide)]
theorem lowB_len (n v : Nat) : (lowB n v).length = n := by simp [lowB]
theorem highB_len (n v : Nat) : (highB n v).length = n := by simp [highB]
theorem ndir_take {F : List FT} {q : Nat} (h : q < F.length) : ndir (F.take (q + 1)) = ndir (F.take q) + (if fd_ (gF F q) = 1 then 1 else 0) := by
  unfold ndir
  rw [List.take_succ_eq_append_getElem h, List.filter_append, List.length_append]
  congr 1
  have : gF F q = F[q] := by simp [gF, List.getD_eq_getElem?_getD, h]
  rw [this]
  by_cases e : fd_ F[q] = 1 <;> simp [e]
theorem ndir_le (F : List FT) : ndir F ≤ F.length := List.length_filter_le _ _
theorem ptE_len (lo : Bool) (l : List Nat) (x up : Nat) : (ptE lo l x up).length = 8 + l.length + l.length % 2 := by
  unfold ptE
  cases lo <;> simp [lowB_len, highB_len] <;> split <;> simp <;> omega
section
variable {σ : Hp} {m n sd : Nat} {B St : Nat → Nat}
theorem MFr.p0 {σ' : Hp} (h : MFr m σ σ' P0 Q28) (hm : MedM σ m n sd B St) : MedM σ' m n sd B St := h.med hm (by unfold Q28; omega) (by unfold Q28; omega) (fun i q => q) (fun i q => q)
theorem SF.p0 {σ' : Hp} {F : List FT} (hf : SF σ m F) (h : MFr m σ σ' P0 Q28) : SF σ' m F := hf.fr h (by unfold Q28; omega) (fun _ _ _ _ _ q => q)
theorem m_expect (h : MedM σ m n sd B St) {o : Option Nat} {p c : Nat} {v : Int32} (ho : WR σ m o) (hp : p < 2048 * n) (hv : v &&& 255 = nI c) (hc : c < 256) {post : Int32 → Hp → Prop} (k : ∀ σ', MFr m σ σ' P0 Q28 → WR σ' m (oM B p o [c]) → post (nI (p + 1)) σ') : wX9_expect m (nI p) v σ post := by
  have hn := h.2.1.2.1
  have hb := h.2.1.2.2.1 p
  unfold wX9_expect wX9_expect_L25
  rw [hv, li_1, nI_add]
  cases o with
  | some w =>
    obtain ⟨h1, h2⟩ := ho
    rw [h1]
    exact ⟨mw_tag h.1, fun _ => k σ MFr.refl ⟨h1, h2⟩, fun z => absurd (nI_pos' (by omega)) z⟩
  | none =>
    have h1 : fI_ σ 8 28 m = -1 := ho
    rw [h1]
    refine ⟨mw_tag h.1, fun z => absurd z (by decide), fun _ => m_get h hp ?_⟩
    rw [nI_eq (by omega) (by omega)]
    refine ⟨fun e => k σ MFr.refl ?_, fun e σ5 h5 => ?_⟩
    · show WR σ m (mism B p [c])
      unfold mism
      rw [if_pos e]
      exact h1
    · rw [h5]
      refine k _ (MFr.sI rfl) ?_
      show WR _ m (mism B p [c])
      unfold mism
      rw [if_neg e]
      exact ⟨by rw [afI_sI, u3_e], by omega⟩
variable {post : Int32 → Hp → Prop} {rc9 rc37 : Int32 → Int32 → Hp → Prop}
/-- an entry's letters and its padding -/
theorem m_tab245 (h : MedM σ m n sd B St) {F : List FT} (hF : SF σ m F) (hok : FOK n F) {k p : Nat} (hk : k < F.length) {o : Option Nat} (ho : WR σ m o) {l : List Nat} (hl : l = if k = 0 then [0] else fn_ (gF F k)) (hp : p + 10 ≤ 2048 * n) {x1 x3 x5 : Int32}
    (K : ∀ σ', MFr m σ σ' P0 Q28 → WR σ' m (oM B p o (l ++ (if l.length % 2 = 1 then [0] else []))) → rc37 (nI (p + l.length + l.length % 2)) (nI (k + 1)) σ') : wX9_tableIs_L245 post rc9 rc37 m x1 x3 (nI p) x5 (nI k) (nI l.length) 0 σ := by
  have hn := h.2.1.2.1
  have hlen := hok.1.2
  have hl8 : l.length ≤ 8 := by
    rw [hl]; split
    · simp
    · exact (hok.2.1 k hk).1.2.2.2.2.2.1
  unfold wX9_tableIs_L245
  refine lpG3 (B := fun R x4 x9 τ => wX9_tableIs_B245 post rc9 rc37 R m x1 x3 x4 x5 (nI k) (nI l.length) x9 τ) (fun j x4 x9 τ => j ≤ l.length ∧ x4 = nI (p + (l.length - j)) ∧ x9 = nI (l.length - j) ∧ MFr m σ τ P0 Q28 ∧ WR τ m (oM B p o (l.take (l.length - j)))) l.length ⟨Nat.le_refl _, by simp, by simp [nI_0], MFr.refl, by simpa [oM_nil] using ho⟩ ?_
  rintro j x4 x9 τ R ⟨h1, rfl, rfl, h4, h5⟩ hR
  have hm := h4.p0 h
  have hw := hm.1
  have hF' := hF.p0 h4
  unfold wX9_tableIs_B245 wX9_tableIs_L304 wX9_tableIs_L276
  rw [li_2, pk_rem (by omega) (by decide) (by decide)]
  simp (disch := omega) only [atg_sI, afI_sI, afL_sI, afR_sI, aln_sI, aaI_sI, aaL_sI, aaR_sI, anx_sI, abc_sI, abs_sI, alo_sI, atg_wI, afI_wI, afL_wI, afR_wI, aln_wI, aaI_wI, aaL_wI, aaR_wI, anx_wI, abc_wI, abs_wI, alo_wI, atg_wL, afI_wL, afL_wL, afR_wL, aln_wL, aaI_wL, aaL_wL, aaR_wL, anx_wL, abc_wL, abs_wL, alo_wL, u2_e, u2_r, u2_i, u3_e, u3_k, u3_c, u3_r, mw_tag hw, mw_lo hw, mw_loa hw, mf_3 hw, mt_3 hw, ml_3 hw, mf_4 hw, mt_4 hw, ml_4 hw, mf_5 hw, mt_5 hw, ml_5 hw, mf_9 hw, mt_9 hw, ml_9 hw, mf_11 hw, mt_11 hw, ml_11 hw, mf_12 hw, mt_12 hw, ml_12 hw, mf_13 hw, mt_13 hw, ml_13 hw, mf_14 hw, mt_14 hw, ml_14 hw, mf_15 hw, mt_15 hw, ml_15 hw, mf_16 hw, mt_16 hw, ml_16 hw, mf_17 hw, mt_17 hw, ml_17 hw, mf_18 hw, mt_18 hw, ml_18 hw, mf_19 hw, mt_19 hw, ml_19 hw, mf_21 hw, mt_21 hw, ml_21 hw, mf_24 hw, mt_24 hw, ml_24 hw, mf_25 hw, mt_25 hw, ml_25 hw, mf_26 hw, mt_26 hw, ml_26 hw, mf_29 hw, mt_29 hw, ml_29 hw, mf_30 hw, mt_30 hw, ml_30 hw, mf_31 hw, mt_31 hw, ml_31 hw, mf_32 hw, mt_32 hw, ml_32 hw, mf_33 hw, mt_33 hw, ml_33 hw, mf_34 hw, mt_34 hw, ml_34 hw, mf_36 hw, mt_36 hw, ml_36 hw, mf_37 hw, mt_37 hw, ml_37 hw, mf_38 hw, mt_38 hw, ml_38 hw, mf_39 hw, mt_39 hw, ml_39 hw, mf_40 hw, mt_40 hw, ml_40 hw, li_0, li_1, li_2, li_3, li_4, li_5, li_6, li_7, li_8, li_9, li_10, li_12, li_14, li_16, li_17, li_18, li_19, li_20, li_25, li_28, li_30, li_31, li_32, li_33, li_34, li_40, li_46, li_48, li_49, li_57, li_59, li_65, li_67, li_68, li_75, li_77, li_80, li_82, li_90, li_95, li_100, li_128, li_130, li_132, li_136, li_140, li_148, li_156, li_200, li_255, li_256, li_400, li_700, li_2047, li_2048, li_2049, li_2050, li_2054, li_2056, li_4096, li_6000, li_163840, li_409600, li_819200, nI_add, pk_mul, pk_sub, nI_leI, nI_ltI, nI_eq, nI_clamp, vin_t, forall_eq, true_and, and_true, forall_const, implies_true]
  refine ⟨fun q => ?_, fun q => ?_⟩
  · rw [show l.length - j = l.length by omega, List.take_length] at h5
    rw [show l.length - j = l.length by omega]
    refine ⟨fun z => ?_, fun z => m_expect hm h5 (by omega) (by decide) (by decide : 0 < 256) (fun σ' a b => ?_)⟩
    · have := K τ h4 (by rw [if_neg z, List.append_nil]; exact h5)
      rw [show l.length % 2 = 0 by omega] at this
      exact this
    · rw [← oM_app] at b
      have := K σ' (h4.trans a) (by rw [if_pos z]; exact b)
      rw [z] at this
      exact this
  · have hi : l.length - j < l.length := by omega
    have hg : l.getD (l.length - j) 0 = l[l.length - j] := by simp [List.getD_eq_getElem?_getD, hi]
    have step : ∀ c, c < 256 → c = l.getD (l.length - j) 0 → wX9_expect m (nI (p + (l.length - j))) (nI c) τ (fun r5 σ6 => R r5 (nI (l.length - j + 1)) σ6) := by
      intro c hc e
      refine m_expect hm h5 (by omega) (by rw [pk_andN (k := 8) (by omega) (by decide), Nat.mod_eq_of_lt (by omega)]) hc (fun σ' a b => hR (j - 1) _ _ _ (by omega) ⟨by omega, ?_, ?_, h4.trans a, ?_⟩)
      · congr 1; omega
      · congr 1; omega
      · rw [e, hg] at b
        have e2 : p + (l.length - j) = p + (l.take (l.length - j)).length := by simp
        rw [e2, ← oM_app, ← List.take_succ_eq_append_getElem hi, show l.length - j + 1 = l.length - (j - 1) by omega] at b
        exact b
    refine ⟨fun z => ?_, fun z => step 0 (by decide) ?_⟩
    · rw [if_neg z] at hl
      have hfo := (hok.2.1 k hk).1
      have := (hF'.2 k hk).2.2.2.2.1
      rw [this, ← hl]
      have hb : ∀ c ∈ l, 0 < c ∧ c < 256 := by rw [hl]; exact FO_b hfo
      exact m_letter hl8 hb hi (step _ (getD_lt hb _) rfl)
    · rw [if_pos z] at hl
      rw [hl] at hi ⊢
      simp at hi ⊢
      rw [hi]; rfl
theorem m_tab203 (h : MedM σ m n sd B St) {F : List FT} (hF : SF σ m F) (hok : FOK n F) {k p up mm : Nat} (hmm : mm < 2) (hup : up < 2 ^ 31) (hk : k < F.length) {o : Option Nat} (ho : WR σ m o) {l : List Nat} (hl : l = if k = 0 then [0] else fn_ (gF F k)) (hp : p + 12 ≤ 2048 * n) {x1 x5 : Int32}
    (K : ∀ σ', MFr m σ σ' P0 Q28 → WR σ' m (oM B p o ((if mm = 0 then lowB 2 up else highB 2 up) ++ (l ++ (if l.length % 2 = 1 then [0] else [])))) → rc37 (nI (p + 2 + l.length + l.length % 2)) (nI (k + 1)) σ') : wX9_tableIs_L203 post rc9 rc37 m x1 (nI mm) (nI p) x5 (nI k) (nI l.length) (nI up) 0 σ := by
  have hn := h.2.1.2.1
  have hlen : (if mm = 0 then lowB 2 up else highB 2 up).length = 2 := by split <;> simp [lowB_len, highB_len]
  unfold wX9_tableIs_L203
  refine lpG3 (B := fun R x4 x9 τ => wX9_tableIs_B203 post rc9 rc37 R m x1 (nI mm) x4 x5 (nI k) (nI l.length) (nI up) x9 τ) (fun j x4 x9 τ => j ≤ 2 ∧ x4 = nI (p + (2 - j)) ∧ x9 = nI (2 - j) ∧ MFr m σ τ P0 Q28 ∧ WR τ m (oM B p o ((if mm = 0 then lowB 2 up else highB 2 up).take (2 - j)))) 2 ⟨Nat.le_refl _, by simp, by simp [nI_0], MFr.refl, by simpa [oM_nil] using ho⟩ ?_
  rintro j x4 x9 τ R ⟨h1, rfl, rfl, h4, h5⟩ hR
  have hm := h4.p0 h
  have hw := hm.1
  unfold wX9_tableIs_B203 wX9_tableIs_L229
  simp (disch := omega) only [atg_sI, afI_sI, afL_sI, afR_sI, aln_sI, aaI_sI, aaL_sI, aaR_sI, anx_sI, abc_sI, abs_sI, alo_sI, atg_wI, afI_wI, afL_wI, afR_wI, aln_wI, aaI_wI, aaL_wI, aaR_wI, anx_wI, abc_wI, abs_wI, alo_wI, atg_wL, afI_wL, afL_wL, afR_wL, aln_wL, aaI_wL, aaL_wL, aaR_wL, anx_wL, abc_wL, abs_wL, alo_wL, u2_e, u2_r, u2_i, u3_e, u3_k, u3_c, u3_r, mw_tag hw, mw_lo hw, mw_loa hw, mf_3 hw, mt_3 hw, ml_3 hw, mf_4 hw, mt_4 hw, ml_4 hw, mf_5 hw, mt_5 hw, ml_5 hw, mf_9 hw, mt_9 hw, ml_9 hw, mf_11 hw, mt_11 hw, ml_11 hw, mf_12 hw, mt_12 hw, ml_12 hw, mf_13 hw, mt_13 hw, ml_13 hw, mf_14 hw, mt_14 hw, ml_14 hw, mf_15 hw, mt_15 hw, ml_15 hw, mf_16 hw, mt_16 hw, ml_16 hw, mf_17 hw, mt_17 hw, ml_17 hw, mf_18 hw, mt_18 hw, ml_18 hw, mf_19 hw, mt_19 hw, ml_19 hw, mf_21 hw, mt_21 hw, ml_21 hw, mf_24 hw, mt_24 hw, ml_24 hw, mf_25 hw, mt_25 hw, ml_25 hw, mf_26 hw, mt_26 hw, ml_26 hw, mf_29 hw, mt_29 hw, ml_29 hw, mf_30 hw, mt_30 hw, ml_30 hw, mf_31 hw, mt_31 hw, ml_31 hw, mf_32 hw, mt_32 hw, ml_32 hw, mf_33 hw, mt_33 hw, ml_33 hw, mf_34 hw, mt_34 hw, ml_34 hw, mf_36 hw, mt_36 hw, ml_36 hw, mf_37 hw, mt_37 hw, ml_37 hw, mf_38 hw, mt_38 hw, ml_38 hw, mf_39 hw, mt_39 hw, ml_39 hw, mf_40 hw, mt_40 hw, ml_40 hw, li_0, li_1, li_2, li_3, li_4, li_5, li_6, li_7, li_8, li_9, li_10, li_12, li_14, li_16, li_17, li_18, li_19, li_20, li_25, li_28, li_30, li_31, li_32, li_33, li_34, li_40, li_46, li_48, li_49, li_57, li_59, li_65, li_67, li_68, li_75, li_77, li_80, li_82, li_90, li_95, li_100, li_128, li_130, li_132, li_136, li_140, li_148, li_156, li_200, li_255, li_256, li_400, li_700, li_2047, li_2048, li_2049, li_2050, li_2054, li_2056, li_4096, li_6000, li_163840, li_409600, li_819200, nI_add, pk_mul, pk_sub, nI_leI, nI_ltI, nI_eq, nI_clamp, vin_t, forall_eq, true_and, and_true, forall_const, implies_true]
  refine ⟨fun q => ?_, fun q => ?_⟩
  · rw [show 2 - j = 2 by omega] at h5 ⊢
    rw [List.take_of_length_le (by omega)] at h5
    refine m_tab245 hm (hF.p0 h4) hok hk h5 hl (by omega) (fun σ' a b => K σ' (h4.trans a) ?_)
    rw [show p + 2 = p + (if mm = 0 then lowB 2 up else highB 2 up).length by omega, ← oM_app] at b
    exact b
  · have hi : 2 - j < (if mm = 0 then lowB 2 up else highB 2 up).length := by omega
    have step : ∀ i, i < 4 → up / 256 ^ i % 256 = (if mm = 0 then lowB 2 up else highB 2 up)[2 - j] → wX9_expect m (nI (p + (2 - j))) (nI up >>> ((nI (8 * i)) &&& 31)) τ (fun r5 σ6 => R r5 (nI (2 - j + 1)) σ6) := by
      intro i hi4 e
      refine m_expect hm h5 (by omega) (by rw [← pk_mul]; exact shb hup i hi4) (Nat.mod_lt _ (by decide)) (fun σ' a b => hR (j - 1) _ _ _ (by omega) ⟨by omega, ?_, ?_, h4.trans a, ?_⟩)
      · congr 1; omega
      · congr 1; omega
      · rw [e] at b
        have e2 : p + (2 - j) = p + ((if mm = 0 then lowB 2 up else highB 2 up).take (2 - j)).length := by simp [hlen]
        rw [e2, ← oM_app, ← List.take_succ_eq_append_getElem hi, show 2 - j + 1 = 2 - (j - 1) by omega] at b
        exact b
    refine ⟨fun z => ?_, fun z => ?_⟩
    · rw [pk_sub (by omega), pk_mul]
      refine step (1 - (2 - j)) (by omega) ?_
      simp [z, highB]
    · refine step (2 - j) (by omega) ?_
      simp [z, lowB]
theorem m_tab156 (h : MedM σ m n sd B St) {F : List FT} (hF : SF σ m F) (hok : FOK n F) {k p up mm : Nat} (hmm : mm < 2) (hup : up < 2 ^ 31) (hk : k < F.length) {o : Option Nat} (ho : WR σ m o) {l : List Nat} (hl : l = if k = 0 then [0] else fn_ (gF F k)) (hp : p + 16 ≤ 2048 * n) {x1 x5 : Int32}
    (K : ∀ σ', MFr m σ σ' P0 Q28 → WR σ' m (oM B p o ((if mm = 0 then lowB 4 (fx_ (gF F k)) else highB 4 (fx_ (gF F k))) ++ ((if mm = 0 then lowB 2 up else highB 2 up) ++ (l ++ (if l.length % 2 = 1 then [0] else []))))) → rc37 (nI (p + 6 + l.length + l.length % 2)) (nI (k + 1)) σ') : wX9_tableIs_L156 post rc9 rc37 m x1 (nI mm) (nI p) x5 (nI k) (nI l.length) (nI up) 0 σ := by
  have hn := h.2.1.2.1
  have hxx := (FO_sz (hok.2.1 k hk).1 hn).2.1
  have hFl := hok.1.2
  obtain ⟨x, hx⟩ : ∃ x, x = fx_ (gF F k) := ⟨_, rfl⟩
  rw [← hx] at K hxx
  have hlen : (if mm = 0 then lowB 4 x else highB 4 x).length = 4 := by split <;> simp [lowB_len, highB_len]
  unfold wX9_tableIs_L156
  refine lpG3 (B := fun R x4 x9 τ => wX9_tableIs_B156 post rc9 rc37 R m x1 (nI mm) x4 x5 (nI k) (nI l.length) (nI up) x9 τ) (fun j x4 x9 τ => j ≤ 4 ∧ x4 = nI (p + (4 - j)) ∧ x9 = nI (4 - j) ∧ MFr m σ τ P0 Q28 ∧ WR τ m (oM B p o ((if mm = 0 then lowB 4 x else highB 4 x).take (4 - j)))) 4 ⟨Nat.le_refl _, by simp, by simp [nI_0], MFr.refl, by simpa [oM_nil] using ho⟩ ?_
  rintro j x4 x9 τ R ⟨h1, rfl, rfl, h4, h5⟩ hR
  have hm := h4.p0 h
  have hw := hm.1
  have e21 : aI_ τ (m + 21) k = nI x := by rw [hx]; exact ((hF.p0 h4).2 k hk).2.2.2.1
  unfold wX9_tableIs_B156 wX9_tableIs_L187
  simp (disch := omega) only [atg_sI, afI_sI, afL_sI, afR_sI, aln_sI, aaI_sI, aaL_sI, aaR_sI, anx_sI, abc_sI, abs_sI, alo_sI, atg_wI, afI_wI, afL_wI, afR_wI, aln_wI, aaI_wI, aaL_wI, aaR_wI, anx_wI, abc_wI, abs_wI, alo_wI, atg_wL, afI_wL, afL_wL, afR_wL, aln_wL, aaI_wL, aaL_wL, aaR_wL, anx_wL, abc_wL, abs_wL, alo_wL, u2_e, u2_r, u2_i, u3_e, u3_k, u3_c, u3_r, mw_tag hw, mw_lo hw, mw_loa hw, mf_3 hw, mt_3 hw, ml_3 hw, mf_4 hw, mt_4 hw, ml_4 hw, mf_5 hw, mt_5 hw, ml_5 hw, mf_9 hw, mt_9 hw, ml_9 hw, mf_11 hw, mt_11 hw, ml_11 hw, mf_12 hw, mt_12 hw, ml_12 hw, mf_13 hw, mt_13 hw, ml_13 hw, mf_14 hw, mt_14 hw, ml_14 hw, mf_15 hw, mt_15 hw, ml_15 hw, mf_16 hw, mt_16 hw, ml_16 hw, mf_17 hw, mt_17 hw, ml_17 hw, mf_18 hw, mt_18 hw, ml_18 hw, mf_19 hw, mt_19 hw, ml_19 hw, mf_21 hw, mt_21 hw, ml_21 hw, mf_24 hw, mt_24 hw, ml_24 hw, mf_25 hw, mt_25 hw, ml_25 hw, mf_26 hw, mt_26 hw, ml_26 hw, mf_29 hw, mt_29 hw, ml_29 hw, mf_30 hw, mt_30 hw, ml_30 hw, mf_31 hw, mt_31 hw, ml_31 hw, mf_32 hw, mt_32 hw, ml_32 hw, mf_33 hw, mt_33 hw, ml_33 hw, mf_34 hw, mt_34 hw, ml_34 hw, mf_36 hw, mt_36 hw, ml_36 hw, mf_37 hw, mt_37 hw, ml_37 hw, mf_38 hw, mt_38 hw, ml_38 hw, mf_39 hw, mt_39 hw, ml_39 hw, mf_40 hw, mt_40 hw, ml_40 hw, li_0, li_1, li_2, li_3, li_4, li_5, li_6, li_7, li_8, li_9, li_10, li_12, li_14, li_16, li_17, li_18, li_19, li_20, li_25, li_28, li_30, li_31, li_32, li_33, li_34, li_40, li_46, li_48, li_49, li_57, li_59, li_65, li_67, li_68, li_75, li_77, li_80, li_82, li_90, li_95, li_100, li_128, li_130, li_132, li_136, li_140, li_148, li_156, li_200, li_255, li_256, li_400, li_700, li_2047, li_2048, li_2049, li_2050, li_2054, li_2056, li_4096, li_6000, li_163840, li_409600, li_819200, nI_add, pk_mul, pk_sub, nI_leI, nI_ltI, nI_eq, nI_clamp, vin_t, forall_eq, true_and, and_true, forall_const, implies_true, e21]
  refine ⟨fun q => ?_, fun q => ?_⟩
  · rw [show 4 - j = 4 by omega] at h5 ⊢
    rw [List.take_of_length_le (by omega)] at h5
    refine m_tab203 hm (hF.p0 h4) hok hmm hup hk h5 hl (by omega) (fun σ' a b => ?_)
    rw [show p + 4 = p + (if mm = 0 then lowB 4 x else highB 4 x).length by omega, ← oM_app] at b
    have := K σ' (h4.trans a) b
    rw [show p + 6 + l.length = p + 4 + 2 + l.length by omega] at this
    exact this
  · have hi : 4 - j < (if mm = 0 then lowB 4 x else highB 4 x).length := by omega
    have step : ∀ i, i < 4 → x / 256 ^ i % 256 = (if mm = 0 then lowB 4 x else highB 4 x)[4 - j] → wX9_expect m (nI (p + (4 - j))) (nI x >>> ((nI (8 * i)) &&& 31)) τ (fun r5 σ6 => R r5 (nI (4 - j + 1)) σ6) := by
      intro i hi4 e
      refine m_expect hm h5 (by omega) (by rw [← pk_mul]; exact shb (by omega) i hi4) (Nat.mod_lt _ (by decide)) (fun σ' a b => hR (j - 1) _ _ _ (by omega) ⟨by omega, ?_, ?_, h4.trans a, ?_⟩)
      · congr 1; omega
      · congr 1; omega
      · rw [e] at b
        have e2 : p + (4 - j) = p + ((if mm = 0 then lowB 4 x else highB 4 x).take (4 - j)).length := by simp [hlen]
        rw [e2, ← oM_app, ← List.take_succ_eq_append_getElem hi, show 4 - j + 1 = 4 - (j - 1) by omega] at b
        exact b
    refine ⟨fun z => ?_, fun z => ?_⟩
    · try rw [pk_sub (by omega), pk_mul]
      refine step (3 - (4 - j)) (by omega) ?_
      simp [z, highB]
    · refine step (4 - j) (by omega) ?_
      simp [z, lowB]
theorem m_tab134 (h : MedM σ m n sd B St) {F : List FT} (hF : SF σ m F) (hok : FOK n F) {k p up mm : Nat} (hmm : mm < 2) (hup : up < 2 ^ 31) (hk : k < F.length) {o : Option Nat} (ho : WR σ m o) {l : List Nat} (hl : l = if k = 0 then [0] else fn_ (gF F k)) (hp : p + 18 ≤ 2048 * n) {x1 x5 : Int32}
    (K : ∀ σ', MFr m σ σ' P0 Q28 → WR σ' m (oM B p o (ptE (mm == 0) l (fx_ (gF F k)) up)) → rc37 (nI (p + (ptE (mm == 0) l (fx_ (gF F k)) up).length)) (nI (k + 1)) σ') : wX9_tableIs_L134 post rc9 rc37 m x1 (nI mm) (nI p) x5 (nI k) (nI l.length) (nI up) σ := by
  have hn := h.2.1.2.1
  have hl8 : l.length ≤ 8 := by
    rw [hl]; split
    · simp
    · exact (hok.2.1 k hk).1.2.2.2.2.2.1
  unfold wX9_tableIs_L134
  refine ⟨mw_tag h.1, m_expect h ho (by omega) (by rw [pk_andN (k := 8) (by omega) (by decide), Nat.mod_eq_of_lt (by omega)]) (by omega) (fun σ1 a1 b1 => ⟨mw_tag (a1.mw h.1), m_expect (a1.p0 h) b1 (by omega) (by decide) (by decide : 0 < 256) (fun σ2 a2 b2 => ?_)⟩)⟩
  rw [show p + 1 = p + [l.length].length from rfl, ← oM_app] at b2
  refine m_tab156 (a2.p0 (a1.p0 h)) ((hF.p0 a1).p0 a2) hok hmm hup hk b2 hl (by omega) (fun σ3 a3 b3 => ?_)
  rw [show p + 1 + 1 = p + ([l.length] ++ [0]).length from rfl, ← oM_app] at b3
  rw [ptE_len] at K
  have := K σ3 ((a1.trans a2).trans a3) (by
    unfold ptE
    rcases (show mm = 0 ∨ mm = 1 by omega) with e | e <;> subst e <;> exact b3)
  rw [show p + (8 + l.length + l.length % 2) = p + 1 + 1 + 6 + l.length + l.length % 2 by omega] at this
  exact this
theorem m_tab78 (h : MedM σ m n sd B St) {F : List FT} (hF : SF σ m F) (hok : FOK n F) {k p mm : Nat} (hmm : mm < 2) (hk : k < F.length) {o : Option Nat} (ho : WR σ m o) {l : List Nat} (hl : l = if k = 0 then [0] else fn_ (gF F k)) (hp : p + 18 ≤ 2048 * n) {x1 x5 : Int32}
    (K : ∀ σ', MFr m σ σ' P0 Q28 → WR σ' m (oM B p o (ptE (mm == 0) l (fx_ (gF F k)) (upN F k))) → rc37 (nI (p + (ptE (mm == 0) l (fx_ (gF F k)) (upN F k)).length)) (nI (k + 1)) σ') : wX9_tableIs_L78 post rc9 rc37 m x1 (nI mm) (nI p) x5 (nI k) (nI l.length) σ := by
  have hn := h.2.1.2.1
  have hw := h.1
  have hFl := hok.1.2
  have hup : upN F k < 2 ^ 31 := by
    unfold upN
    split
    · decide
    · have := ndir_le (F.take (fa_ (gF F k) + 1))
      have h2 : (F.take (fa_ (gF F k) + 1)).length ≤ F.length := List.length_take_le' ..
      omega
  have fin := m_tab134 (post := post) (rc9 := rc9) (rc37 := rc37) h hF hok hmm hup hk ho hl hp (x1 := x1) (x5 := x5) K
  obtain ⟨a1, a2, -⟩ := hF.2 k hk
  unfold wX9_tableIs_L78 wX9_tableIs_L86
  by_cases hk0 : k = 0
  · have hfa : fa_ (gF F k) = 4294967295 := by rw [hk0]; exact hok.2.2.1.2.1
    have hf0 := (hF.2 0 (by omega)).2.1
    rw [hok.2.2.1.1] at hf0
    have e1 : upN F k = 1 := by unfold upN; rw [if_pos hk0]
    rw [e1] at fin
    refine lpG2 (B := fun R x8 x9 => wX9_tableIs_B86 post rc9 rc37 R m x1 (nI mm) (nI p) x5 (nI k) (nI l.length) x8 x9 σ) (fun j x8 x9 => j ≤ 1 ∧ x8 = nI (1 - j) ∧ x9 = nI (1 - j)) 1 ⟨Nat.le_refl _, rfl, rfl⟩ ?_
    rintro j x8 x9 R ⟨h1, rfl, rfl⟩ hR
    unfold wX9_tableIs_B86 wX9_tableIs_L108 wX9_tableIs_L125
    simp (disch := omega) only [atg_sI, afI_sI, afL_sI, afR_sI, aln_sI, aaI_sI, aaL_sI, aaR_sI, anx_sI, abc_sI, abs_sI, alo_sI, atg_wI, afI_wI, afL_wI, afR_wI, aln_wI, aaI_wI, aaL_wI, aaR_wI, anx_wI, abc_wI, abs_wI, alo_wI, atg_wL, afI_wL, afL_wL, afR_wL, aln_wL, aaI_wL, aaL_wL, aaR_wL, anx_wL, abc_wL, abs_wL, alo_wL, u2_e, u2_r, u2_i, u3_e, u3_k, u3_c, u3_r, mw_tag hw, mw_lo hw, mw_loa hw, mf_3 hw, mt_3 hw, ml_3 hw, mf_4 hw, mt_4 hw, ml_4 hw, mf_5 hw, mt_5 hw, ml_5 hw, mf_9 hw, mt_9 hw, ml_9 hw, mf_11 hw, mt_11 hw, ml_11 hw, mf_12 hw, mt_12 hw, ml_12 hw, mf_13 hw, mt_13 hw, ml_13 hw, mf_14 hw, mt_14 hw, ml_14 hw, mf_15 hw, mt_15 hw, ml_15 hw, mf_16 hw, mt_16 hw, ml_16 hw, mf_17 hw, mt_17 hw, ml_17 hw, mf_18 hw, mt_18 hw, ml_18 hw, mf_19 hw, mt_19 hw, ml_19 hw, mf_21 hw, mt_21 hw, ml_21 hw, mf_24 hw, mt_24 hw, ml_24 hw, mf_25 hw, mt_25 hw, ml_25 hw, mf_26 hw, mt_26 hw, ml_26 hw, mf_29 hw, mt_29 hw, ml_29 hw, mf_30 hw, mt_30 hw, ml_30 hw, mf_31 hw, mt_31 hw, ml_31 hw, mf_32 hw, mt_32 hw, ml_32 hw, mf_33 hw, mt_33 hw, ml_33 hw, mf_34 hw, mt_34 hw, ml_34 hw, mf_36 hw, mt_36 hw, ml_36 hw, mf_37 hw, mt_37 hw, ml_37 hw, mf_38 hw, mt_38 hw, ml_38 hw, mf_39 hw, mt_39 hw, ml_39 hw, mf_40 hw, mt_40 hw, ml_40 hw, li_0, li_1, li_2, li_3, li_4, li_5, li_6, li_7, li_8, li_9, li_10, li_12, li_14, li_16, li_17, li_18, li_19, li_20, li_25, li_28, li_30, li_31, li_32, li_33, li_34, li_40, li_46, li_48, li_49, li_57, li_59, li_65, li_67, li_68, li_75, li_77, li_80, li_82, li_90, li_95, li_100, li_128, li_130, li_132, li_136, li_140, li_148, li_156, li_200, li_255, li_256, li_400, li_700, li_2047, li_2048, li_2049, li_2050, li_2054, li_2056, li_4096, li_6000, li_163840, li_409600, li_819200, nI_add, pk_mul, pk_sub, nI_leI, nI_ltI, nI_eq, nI_clamp, vin_t, forall_eq, true_and, and_true, forall_const, implies_true, a1, hfa]
    rw [show nI 4294967295 = (-1 : Int32) from by decide]
    refine ⟨fun z => ?_, fun _ => ⟨fun z => ?_, fun z => ⟨fun z2 => absurd hk0 z2, fun _ => ?_⟩⟩⟩
    · exfalso
      rcases (show j = 0 ∨ j = 1 by omega) with e | e <;> subst e <;> exact absurd z (by decide)
    · rw [show 1 - j = 1 by omega]; exact fin
    · have ej : j = 1 := by omega
      subst ej
      simp only [Nat.sub_self, hf0]
      refine ⟨fun z => absurd z (by decide), fun _ => hR 0 _ _ (by omega) ⟨by omega, rfl, rfl⟩⟩
  · obtain ⟨b1, b2, b3, -⟩ := hok.2.2.2 k (by omega) hk
    have e1 : upN F k = ndir (F.take (fa_ (gF F k) + 1)) := by unfold upN; rw [if_neg hk0]
    rw [e1] at fin
    refine lpG2 (B := fun R x8 x9 => wX9_tableIs_B86 post rc9 rc37 R m x1 (nI mm) (nI p) x5 (nI k) (nI l.length) x8 x9 σ) (fun j x8 x9 => ∃ q, q + j = fa_ (gF F k) + 1 ∧ x8 = nI (ndir (F.take q)) ∧ x9 = nI q) (fa_ (gF F k) + 1) ⟨0, by omega, rfl, rfl⟩ ?_
    rintro j x8 x9 R ⟨q, h1, rfl, rfl⟩ hR
    have c1 : aI_ σ (m + 19) q = nI (fd_ (gF F q)) := (hF.2 q (by omega)).2.1
    have c2 := (hok.2.1 q (by omega)).1.1
    unfold wX9_tableIs_B86 wX9_tableIs_L108 wX9_tableIs_L125
    simp (disch := omega) only [atg_sI, afI_sI, afL_sI, afR_sI, aln_sI, aaI_sI, aaL_sI, aaR_sI, anx_sI, abc_sI, abs_sI, alo_sI, atg_wI, afI_wI, afL_wI, afR_wI, aln_wI, aaI_wI, aaL_wI, aaR_wI, anx_wI, abc_wI, abs_wI, alo_wI, atg_wL, afI_wL, afL_wL, afR_wL, aln_wL, aaI_wL, aaL_wL, aaR_wL, anx_wL, abc_wL, abs_wL, alo_wL, u2_e, u2_r, u2_i, u3_e, u3_k, u3_c, u3_r, mw_tag hw, mw_lo hw, mw_loa hw, mf_3 hw, mt_3 hw, ml_3 hw, mf_4 hw, mt_4 hw, ml_4 hw, mf_5 hw, mt_5 hw, ml_5 hw, mf_9 hw, mt_9 hw, ml_9 hw, mf_11 hw, mt_11 hw, ml_11 hw, mf_12 hw, mt_12 hw, ml_12 hw, mf_13 hw, mt_13 hw, ml_13 hw, mf_14 hw, mt_14 hw, ml_14 hw, mf_15 hw, mt_15 hw, ml_15 hw, mf_16 hw, mt_16 hw, ml_16 hw, mf_17 hw, mt_17 hw, ml_17 hw, mf_18 hw, mt_18 hw, ml_18 hw, mf_19 hw, mt_19 hw, ml_19 hw, mf_21 hw, mt_21 hw, ml_21 hw, mf_24 hw, mt_24 hw, ml_24 hw, mf_25 hw, mt_25 hw, ml_25 hw, mf_26 hw, mt_26 hw, ml_26 hw, mf_29 hw, mt_29 hw, ml_29 hw, mf_30 hw, mt_30 hw, ml_30 hw, mf_31 hw, mt_31 hw, ml_31 hw, mf_32 hw, mt_32 hw, ml_32 hw, mf_33 hw, mt_33 hw, ml_33 hw, mf_34 hw, mt_34 hw, ml_34 hw, mf_36 hw, mt_36 hw, ml_36 hw, mf_37 hw, mt_37 hw, ml_37 hw, mf_38 hw, mt_38 hw, ml_38 hw, mf_39 hw, mt_39 hw, ml_39 hw, mf_40 hw, mt_40 hw, ml_40 hw, li_0, li_1, li_2, li_3, li_4, li_5, li_6, li_7, li_8, li_9, li_10, li_12, li_14, li_16, li_17, li_18, li_19, li_20, li_25, li_28, li_30, li_31, li_32, li_33, li_34, li_40, li_46, li_48, li_49, li_57, li_59, li_65, li_67, li_68, li_75, li_77, li_80, li_82, li_90, li_95, li_100, li_128, li_130, li_132, li_136, li_140, li_148, li_156, li_200, li_255, li_256, li_400, li_700, li_2047, li_2048, li_2049, li_2050, li_2054, li_2056, li_4096, li_6000, li_163840, li_409600, li_819200, nI_add, pk_mul, pk_sub, nI_leI, nI_ltI, nI_eq, nI_clamp, vin_t, forall_eq, true_and, and_true, forall_const, implies_true, a1, c1]
    have body : ∀ u, u = (if fd_ (gF F q) = 1 then 1 else 0) → q ≤ fa_ (gF F k) → R (nI (ndir (F.take q) + u)) (nI (q + 1)) := by
      intro u hu hq
      refine hR (j - 1) _ _ (by omega) ⟨q + 1, by omega, ?_, rfl⟩
      rw [ndir_take (by omega), hu]
    refine ⟨fun z => ⟨fun z2 => body 0 (by rw [if_neg (by omega)]) z, fun z2 => body 1 (by rw [if_pos (by omega)]) z⟩, fun z => ⟨fun _ => ?_, fun z2 => ⟨fun _ => ?_, fun z3 => absurd z3 hk0⟩⟩⟩
    · rw [show q = fa_ (gF F k) + 1 by omega]; exact fin
    · rw [show q = fa_ (gF F k) + 1 by omega]; exact fin
theorem ptab_succ (F : List FT) (lo : Bool) (k j : Nat) : ptab F lo k (j + 1) = (if fd_ (gF F k) = 1 then ptE lo (if k = 0 then [0] else fn_ (gF F k)) (fx_ (gF F k)) (upN F k) else []) ++ ptab F lo (k + 1) j := rfl
theorem ptab_len {F : List FT} (hok : FOK n F) (lo : Bool) : ∀ (j k : Nat), k + j ≤ F.length → (ptab F lo k j).length ≤ 16 * j
  | 0, k, _ => by simp [ptab]
  | j + 1, k, h => by
    unfold ptab
    rw [List.length_append]
    have := ptab_len hok lo j (k + 1) (by omega)
    split
    · rw [ptE_len]
      have : (if k = 0 then [0] else fn_ (gF F k)).length ≤ 8 := by
        split
        · simp
        · exact (hok.2.1 k (by omega)).1.2.2.2.2.2.1
      omega
    · simp; omega
theorem m_tab37 (h : MedM σ m n sd B St) {F : List FT} (hF : SF σ m F) (hok : FOK n F) {p mm : Nat} (hmm : mm < 2) {o : Option Nat} (ho : WR σ m o) (hp : p + 600 ≤ 2048 * n) {x1 : Int32}
    (K : ∀ σ', MFr m σ σ' P0 Q28 → WR σ' m (oM B p o (ptab F (mm == 0) 0 F.length)) → rc9 (nI (ptab F (mm == 0) 0 F.length).length) (nI (mm + 1)) σ') : wX9_tableIs_L37 post rc9 m x1 (nI mm) (nI p) (nI p) 0 σ := by
  have hn := h.2.1.2.1
  have hFl := hok.1.2
  have hpl := ptab_len hok (mm == 0) F.length 0 (by omega)
  unfold wX9_tableIs_L37
  refine lpG3 (B := fun R x4 x6 τ => wX9_tableIs_B37 post rc9 R m x1 (nI mm) x4 (nI p) x6 τ) (fun j x4 x6 τ => ∃ k a, k + j = F.length ∧ x6 = nI k ∧ MFr m σ τ P0 Q28 ∧ a ++ ptab F (mm == 0) k j = ptab F (mm == 0) 0 F.length ∧ x4 = nI (p + a.length) ∧ WR τ m (oM B p o a)) F.length ⟨0, [], by omega, rfl, MFr.refl, rfl, rfl, by rw [oM_nil]; exact ho⟩ ?_
  rintro j x4 x6 τ R ⟨k, a, h1, rfl, h3, h4, rfl, h6⟩ hR
  have hm := h3.p0 h
  have hw := hm.1
  have hF' := hF.p0 h3
  have hal : a.length + (ptab F (mm == 0) k j).length ≤ 16 * F.length := by
    have := congrArg List.length h4
    rw [List.length_append] at this
    omega
  unfold wX9_tableIs_B37
  simp (disch := omega) only [atg_sI, afI_sI, afL_sI, afR_sI, aln_sI, aaI_sI, aaL_sI, aaR_sI, anx_sI, abc_sI, abs_sI, alo_sI, atg_wI, afI_wI, afL_wI, afR_wI, aln_wI, aaI_wI, aaL_wI, aaR_wI, anx_wI, abc_wI, abs_wI, alo_wI, atg_wL, afI_wL, afL_wL, afR_wL, aln_wL, aaI_wL, aaL_wL, aaR_wL, anx_wL, abc_wL, abs_wL, alo_wL, u2_e, u2_r, u2_i, u3_e, u3_k, u3_c, u3_r, mw_tag hw, mw_lo hw, mw_loa hw, mf_3 hw, mt_3 hw, ml_3 hw, mf_4 hw, mt_4 hw, ml_4 hw, mf_5 hw, mt_5 hw, ml_5 hw, mf_9 hw, mt_9 hw, ml_9 hw, mf_11 hw, mt_11 hw, ml_11 hw, mf_12 hw, mt_12 hw, ml_12 hw, mf_13 hw, mt_13 hw, ml_13 hw, mf_14 hw, mt_14 hw, ml_14 hw, mf_15 hw, mt_15 hw, ml_15 hw, mf_16 hw, mt_16 hw, ml_16 hw, mf_17 hw, mt_17 hw, ml_17 hw, mf_18 hw, mt_18 hw, ml_18 hw, mf_19 hw, mt_19 hw, ml_19 hw, mf_21 hw, mt_21 hw, ml_21 hw, mf_24 hw, mt_24 hw, ml_24 hw, mf_25 hw, mt_25 hw, ml_25 hw, mf_26 hw, mt_26 hw, ml_26 hw, mf_29 hw, mt_29 hw, ml_29 hw, mf_30 hw, mt_30 hw, ml_30 hw, mf_31 hw, mt_31 hw, ml_31 hw, mf_32 hw, mt_32 hw, ml_32 hw, mf_33 hw, mt_33 hw, ml_33 hw, mf_34 hw, mt_34 hw, ml_34 hw, mf_36 hw, mt_36 hw, ml_36 hw, mf_37 hw, mt_37 hw, ml_37 hw, mf_38 hw, mt_38 hw, ml_38 hw, mf_39 hw, mt_39 hw, ml_39 hw, mf_40 hw, mt_40 hw, ml_40 hw, li_0, li_1, li_2, li_3, li_4, li_5, li_6, li_7, li_8, li_9, li_10, li_12, li_14, li_16, li_17, li_18, li_19, li_20, li_25, li_28, li_30, li_31, li_32, li_33, li_34, li_40, li_46, li_48, li_49, li_57, li_59, li_65, li_67, li_68, li_75, li_77, li_80, li_82, li_90, li_95, li_100, li_128, li_130, li_132, li_136, li_140, li_148, li_156, li_200, li_255, li_256, li_400, li_700, li_2047, li_2048, li_2049, li_2050, li_2054, li_2056, li_4096, li_6000, li_163840, li_409600, li_819200, nI_add, pk_mul, pk_sub, nI_leI, nI_ltI, nI_eq, nI_clamp, vin_t, forall_eq, true_and, and_true, forall_const, implies_true, hF'.1]
  refine ⟨fun q => ?_, fun q => ?_⟩
  · have hj : j = 0 := by omega
    subst hj
    have h4' : a = ptab F (mm == 0) 0 F.length := by simpa [ptab] using h4
    rw [h4', show p + (ptab F (mm == 0) 0 F.length).length - p = (ptab F (mm == 0) 0 F.length).length by omega]
    rw [h4'] at h6
    exact K τ h3 h6
  · obtain ⟨j, rfl⟩ : ∃ i, j = i + 1 := ⟨j - 1, by omega⟩
    obtain ⟨g1, g2, g3, g4, g5, g6⟩ := hF'.2 k (by omega)
    obtain ⟨o1, o2, o3, o4, o5, o6, o7⟩ := (hok.2.1 k (by omega)).1
    rw [ptab_succ F (mm == 0) k j] at h4 hal
    simp (disch := omega) only [atg_sI, afI_sI, afL_sI, afR_sI, aln_sI, aaI_sI, aaL_sI, aaR_sI, anx_sI, abc_sI, abs_sI, alo_sI, atg_wI, afI_wI, afL_wI, afR_wI, aln_wI, aaI_wI, aaL_wI, aaR_wI, anx_wI, abc_wI, abs_wI, alo_wI, atg_wL, afI_wL, afL_wL, afR_wL, aln_wL, aaI_wL, aaL_wL, aaR_wL, anx_wL, abc_wL, abs_wL, alo_wL, u2_e, u2_r, u2_i, u3_e, u3_k, u3_c, u3_r, mw_tag hw, mw_lo hw, mw_loa hw, mf_3 hw, mt_3 hw, ml_3 hw, mf_4 hw, mt_4 hw, ml_4 hw, mf_5 hw, mt_5 hw, ml_5 hw, mf_9 hw, mt_9 hw, ml_9 hw, mf_11 hw, mt_11 hw, ml_11 hw, mf_12 hw, mt_12 hw, ml_12 hw, mf_13 hw, mt_13 hw, ml_13 hw, mf_14 hw, mt_14 hw, ml_14 hw, mf_15 hw, mt_15 hw, ml_15 hw, mf_16 hw, mt_16 hw, ml_16 hw, mf_17 hw, mt_17 hw, ml_17 hw, mf_18 hw, mt_18 hw, ml_18 hw, mf_19 hw, mt_19 hw, ml_19 hw, mf_21 hw, mt_21 hw, ml_21 hw, mf_24 hw, mt_24 hw, ml_24 hw, mf_25 hw, mt_25 hw, ml_25 hw, mf_26 hw, mt_26 hw, ml_26 hw, mf_29 hw, mt_29 hw, ml_29 hw, mf_30 hw, mt_30 hw, ml_30 hw, mf_31 hw, mt_31 hw, ml_31 hw, mf_32 hw, mt_32 hw, ml_32 hw, mf_33 hw, mt_33 hw, ml_33 hw, mf_34 hw, mt_34 hw, ml_34 hw, mf_36 hw, mt_36 hw, ml_36 hw, mf_37 hw, mt_37 hw, ml_37 hw, mf_38 hw, mt_38 hw, ml_38 hw, mf_39 hw, mt_39 hw, ml_39 hw, mf_40 hw, mt_40 hw, ml_40 hw, li_0, li_1, li_2, li_3, li_4, li_5, li_6, li_7, li_8, li_9, li_10, li_12, li_14, li_16, li_17, li_18, li_19, li_20, li_25, li_28, li_30, li_31, li_32, li_33, li_34, li_40, li_46, li_48, li_49, li_57, li_59, li_65, li_67, li_68, li_75, li_77, li_80, li_82, li_90, li_95, li_100, li_128, li_130, li_132, li_136, li_140, li_148, li_156, li_200, li_255, li_256, li_400, li_700, li_2047, li_2048, li_2049, li_2050, li_2054, li_2056, li_4096, li_6000, li_163840, li_409600, li_819200, nI_add, pk_mul, pk_sub, nI_leI, nI_ltI, nI_eq, nI_clamp, vin_t, forall_eq, true_and, and_true, forall_const, implies_true, g2, g5]
    have L78 : fd_ (gF F k) = 1 → wX9_tableIs_L78 post rc9 R m x1 (nI mm) (nI (p + a.length)) (nI p) (nI k) (nI (if k = 0 then [0] else fn_ (gF F k)).length) τ := by
      intro e
      rw [if_pos e] at h4
      refine m_tab78 hm hF' hok hmm (by omega) h6 rfl (by rw [if_pos e, List.length_append] at hal; omega) (fun σ' b c => ?_)
      rw [← oM_app] at c
      refine hR j _ _ _ (by omega) ⟨k + 1, a ++ ptE (mm == 0) (if k = 0 then [0] else fn_ (gF F k)) (fx_ (gF F k)) (upN F k), by omega, rfl, h3.trans b, ?_, ?_, c⟩
      · rw [List.append_assoc]; exact h4
      · rw [List.length_append]; congr 1; omega
    refine ⟨fun e => ⟨fun e2 => ?_, fun e2 => ?_⟩, fun e => ?_⟩
    · have := L78 (by omega)
      rw [if_neg e2] at this
      exact m_lettersOf o6 (FO_b (hok.2.1 k (by omega)).1) this
    · have := L78 (by omega)
      rw [if_pos e2] at this
      exact this
    · unfold wX9_tableIs_L304
      intro y hy
      rw [if_neg (by omega), List.nil_append] at h4
      exact hR j _ _ _ (by omega) ⟨k + 1, a, by omega, by rw [hy, li_1, nI_add], h3, h4, rfl, h6⟩
end
