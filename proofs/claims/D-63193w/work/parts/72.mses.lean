/-! the reference: a session is burnt -/
def lt8 (l : List Nat) : Prop := ∀ c ∈ l, c < 256
theorem lt8_app {a b : List Nat} (ha : lt8 a) (hb : lt8 b) : lt8 (a ++ b) := fun c hc => by
  rcases List.mem_append.mp hc with q | q
  · exact ha c q
  · exact hb c q
theorem lt8_low (n v : Nat) : lt8 (lowB n v) := fun c hc => by
  unfold lowB at hc
  obtain ⟨i, -, rfl⟩ := List.mem_map.mp hc
  exact Nat.mod_lt _ (by decide)
theorem lt8_high (n v : Nat) : lt8 (highB n v) := fun c hc => by
  unfold highB at hc
  obtain ⟨i, -, rfl⟩ := List.mem_map.mp hc
  exact Nat.mod_lt _ (by decide)
theorem lt8_rep (n : Nat) : lt8 (List.replicate n 0) := fun c hc => by rw [(List.mem_replicate.mp hc).2]; decide
theorem lt8_nil : lt8 [] := fun c hc => by cases hc
theorem lt8_cons {a : Nat} {l : List Nat} (h : a < 256) (hl : lt8 l) : lt8 (a :: l) := fun c hc => by
  rcases List.mem_cons.mp hc with q | q
  · rw [q]; exact h
  · exact hl c q
theorem lt8_rec {id : List Nat} (h : lt8 id) (hl : id.length ≤ 11) (s z : Nat) {fl : Nat} (hf : fl < 256) : lt8 (recP id s z fl) := by
  unfold recP
  have hev : ev (33 + id.length) < 256 := by unfold ev; omega
  exact lt8_app (lt8_cons hev (lt8_cons (by decide) lt8_nil)) (lt8_app (lt8_low _ _) (lt8_app (lt8_high _ _) (lt8_app (lt8_low _ _) (lt8_app (lt8_high _ _) (lt8_app (lt8_cons (by decide) (lt8_cons (by decide) (lt8_cons (by decide) (lt8_cons (by decide) (lt8_cons (by decide) (lt8_cons (by decide) (lt8_cons (by decide) (lt8_cons hf (lt8_cons (by decide) (lt8_cons (by decide) (lt8_cons (by decide) (lt8_cons (by decide) (lt8_cons (by decide) (lt8_cons (by decide) (lt8_cons (by omega) lt8_nil))))))))))))))) (lt8_app h (lt8_rep _)))))))
theorem lt8_ptE {lo : Bool} {l : List Nat} (h : lt8 l) (hl : l.length ≤ 8) (x up : Nat) : lt8 (ptE lo l x up) := by
  unfold ptE
  refine lt8_app (lt8_cons (by omega) (lt8_cons (by decide) lt8_nil)) (lt8_app ?_ (lt8_app ?_ (lt8_app h ?_)))
  · cases lo
    · exact lt8_high _ _
    · exact lt8_low _ _
  · cases lo
    · exact lt8_high _ _
    · exact lt8_low _ _
  · split
    · exact lt8_cons (by decide) lt8_nil
    · exact lt8_nil
theorem rFlg_lt (t : TT) (k : Nat) : rFlg t k < 256 := by unfold rFlg; split <;> decide
section
variable {n : Nat} {t : TT} {base num : Nat}
theorem lt8_id (ok : TOK n t) {k : Nat} (hk : k < tN t) (hkt : tT t k = true) : lt8 (tI t k) := fun c hc => (idb_pos (nm_b ok hk hkt).2 c hc).2
theorem lt8_pt (ok : TOK n t) (lo : Bool) : ∀ i, i ≤ (dirT t).length → lt8 (ptT t (dirT t) base lo i)
  | 0, _ => by unfold ptT; exact lt8_nil
  | i + 1, h => by
    unfold ptT ptN
    have hm := dirT_mem ok (getD_mem (d := 0) (show i < (dirT t).length by omega))
    obtain ⟨n1, n2⟩ := nm_b ok hm.1.1 hm.1.2
    refine lt8_app (lt8_pt ok lo i (by omega)) (lt8_ptE ?_ ?_ _ _)
    · split
      · exact lt8_cons (by decide) lt8_nil
      · exact fun c hc => (n2 c hc).2
    · split
      · simp
      · exact n1
theorem lt8_dir (ok : TOK n t) (tb : List Nat) (d : Nat) : lt8 (dirL t tb base d) := by
  unfold dirL recS
  refine lt8_app (lt8_rec (lt8_cons (by decide) lt8_nil) (by simp) _ _ (rFlg_lt _ _)) (lt8_app (lt8_rec (lt8_cons (by decide) lt8_nil) (by simp) _ _ (rFlg_lt _ _)) ?_)
  intro c hc
  obtain ⟨l, h1, h2⟩ := List.mem_flatten.mp hc
  obtain ⟨k, h3, rfl⟩ := List.mem_map.mp h1
  have hm := ((srt_ok ok d).2.1 k).mp h3
  exact lt8_rec (lt8_id ok hm.1.1 hm.1.2) (idb_len12 (nm_b ok hm.1.1 hm.1.2).1) _ _ (rFlg_lt _ _) c h2
theorem pgS_lt (ok : TOK n t) (j q : Nat) : pz (pgS n t (dirT t) base num j) q < 256 := by
  have h : lt8 (pgS n t (dirT t) base num j) := by
    unfold pgS
    split
    · unfold desL recS
      exact lt8_app (lt8_cons (by decide) (lt8_cons (by decide) (lt8_cons (by decide) (lt8_cons (by decide) (lt8_cons (by decide) (lt8_cons (by decide) (lt8_cons (by decide) lt8_nil))))))) (lt8_app (lt8_rep _) (lt8_app (lt8_low _ _) (lt8_app (lt8_high _ _) (lt8_app (lt8_rep _) (lt8_app (lt8_low _ _) (lt8_app (lt8_high _ _) (lt8_app (lt8_low _ _) (lt8_app (lt8_high _ _) (lt8_app (lt8_low _ _) (lt8_app (lt8_rep _) (lt8_app (lt8_high _ _) (lt8_app (lt8_rep _) (lt8_rec (lt8_cons (by decide) lt8_nil) (by simp) _ _ (rFlg_lt _ _))))))))))))))
    · split
      · exact lt8_cons (by decide) (lt8_cons (by decide) (lt8_cons (by decide) (lt8_cons (by decide) (lt8_cons (by decide) (lt8_cons (by decide) (lt8_cons (by decide) lt8_nil))))))
      · split
        · exact lt8_pt ok _ _ (Nat.le_refl _)
        · split
          · exact lt8_pt ok _ _ (Nat.le_refl _)
          · split
            · exact lt8_dir ok _ _
            · exact lt8_app (lt8_cons (by decide) (lt8_cons (by decide) (lt8_cons (by decide) (lt8_cons (by decide) lt8_nil)))) (lt8_app (lt8_low _ _) (lt8_low _ _))
  unfold pz
  rcases Nat.lt_or_ge q (pgS n t (dirT t) base num j).length with z | z
  · rw [List.getD_eq_getElem?_getD, List.getElem?_eq_getElem z]
    exact h _ (List.getElem_mem z)
  · rw [List.getD_eq_getElem?_getD, List.getElem?_eq_none z]; decide
end
section
variable {σ : Hp} {m n sd fs : Nat} {t : TT} {b : BS} {Df : Nat → Bool} {num : Nat}
def PSs (fs : Nat) : Nat → Nat → Prop := fun j i => PBn fs j i ∨ j = 4 ∨ (14 ≤ j ∧ j ≤ 17)
def QSs : Nat → Prop := fun k => QB k ∨ k = 22
theorem m_session (h : BMd σ m n sd fs b Df) (hlo : bLo b = false) (hT : MT0 σ m t) (ok : TOK n t) (hnum : num < 2 ^ 32) {post : Int32 → Hp → Prop}
    (k0 : ∀ σ' b', sesB n Df t (dirT t) num 201 b = (0, b') → bLo b' = false → BMd σ' m n sd fs b' Df → MFr m σ σ' (PSs fs) QSs → post (nI num) σ')
    (k3 : ∀ σ' c b', sesB n Df t (dirT t) num 201 b = (c, b') → (c = 3 ∨ c = 4) → BMd σ' m n sd fs b' Df → MFr m σ σ' (PSs fs) QSs → post (cod c) σ') : wX9_session m (nI fs) (nI num) σ post := by
  have hN := ok.1.2.1
  have hl := dirT_len ok
  have hn2 := h.2.1.2.1
  have hfs := h.2.2.2.2.1
  obtain ⟨Z, hZ⟩ : ∃ Z, sesB n Df t (dirT t) num 201 b = Z := ⟨_, rfl⟩
  unfold wX9_session wX9_session_L0
  refine lpG1 (B := fun R τ => wX9_session_B0 post R m (nI fs) (nI num) τ) (fun j τ => ∃ b', sesB n Df t (dirT t) num j b' = Z ∧ n < j + frt (bSt b') n ∧ BMd τ m n sd fs b' Df ∧ bLo b' = false ∧ MFr m σ τ (PSs fs) QSs) 201 ⟨b, hZ, by omega, h, hlo, MFr.refl⟩ ?_
  rintro j τ R ⟨b1, h2, h3, h4, h5, h6⟩ hR
  have hfle := frt_le (bSt b1) n
  obtain ⟨j, rfl⟩ : ∃ q, j = q + 1 := ⟨j - 1, by omega⟩
  obtain ⟨f, hf⟩ : ∃ f, f = frt (bSt b1) n := ⟨_, rfl⟩
  have hTτ : MT0 τ m t := hT.fr h6 (by unfold QSs QB; omega) (fun j i a b z => by unfold PSs PBn at z; omega)
  unfold sesB at h2
  rw [← hf] at h2 h3 hfle
  unfold wX9_session_B0
  refine ⟨mw_tag h4.1, m_front h4 ?_⟩
  rw [← hf]
  refine m_measure h4.1 hTτ ok (by omega) (fun σ1 f1 d1 a1 => ?_)
  have h6a : MFr m σ σ1 (PSs fs) QSs := h6.trans (f1.mono (fun j i z => by unfold P157 at z; unfold PSs; omega) (fun _ z => Or.inr z))
  have h4a : BMd σ1 m n sd fs b1 Df := h4.fr f1 (fun k hk z => by unfold Q22 at z; omega) (fun j i a z => by unfold P157 at z; omega)
  have hT1 : MT0 σ1 m t := hTτ.fr f1 (by unfold Q22; omega) (fun j i a b z => by unfold P157 at z; omega)
  refine ⟨mw_tag h4a.1, ?_⟩
  rw [h4a.2.2.1, nI_add, nI_leI (by omega) (by omega)]
  refine ⟨fun q => ?_, fun q => ?_⟩
  · rw [if_neg (by omega)] at h2
    refine m_design h4a.1 h4a.2.2.1 hn2 hT1 ok (by omega) hnum d1 a1 (fun σ2 f2 pl => ?_)
    have h6b : MFr m σ σ2 (PSs fs) QSs := h6a.trans (f2.mono (fun j i z => by unfold P14 at z; unfold PSs; omega) (fun _ z => z.elim))
    have h4b : BMd σ2 m n sd fs b1 Df := h4a.fr f2 (fun k hk z => z) (fun j i a z => by unfold P14 at z; omega)
    obtain ⟨g, hgd⟩ : ∃ g : Nat → Nat → Nat, g = fun i => pz (pgS n t (dirT t) f num i) := ⟨_, rfl⟩
    have hg256 : ∀ j i, g j i < 256 := fun j i => by rw [hgd]; exact pgS_lt ok j i
    rw [← hgd] at h2
    obtain ⟨C, hC⟩ : ∃ C, C = 5 + (dirT t).length := ⟨_, rfl⟩
    rw [← hC] at h2
    unfold wX9_session_L42
    refine lpG3 (B := fun R' x5 x6 τ' => wX9_session_B42 post R R' m (nI fs) (nI num) (nI f) (nI (21 + (dirT t).length)) x5 x6 τ') (fun i x5 x6 τ' => ∃ r c bb, r + i = C + 1 ∧ x5 = nI c ∧ c ≤ 2 ∧ x6 = nI (16 + r) ∧ r ≤ C ∧ BMd τ' m n sd fs bb Df ∧ (c ≠ 2 → bLo bb = false) ∧ MFr m σ τ' (PSs fs) QSs ∧ PLs τ' m n t f num ∧ (c = 0 → burnS Df (f + 16) g (C - r) r bb = burnS Df (f + 16) g C 0 b1 ∧ ∀ s, f + 16 + r ≤ s → s < n → bSt bb s = 0) ∧ (c ≠ 0 → burnS Df (f + 16) g C 0 b1 = (c, bb))) (C + 1) ⟨0, 0, b1, by omega, rfl, by omega, rfl, by omega, h4b, fun _ => h5, h6b, pl, fun _ => ⟨rfl, fun s a1 a2 => frt_hi (by omega) a2⟩, fun z => absurd rfl z⟩ ?_
    rintro i x5 x6 τ' R' ⟨r, c, bb, g1, rfl, g3, rfl, g5, g6, g6', g7, gp, g8, g9⟩ hR'
    have L112 : (c = 0 → r = C) → wX9_session_L112 post R m (nI fs) (nI num) (nI c) τ' := by
      intro hc
      unfold wX9_session_L112
      rw [li_2, li_0, nI_eq (by omega) (by omega), nI_eq (by omega) (by omega)]
      refine ⟨fun z => ⟨fun z2 => ?_, fun z2 => ?_⟩, fun z => ?_⟩
      · have y3 := g9 z2
        rw [y3, if_neg (by omega)] at h2
        have h2' : sesB n Df t (dirT t) num j bb = Z := by rw [← h2]; simp only; rw [if_pos (by omega)]
        obtain ⟨s, s1, s2, s3⟩ := (burnS_st Df (f + 16) g C 0 b1).2.1 (by rw [y3]; show c = 1; omega)
        rw [y3] at s3
        have := frt_ge (St := bSt bb) (n := n) (s := s) (by rw [s3]; decide) (by omega)
        exact hR j τ' (by omega) ⟨bb, h2', by omega, g6, g6' z, g7⟩
      · obtain ⟨y1, y2⟩ := g8 z2
        rw [hc z2, Nat.sub_self] at y1
        have y3 : burnS Df (f + 16) g C 0 b1 = (0, bb) := y1.symm
        rw [y3] at h2
        have hz : Z = (0, bb) := h2.symm
        exact k0 τ' bb (by rw [hZ, hz]) (g6' z) g6 g7
      · have y3 := g9 (by omega)
        rw [y3] at h2
        have h2' : (4, bb) = Z := by rw [← h2]; simp only; rw [if_pos z]
        exact k3 τ' 4 bb (by rw [hZ, ← h2']) (Or.inr rfl) g6 g7
    unfold wX9_session_B42
    rw [nI_leI (by omega) (by omega), li_0, nI_eq (by omega) (by omega)]
    refine ⟨fun z => L112 (fun _ => by omega), fun z => ⟨fun z2 => L112 (fun y => absurd y z2), fun z2 => ?_⟩⟩
    obtain ⟨y1, y2⟩ := g8 z2
    obtain ⟨pf, p1, p2⟩ := gp
    unfold wX9_session_L57
    refine lpG2 (B := fun R2 x7 τ2 => wX9_session_B57 post R R' R2 m (nI fs) (nI num) (nI f) (nI (21 + (dirT t).length)) (nI (16 + r)) x7 τ2) (fun q x7 τ2 => ∃ w, w + q = 2048 ∧ x7 = nI w ∧ MFr m τ' τ2 P4 N0 ∧ ∀ i', i' < w → aI_ τ2 (m + 4) i' = sb_b (g r i')) 2048 ⟨0, by omega, rfl, MFr.refl, fun i' h => absurd h (by omega)⟩ ?_
    rintro q' x7 τ2 R2 ⟨w, w1, rfl, w3, w4⟩ hR2
    have g6a : BMd τ2 m n sd fs bb Df := g6.fr w3 (fun k _ z => z) (fun j i a z => by unfold P4 at z; omega)
    have pl2 : PLs τ2 m n t f num := ⟨pf, fun i hi hlt => by rw [w3.a (by unfold P4; omega)]; exact p1 i hi hlt, p2⟩
    have hw := g6a.1
    unfold wX9_session_B57
    rw [li_2048, nI_leI (by omega) (by omega)]
    refine ⟨fun y => ⟨mw_tag hw, ?_⟩, fun y => ?_⟩
    · rw [nI_add]
      have := m_burn (post := fun r5 σ6 => ∀ y7 : Int32, y7 = nI (16 + r) + 1 → R' r5 y7 σ6) g6a (g6' (by omega)) (s := f + 16 + r) (by omega) (y2 _ (by omega) (by omega)) (g := g r) (fun i' hi' => w4 i' (by omega)) (hg256 r) (fun σ3 a3 b3 y7 hy7 => ?_)
      · rw [show f + (16 + r) = f + 16 + r by omega]; exact this
      rw [hy7, li_1, nI_add]
      obtain ⟨st1, st2, st3, st4, st5⟩ := burn1_st Df (f + 16 + r) (g r) bb
      have fr : MFr m σ σ3 (PSs fs) QSs := (g7.trans (w3.mono (fun j i z => by unfold P4 at z; unfold PSs; omega) (fun _ z => z.elim))).trans (a3.mono (fun j i z => Or.inl z) (fun _ z => Or.inl z))
      rw [show C - r = (C - (r + 1)) + 1 by omega, burnS_s] at y1
      refine hR' (i - 1) _ _ _ (by omega) ⟨r + 1, (burn1 Df (f + 16 + r) (g r) bb).1, (burn1 Df (f + 16 + r) (g r) bb).2, by omega, rfl, st4, by congr 1, by omega, b3, fun e => by rw [st5 e]; exact g6' (by omega), fr, ?_, fun e => ⟨?_, fun s a1 a2 => ?_⟩, fun e => ?_⟩
      · obtain ⟨u1, u2, u3⟩ := pl2
        exact ⟨u1, fun i hi hlt => by rw [a3.a (by unfold PBn; omega)]; exact u2 i hi hlt, u3⟩
      · rw [if_pos e] at y1
        exact y1
      · rw [st1 s (by omega)]; exact y2 s (by omega) a2
      · rw [if_neg e] at y1
        rw [← y1]
    · obtain ⟨u1, u2, u3⟩ := pl2
      have hb := u3 r (by omega) w (by omega)
      have hplan : aI_ τ2 (m + 14) (2048 * r + w) = sb_b (g r w) := by
        have := u2 (2048 * r + w) (by omega) (by rw [hb]; exact pgS_lt ok r w)
        rw [this, hb, hgd]
      rw [li_16, pk_sub (by omega), show 16 + r - 16 = r by omega]
      simp (disch := omega) only [atg_sI, afI_sI, afL_sI, afR_sI, aln_sI, aaI_sI, aaL_sI, aaR_sI, anx_sI, abc_sI, abs_sI, alo_sI, atg_wI, afI_wI, afL_wI, afR_wI, aln_wI, aaI_wI, aaL_wI, aaR_wI, anx_wI, abc_wI, abs_wI, alo_wI, atg_wL, afI_wL, afL_wL, afR_wL, aln_wL, aaI_wL, aaL_wL, aaR_wL, anx_wL, abc_wL, abs_wL, alo_wL, u2_e, u2_r, u2_i, u3_e, u3_k, u3_c, u3_r, mw_tag hw, mw_lo hw, mw_loa hw, mf_3 hw, mt_3 hw, ml_3 hw, mf_4 hw, mt_4 hw, ml_4 hw, mf_5 hw, mt_5 hw, ml_5 hw, mf_9 hw, mt_9 hw, ml_9 hw, mf_11 hw, mt_11 hw, ml_11 hw, mf_12 hw, mt_12 hw, ml_12 hw, mf_13 hw, mt_13 hw, ml_13 hw, mf_14 hw, mt_14 hw, ml_14 hw, mf_15 hw, mt_15 hw, ml_15 hw, mf_16 hw, mt_16 hw, ml_16 hw, mf_17 hw, mt_17 hw, ml_17 hw, mf_18 hw, mt_18 hw, ml_18 hw, mf_19 hw, mt_19 hw, ml_19 hw, mf_21 hw, mt_21 hw, ml_21 hw, mf_24 hw, mt_24 hw, ml_24 hw, mf_25 hw, mt_25 hw, ml_25 hw, mf_26 hw, mt_26 hw, ml_26 hw, mf_29 hw, mt_29 hw, ml_29 hw, mf_30 hw, mt_30 hw, ml_30 hw, mf_31 hw, mt_31 hw, ml_31 hw, mf_32 hw, mt_32 hw, ml_32 hw, mf_33 hw, mt_33 hw, ml_33 hw, mf_34 hw, mt_34 hw, ml_34 hw, mf_36 hw, mt_36 hw, ml_36 hw, mf_37 hw, mt_37 hw, ml_37 hw, mf_38 hw, mt_38 hw, ml_38 hw, mf_39 hw, mt_39 hw, ml_39 hw, mf_40 hw, mt_40 hw, ml_40 hw, li_0, li_1, li_2, li_3, li_4, li_5, li_6, li_7, li_8, li_9, li_10, li_12, li_14, li_16, li_17, li_18, li_19, li_20, li_25, li_28, li_30, li_31, li_32, li_33, li_34, li_40, li_46, li_48, li_49, li_57, li_59, li_65, li_67, li_68, li_75, li_77, li_80, li_82, li_90, li_95, li_100, li_128, li_130, li_132, li_136, li_140, li_148, li_156, li_200, li_255, li_256, li_400, li_700, li_2047, li_2048, li_2049, li_2050, li_2054, li_2056, li_4096, li_6000, li_163840, li_409600, li_819200, nI_add, pk_mul, pk_sub, nI_leI, nI_ltI, nI_eq, nI_clamp, vin_t, forall_eq, true_and, and_true, forall_const, implies_true, hplan]
      rw [nar_b]
      refine hR2 (q' - 1) _ _ (by omega) ⟨w + 1, by omega, rfl, by (repeat' first | with_reducible exact MFr.refl | with_reducible assumption | with_reducible apply MFr.wI' | with_reducible apply MFr.wL' | with_reducible apply MFr.sI' | omega | trivial | exact ⟨by omega, by omega⟩ | exact rfl), fun i' hi' => ?_⟩
      rw [aaI_wI]
      by_cases e : i' = w
      · subst e
        rw [u2_e]
      · rw [u2_i e]; exact w4 i' (by omega)
  · rw [if_pos (by omega)] at h2
    exact k3 σ1 3 b1 (by rw [hZ, ← h2]) (Or.inl rfl) h4a h6a
end
