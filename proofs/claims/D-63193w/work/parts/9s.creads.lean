/-! the reader reads a session -/
theorem lgc_i {v b : Nat} (hv : v < 2 ^ 32) (hb : b < 2 ^ 31) : lg_cmp (nI v).toInt64 (lN b) = 0 ↔ v = b := by
  rw [lg_cmp_eq]
  constructor
  · intro q
    have := congrArg Int64.toInt32 q
    rw [lN_i, lg_l2i_i2l, nI_eq32 hv (by omega)] at this
    exact this
  · intro q
    rw [q, nI_l hb]
theorem hi19 : ∀ b, b < 200 → ∀ k, k < 4 → (((lN b + (19 : Int64)) >>> ((((8 : Int32) * ((3 : Int32) - nI k))).toInt64 &&& 63)) &&& (255 : Int64)) = lN (if k = 3 then b + 19 else 0) := by decide +kernel
theorem capF_c {c : Nat} (h : capOK c) : ∀ L, L < 34 → ∀ M, M < 34 → L ≤ M → capF (capF c L) M = capF c M := by
  unfold capOK at h
  rcases h with e | e | e | e | e <;> subst e <;> decide +kernel
theorem capF_k {c : Nat} (h : capOK c) : ∀ L, L < 34 → capOK (capF c L) := by
  unfold capOK at h ⊢
  rcases h with e | e | e | e | e <;> subst e <;> decide +kernel
section
variable {S : Prop} {W : Nat → Prop} {D n : Nat} {σ0 σ σ' τ υ : Hp} {r md p c q : Nat} {B St : Nat → Nat} {Df : Nat → Bool} {F : List FT} {f : FT} {post : Int32 → Hp → Prop}
/-- its list is cleared -/
theorem BR.clear (h : BR D σ0 σ r md n B St Df F c) (hf' : WF D τ) (A2 : Kp False (WL σ (r + 1)) σ τ) (hl' : Lst τ 10 (r + 1) [] c) (hr : fR_ τ = fR_ σ) (hn : nx_ τ = nx_ σ) : BR D σ0 τ r md n B St Df [] c := by
  obtain ⟨⟨hf, hS, hm, hmr, hD⟩, fr⟩ := h
  obtain ⟨hc, hmd, hp, hl, la, fo, rr, len⟩ := id hS
  have l0 := hf.lt hc.1
  have l1 := hf.lt hl.1
  have l2 := hf.lt hmd.1
  have l3 := hf.lt hp.1
  have aT := hl.2.2.1
  have tn : ∀ z, tg_ σ z ≠ 11 → tg_ σ z ≠ 104 → ¬ WL σ (r + 1) z := by
    rintro z z1 z2 (e | ⟨e, _⟩)
    · rw [e] at z1; exact z1 hl.1
    · rw [e] at z2; exact z2 aT
  have w2 : ¬ WL σ (r + 1) (r + 2) := tn _ (by rw [hmd.1]; decide) (by rw [hmd.1]; decide)
  have eA : ∀ j, aR_ τ (r + 2) j = aR_ σ (r + 2) j := fun j => A2.aR l2 w2
  refine ⟨⟨hf', ⟨?_, ⟨by rw [A2.t l2]; exact hmd.1, by rw [A2.n l2]; exact hmd.2.1, fun j hj => ?_, fun j j' hj hj' => by rw [eA, eA]; exact hmd.2.2.2 j j' hj hj'⟩, ⟨by rw [A2.t l3]; exact hp.1, by rw [A2.n l3]; exact hp.2⟩, hl', by rw [hr, A2.1]; exact la, fun j hj => absurd hj (by simp), by rw [A2.1]; exact rr, by simp⟩, ?_, hmr, by rw [hn]; exact hD⟩, ?_⟩
  · unfold RdC at hc ⊢
    rw [A2.t l0, hr]; exact hc
  · rw [eA]
    rcases hmd.2.2.1 j hj with z | ⟨z1, z2⟩
    · exact Or.inl z
    · exact Or.inr ⟨by rw [A2.t (hf.lt z1)]; exact z1, z2⟩
  · obtain ⟨⟨m1, _⟩, ⟨m2, m3, m4⟩, _⟩ := id hm
    exact hm.kp hf A2 (tn _ (by rw [m1]; decide) (by rw [m1]; decide)) (tn _ (by rw [m2]; decide) (by rw [m2]; decide)) (tn _ (by rw [m3]; decide) (by rw [m3]; decide)) (tn _ (by rw [m4]; decide) (by rw [m4]; decide))
  · refine fr.step A2 (fun z hz hW => ?_) (Or.inl (by rw [hr])) (fun j _ => Or.inl (eA j))
    rcases hW with e | ⟨e, e2⟩
    · exact Or.inl (by omega)
    · refine Or.inr (Or.inl (Or.inr ⟨?_, by rw [← fr.1.1]; exact e2⟩))
      rcases fr.2.1 with y | y
      · rw [e, y]
      · omega
theorem c_isHead (hf : WF D σ) (hc : RdC σ r md) (hm : MdA D σ md n B St Df) {v : Nat} (hv : v < 256) (hp : p + 10 ≤ 2048 * n) {post : Int32 → Prop} (k1 : hdOK B p v → post 1) (k0 : ¬ hdOK B p v → post 0) : wX8_isHead r (lN p) (nI v) σ post := by
  have hB := hm.med.2.2.1
  have hn := hm.med.2.1
  have b0 := hB p
  have b6 := hB (p + 6)
  have sk : Str D σ (fR_ σ 101 7 0) [67, 68, 48, 48, 49] := hf.2.2.2.2.1 7 (by decide)
  unfold wX8_isHead
  rw [hc.2.2.2.1, show (1 : Int64) = lN 1 from rfl, show (6 : Int64) = lN 6 from rfl, lN_add, lN_add]
  refine ⟨hc.1, hm.tag, c_at hm (by omega) ?_⟩
  rw [nI_eq (by omega) (by omega)]
  refine ⟨fun z => k0 (fun w => z w.1), fun z => c_says hm sk (by simp; omega) (fun u => ⟨fun w => absurd w (by decide), fun _ => c_at hm (by omega) ?_⟩) (fun u => ⟨fun _ => k0 (fun w => u ?_), fun w => absurd rfl w⟩)⟩
  · rw [li_1, nI_eq (by omega) (by decide)]
    refine ⟨fun y => k0 (fun w => y w.2.2.2.2.2.2), fun y => k1 ⟨z, ?_, ?_, ?_, ?_, ?_, y⟩⟩
    · exact u 0 (by decide)
    · exact u 1 (by decide)
    · exact u 2 (by decide)
    · exact u 3 (by decide)
    · exact u 4 (by decide)
  · obtain ⟨w0, w1, w2, w3, w4, w5, w6⟩ := w
    intro i hi
    have hi' : i < 5 := hi
    have : i = 0 ∨ i = 1 ∨ i = 2 ∨ i = 3 ∨ i = 4 := by omega
    rcases this with e | e | e | e | e <;> subst e
    · exact w1
    · exact w2
    · exact w3
    · exact w4
    · exact w5
/-- directories, then the tables -/
theorem c_reads379 (H : BR D σ0 σ r md n B St Df [rtF B (2048 * (q + 16) + 156)] c) (hu : fI_ σ 7 2 r = nI 1) (hq : q + 19 < n) (hr : recOK n B St (2048 * (q + 16) + 156) 0) {told : Nat} (ht : told = lowN B (2048 * (q + 16) + 132) 4) (ht2 : told ≤ 2048) (h1 : 34 ≤ bc_ σ + spC c) (h2 : 260 ≤ bs_ σ + spS c)
    (k1 : ∀ F c' σ', rdD n B St q = .inr F → BR D σ0 σ' r md n B St Df F c' → FOK n F → post 1 σ')
    (k0 : ∀ w F c' σ', rdD n B St q = .inl w → w < 2 ^ 30 → BR D σ0 σ' r md n B St Df F c' → fI_ σ' 7 8 r = nI w → post 0 σ') : wX8_reads_L379 post r (lN (2048 * (q + 16))) (nI told) 0 σ := by
  have hn := H.1.2.2.1.med.2.1
  have hlst := H.1.2.1.2.2.2.1
  have cok : capOK c := hlst.2.2.2.2.1
  have hc1 : 1 ≤ c := by have := hlst.2.2.2.2.2.2.1; rw [rfs_len] at this; exact this
  obtain ⟨Z, hZ⟩ : ∃ Z, dirsR n B St 31 [rtF B (2048 * (q + 16) + 156)] 0 = Z := ⟨_, rfl⟩
  unfold wX8_reads_L379
  refine lpG2 (B := fun R x7 s => wX8_reads_B379 post R r (lN (2048 * (q + 16))) (nI told) x7 s) (fun j x7 s => ∃ F d, d + j = 31 ∧ x7 = nI d ∧ d ≤ F.length ∧ dirsR n B St j F d = Z ∧ BR D σ0 s r md n B St Df F (capF c F.length) ∧ fI_ s 7 2 r = nI F.length ∧ FOK n F ∧ bc_ s + F.length + spC (capF c F.length) = bc_ σ + 1 + spC c ∧ bs_ s + 6 * F.length + spS (capF c F.length) = bs_ σ + 6 + spS c) 31 ⟨_, 0, by omega, rfl, by simp, hZ, by rw [capF_0 (L := ([rtF B (2048 * (q + 16) + 156)] : List FT).length) hc1]; exact H, hu, FOK1 hr, by rw [capF_0 (L := ([rtF B (2048 * (q + 16) + 156)] : List FT).length) hc1]; rfl, by rw [capF_0 (L := ([rtF B (2048 * (q + 16) + 156)] : List FT).length) hc1]; rfl⟩ ?_
  rintro j x7 s R ⟨F, d, g1, rfl, g3, g4, g5, g6, g7, g8, g9⟩ hR
  have hc := g5.1.2.1.1
  have hl := g5.1.2.1.2.2.2.1
  have h30 := g7.1.2
  obtain ⟨j, rfl⟩ : ∃ k, j = k + 1 := ⟨j - 1, by omega⟩
  unfold dirsR at g4
  unfold wX8_reads_B379 wX8_reads_L475
  rw [hc.2.1]
  refine ⟨hc.1, hl.1, l_size hl ?_⟩
  rw [rfs_len, nI_leI (by omega) (by omega)]
  refine ⟨fun z => ?_, fun z => l_get hl (by rw [rfs_len]; omega) (fun tg => ?_)⟩
  · rw [ic_f (by omega)] at g4
    have hD : rdD n B St q = rdT B q F := by unfold rdD; rw [hZ, ← g4]
    rw [hD] at k1 k0
    unfold rdT at k1 k0
    have a1 : lN (2048 * (q + 16)) + (4096 : Int64) = lN (2048 * (q + 18)) := by rw [show (4096 : Int64) = lN 4096 from rfl, lN_add]; congr 1
    have a2 : lN (2048 * (q + 16)) + (6144 : Int64) = lN (2048 * (q + 19)) := by rw [show (6144 : Int64) = lN 6144 from rfl, lN_add]; congr 1
    have a3 : lN (2048 * (q + 16)) + (132 : Int64) = lN (2048 * (q + 16) + 132) := by rw [show (132 : Int64) = lN 132 from rfl, lN_add]
    rw [a1, a2, a3]
    have wlt : ∀ (lo : Bool) (p w : Nat), p ≤ 2048 * 300 → mism B p (ptab F lo 0 F.length) = some w → w < 2 ^ 30 := by
      intro lo p w hp hw
      have := mism_lt _ _ _ hw
      have := ptab_len g7 lo F.length 0 (by omega)
      omega
    refine c_tabs (lo := true) g5 g7 (by omega) (fun s7 u1 H7 _ s8 e8 => ⟨fun w => absurd w (by decide), fun _ => ?_⟩) (fun w s7 u1 H7 e7 s8 e8 => ⟨fun _ => ?_, fun w => absurd rfl w⟩)
    · have H8 : BR D σ0 s8 r md n B St Df F (capF c F.length) := by rw [e8]; exact H7.bu
      rw [u1] at k1 k0
      refine ⟨H8.1.2.1.1.1, c_tabs (lo := false) H8 g7 (by omega) (fun s12 u2 H12 e12 s13 e13 => ⟨fun _ => ?_, fun w => absurd w (by decide)⟩) (fun w s12 u2 H12 e12 s13 e13 => ⟨fun w => absurd rfl w, fun _ => ?_⟩)⟩
      · have H13 : BR D σ0 s13 r md n B St Df F (capF c F.length) := by rw [e13]; exact H12.bu
        have e13' : fI_ s13 7 10 r = nI (ptab F false 0 F.length).length := by rw [e13]; exact e12
        simp only [u2] at k1 k0
        have hpl := ptab_len g7 false F.length 0 (by omega)
        rw [e13', nI_eq (by omega) (by omega)]
        refine ⟨H13.1.2.1.1.1, fun e => k1 F _ s13 ?_ H13 g7, fun e => c_bad H13.1.2.1.1 (fun s18 f18 e18 s19 e19 => ⟨fun _ => k0 (2048 * (q + 16) + 132) F (capF c F.length) s19 ?_ ?_ (by rw [e19]; exact (H13.rf f18).bu) (by rw [e19]; exact e18), fun w => absurd rfl w⟩)⟩
        · unfold ck; rw [ic_t (by omega)]
        · unfold ck; rw [ic_f (by omega)]
        · omega
      · simp only [u2] at k0
        exact k0 w F (capF c F.length) s13 rfl (wlt false _ w (by omega) u2) (by rw [e13]; exact H12.bu) (by rw [e13]; exact e12)
    · simp only [u1] at k0
      exact k0 w F (capF c F.length) s8 rfl (wlt true _ w (by omega) u1) (by rw [e8]; exact H7.bu) (by rw [e8]; exact e7)
  rw [rfs_get (by omega)] at tg ⊢
  rw [ic_t (by omega)] at g4
  have fo := g5.1.2.1.2.2.2.2.2.1 d (by omega)
  have ho := (g7.2.1 d (by omega)).1
  have hd1 := ho.1
  rw [fo.2.2.2.2.2.1, li_0, nI_eq (by omega) (by decide)]
  refine ⟨Or.inr tg, tg, fun e => ?_, fun e => ?_⟩
  · rw [ic_f (by omega)] at g4
    unfold wX8_reads_L420
    intro y1 hy1
    exact hR j y1 s (by omega) ⟨F, d + 1, by omega, by rw [hy1, li_1, nI_add], by omega, g4, g5, g6, g7, g8, g9⟩
  · rw [ic_t (by omega)] at g4
    have cF := capF_k cok F.length (by omega)
    have sl := spC_le cF
    cases hs : scan n B St d (gF F d) 500000 F 0 0 with
    | inl w =>
      rw [hs] at g4
      refine ⟨bc_ s, bs_ s, Nat.le_refl _, Nat.le_refl _, c_scan (σ := bu_ s (bc_ s) (bs_ s)) g5.bu g6 g7 (by omega) (by omega) (fun F' e1 => by rw [hs] at e1; cases e1) (fun w' _ => ⟨?_, ?_⟩) (fun F' s' e1 => by rw [hs] at e1; cases e1) (fun w' s30 F' c' e1 e2 e3 e4 s31 e31 => ⟨fun w => absurd rfl w, fun _ => ?_⟩)⟩
      · show _ ≤ bc_ s + _
        omega
      · show _ ≤ bs_ s + _
        omega
      · refine k0 w' F' c' s31 (by unfold rdD; rw [hZ, ← g4]; rw [hs] at e1; cases e1; rfl) (by omega) (by rw [e31]; exact e3.bu) (by rw [e31]; exact e4)
    | inr F' =>
      rw [hs] at g4
      have hlen := scan_len _ _ _ _ _ hs
      have h30' := scan_30 _ _ _ _ _ hs h30
      have cc := capF_c cok F.length (by omega) F'.length (by omega) hlen
      have mm := capF_m cok F.length (by omega) F'.length (by omega) hlen
      have sl' := spC_le (capF_k cok F'.length (by omega))
      refine ⟨(F'.length - F.length) + (spC (capF c F'.length) - spC (capF c F.length)), 6 * (F'.length - F.length) + (spS (capF c F'.length) - spS (capF c F.length)), by omega, by omega, c_scan (σ := bu_ s ((F'.length - F.length) + (spC (capF c F'.length) - spC (capF c F.length))) (6 * (F'.length - F.length) + (spS (capF c F'.length) - spS (capF c F.length)))) g5.bu g6 g7 (by omega) (by omega) (fun F2 e1 _ => ?_) (fun w' e1 => by rw [hs] at e1; cases e1) (fun F2 s30 e1 H30 u30 ok30 s31 e31 => ⟨fun _ => ?_, fun w => absurd w (by decide)⟩) (fun w' s30 F2 c' e1 => by rw [hs] at e1; cases e1)⟩
      · rw [hs] at e1; cases e1
        rw [cc]
        refine ⟨?_, ?_⟩
        · show _ ≤ ((F'.length - F.length) + (spC (capF c F'.length) - spC (capF c F.length))) + _
          omega
        · show _ ≤ (6 * (F'.length - F.length) + (spS (capF c F'.length) - spS (capF c F.length))) + _
          omega
      · rw [hs] at e1; cases e1
        rw [cc] at H30
        unfold wX8_reads_L420
        intro y1 hy1
        refine hR j y1 s31 (by omega) ⟨F', d + 1, by omega, by rw [hy1, li_1, nI_add], by omega, g4, by rw [e31]; exact H30.bu, by rw [e31]; exact u30, ok30, ?_, ?_⟩
        · rw [e31]
          show bc_ s - _ + _ + _ = _
          omega
        · rw [e31]
          show bs_ s - _ + _ + _ = _
          omega
end
