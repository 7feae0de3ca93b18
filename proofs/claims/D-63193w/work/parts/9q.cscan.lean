/-! the reader goes through a directory -/
section
variable {S : Prop} {W : Nat → Prop} {D n : Nat} {σ0 σ σ' τ υ : Hp} {r md p c q : Nat} {B St : Nat → Nat} {Df : Nat → Bool} {F : List FT} {f : FT}
/-- the identifier ahead -/
def Lid (n : Nat) (B : Nat → Nat) (s : Hp) (r : Nat) (f : FT) : Prop := ∃ lp lL, fL_ s 7 5 r = lN lp ∧ fI_ s 7 7 r = nI lL ∧ lL < 256 ∧ lp + lL ≤ 2048 * n ∧ ltA B lp lL = idb (fn_ f) (fd_ f)
theorem newOK_iff {rc : Nat} : newOK F rc f ↔ (2 < rc → lx (idb (fn_ (gF F (F.length - 1))) (fd_ (gF F (F.length - 1)))) (idb (fn_ f) (fd_ f)) = true) ∧ (F.length ≠ 30 ∧ (fd_ f = 1 → fp_ f ≤ 6 ∧ ¬ laps F f)) := by
  unfold newOK laps
  constructor
  · rintro ⟨a, b, c⟩
    exact ⟨b, a, fun z => ⟨(c z).1, fun ⟨i, h1, h2, h3⟩ => (c z).2 i h1 h2 h3⟩⟩
  · rintro ⟨b, a, c⟩
    exact ⟨a, b, fun z => ⟨(c z).1, fun q h1 h2 h3 => (c z).2 ⟨q, h1, h2, h3⟩⟩⟩
theorem scan_30 {d : Nat} {G0 : FT} : ∀ (j : Nat) (F : List FT) (p rc : Nat) (F' : List FT), scan n B St d G0 j F p rc = .inr F' → F.length ≤ 30 → F'.length ≤ 30
  | 0, F, p, rc, F', h, _ => by unfold scan at h; cases h
  | j + 1, F, p, rc, F', h, hl => by
    unfold scan at h
    rcases ic_or h with ⟨-, h⟩ | ⟨-, h⟩
    · rcases ic_or h with ⟨-, h⟩ | ⟨-, h⟩
      · exact scan_30 j _ _ _ _ h hl
      · rcases ic_or h with ⟨-, h⟩ | ⟨-, h⟩
        · rcases ic_or h with ⟨-, h⟩ | ⟨-, h⟩
          · rcases ic_or h with ⟨-, h⟩ | ⟨-, h⟩
            · exact scan_30 j _ _ _ _ h hl
            · cases h
          · rcases ic_or h with ⟨hnew, h⟩ | ⟨-, h⟩
            · exact scan_30 j _ _ _ _ h (by rw [List.length_append, List.length_singleton]; have := hnew.1; omega)
            · cases h
        · cases h
    · rcases ic_or h with ⟨-, h⟩ | ⟨-, h⟩
      · cases h; exact hl
      · cases h
theorem c_scan (H : BR D σ0 σ r md n B St Df F c) (hu : fI_ σ 7 2 r = nI F.length) (hok : FOK n F) {d : Nat} (hd : d < F.length) (hdd : fd_ (gF F d) = 1)
    (hb1 : ∀ F', scan n B St d (gF F d) 500000 F 0 0 = .inr F' → F'.length ≤ 30 → (F'.length - F.length) + spC (capF c F'.length) ≤ bc_ σ + spC c ∧ 6 * (F'.length - F.length) + spS (capF c F'.length) ≤ bs_ σ + spS c)
    (hb0 : ∀ w, scan n B St d (gF F d) 500000 F 0 0 = .inl w → (31 - F.length) + 4 ≤ bc_ σ + spC c ∧ 6 * (31 - F.length) + 80 ≤ bs_ σ + spS c) {post : Int32 → Hp → Prop}
    (k1 : ∀ F' σ', scan n B St d (gF F d) 500000 F 0 0 = .inr F' → BR D σ0 σ' r md n B St Df F' (capF c F'.length) → fI_ σ' 7 2 r = nI F'.length → FOK n F' → post 1 σ')
    (k0 : ∀ w σ' F' c', scan n B St d (gF F d) 500000 F 0 0 = .inl w → w < 2048 * n → BR D σ0 σ' r md n B St Df F' c' → fI_ σ' 7 8 r = nI w → post 0 σ') : wX8_directory r (nI d) σ post := by
  have hm := H.1.2.2.1
  have hn := hm.med.2.1
  have hB := hm.med.2.2.1
  have hl := hok.1.2
  have hlst := H.1.2.1.2.2.2.1
  have cok : capOK c := hlst.2.2.2.2.1
  have hFc : F.length ≤ c := by have := hlst.2.2.2.2.2.2.1; rw [rfs_len] at this; exact this
  obtain ⟨G0, hD⟩ : ∃ G0, G0 = gF F d := ⟨_, rfl⟩
  have hDo : FO n G0 := by rw [hD]; exact (hok.2.1 d hd).1
  obtain ⟨z1, z2, z3⟩ := FO_sz hDo hn
  have hD0 : 0 < fs_ G0 := (hDo.2.2.1 (by rw [hD]; exact hdd)).1
  rw [← hD] at k1 k0 hb1 hb0
  obtain ⟨Z, hZ⟩ : ∃ Z, scan n B St d G0 500000 F 0 0 = Z := ⟨_, rfl⟩
  rw [hZ] at k1 k0 hb1 hb0
  have foD := H.1.2.1.2.2.2.2.2.1 d hd
  rw [← hD] at foD
  unfold wX8_directory
  rw [H.1.2.1.1.2.1]
  refine ⟨H.1.2.1.1.1, hlst.1, l_get hlst (by rw [rfs_len]; exact hd) (fun tg => ?_)⟩
  rw [rfs_get hd] at tg ⊢
  obtain ⟨x2, hx2⟩ : ∃ x2, x2 = aR_ σ (r + 2) d := ⟨_, rfl⟩
  rw [← hx2] at tg foD ⊢
  have x20 : x2 ≠ 0 := fun z => by rw [z, H.1.1.2.2.1] at tg; cases tg
  refine ⟨Or.inr tg, tg, fun y62 h62 => ?_⟩
  have e62 : y62 = lN (2048 * fx_ G0) := by
    rw [h62, foD.2.2.2.1, nI_l (by omega), show (2048 : Int64) = lN 2048 from rfl, lN_mul, Nat.mul_comm]
  subst e62
  unfold wX8_directory_L28
  refine lpG3 (B := fun R x5 x7 s => wX8_directory_B28 post R r (nI d) x2 (lN (2048 * fx_ G0)) x5 x7 s) (fun j x5 x7 s => ∃ (G : List FT) (p rc : Nat), x5 = lN (2048 * fx_ G0 + p) ∧ x7 = nI rc ∧ scan n B St d G0 j G p rc = Z ∧ 500000 ≤ p + j ∧ BR D σ0 s r md n B St Df G (capF c G.length) ∧ fI_ s 7 2 r = nI G.length ∧ FOK n G ∧ d < G.length ∧ gF G d = G0 ∧ p ≤ 412000 ∧ rc ≤ p ∧ F.length ≤ G.length ∧ (2 < rc → Lid n B s r (gF G (G.length - 1))) ∧ aR_ s (r + 2) d = x2 ∧ bc_ s + (G.length - F.length) + spC (capF c G.length) = bc_ σ + spC c ∧ bs_ s + 6 * (G.length - F.length) + spS (capF c G.length) = bs_ σ + spS c) 500000
    ⟨F, 0, 0, rfl, rfl, hZ, by omega, by rw [capF_0 hFc]; exact H, hu, hok, hd, hD.symm, by omega, by omega, by omega, fun q => absurd q (by omega), hx2.symm, by rw [capF_0 hFc]; omega, by rw [capF_0 hFc]; omega⟩ ?_
  rintro j x5 x7 s R ⟨G, p, rc, rfl, rfl, hsc, hj, hG, hGu, hGok, hGd, hGD, hp, hrc, hGF, hlid, hgx, hgc, hgb⟩ hR
  have hc' := hG.1.2.1.1
  have hm' := hG.1.2.2.1
  have hGl := hGok.1.2
  have fo' : FoA s x2 G0 := by
    have := hG.1.2.1.2.2.2.2.2.1 d hGd
    rw [hGD, hgx] at this; exact this
  obtain ⟨g1, g2, g3, g4, g5, g6, g7⟩ := fo'
  have fail : ∀ (w : Nat) (s' : Hp) (F' : List FT) (c' : Nat), Z = .inl w → w < 2048 * n → BR D σ0 s' r md n B St Df F' c' → ∀ post' : Int32 → Hp → Prop, (∀ σ', post 0 σ' → post' 0 σ') → wX8_bad r (lN w) s' post' := by
    intro w s' F' c' e1 e2 e3 post' hpp
    exact c_bad e3.1.2.1.1 (fun s2 f2 e4 => hpp s2 (k0 w s2 F' c' e1 e2 (e3.rf f2) e4))
  cases j with
  | zero => omega
  | succ j =>
    unfold scan at hsc
    have L188 : ∀ (G' : List FT) (s' : Hp), (2 < rc + 1 → Lid n B s' r (gF G' (G'.length - 1))) → 0 < B (2048 * fx_ G0 + p) → p < fs_ G0 → scan n B St d G0 j G' (p + B (2048 * fx_ G0 + p)) (rc + 1) = Z → BR D σ0 s' r md n B St Df G' (capF c G'.length) → fI_ s' 7 2 r = nI G'.length → FOK n G' → d < G'.length → gF G' d = G0 → F.length ≤ G'.length → aR_ s' (r + 2) d = x2 → bc_ s' + (G'.length - F.length) + spC (capF c G'.length) = bc_ σ + spC c → bs_ s' + 6 * (G'.length - F.length) + spS (capF c G'.length) = bs_ σ + spS c → wX8_directory_L188 post R r (nI d) x2 (lN (2048 * fx_ G0)) (lN (2048 * fx_ G0 + p)) (nI rc) s' := by
      intro G' s' e1 e3 e4 e5 e6 e7 e8 e9 e10 e11 e12 e13 e14
      have hb := hB (2048 * fx_ G0 + p)
      unfold wX8_directory_L188
      intro y hy
      rw [e6.1.2.1.1.2.2.2.1]
      refine ⟨e6.1.2.1.1.1, e6.1.2.2.1.tag, c_at e6.1.2.2.1 (by omega) (fun y5 hy5 => ?_)⟩
      refine hR j y5 y s' (by omega) ⟨G', p + B (2048 * fx_ G0 + p), rc + 1, ?_, ?_, e5, by omega, e6, e7, e8, e9, e10, by omega, by omega, e11, e1, e12, e13, e14⟩
      · rw [hy5, nI_l (by omega), lN_add, Nat.add_assoc]
      · rw [hy, li_1, nI_add]
    unfold wX8_directory_B28 wX8_directory_L223
    rw [g5, nI_l (by omega), lN_add, lg_cmp_ge, lN_le (by omega) (by omega), li_1, nI_ltI (by decide) (by omega), li_2, nI_leI (by decide) (by omega)]
    refine ⟨g1, fun q => ⟨fun q2 => ?_, fun q2 => ⟨hc'.1, ?_⟩⟩, fun q => ?_⟩
    · rw [ic_f (by omega), ic_t q2] at hsc
      exact k1 G s hsc.symm hG hGu hGok
    · rw [ic_f (by omega), ic_f q2] at hsc
      refine c_bad hc' (fun s2 f2 e2 s49 e49 => ⟨fun _ => ?_, fun w => absurd rfl w⟩)
      exact k0 _ s49 G _ hsc.symm (by omega) (by rw [e49]; exact (hG.rf f2).bu) (by rw [e49]; exact e2)
    have hb := hB (2048 * fx_ G0 + p)
    rw [ic_t (by omega)] at hsc
    rw [hc'.2.2.2.1]
    refine ⟨hc'.1, hm'.tag, c_at hm' (by omega) ?_⟩
    rw [li_0, nI_eq (by omega) (by decide)]
    refine ⟨fun q2 => ?_, fun q2 y56 h56 => ?_⟩
    · rw [ic_f q2] at hsc
      have L85 : ∀ sp : Int32, sp = (if (if rc < 2 then rc else 2) < 2 then nI (if rc < 2 then rc else 2) else -1) → wX8_directory_L85 post R r (nI d) x2 (lN (2048 * fx_ G0)) (lN (2048 * fx_ G0 + p)) (nI rc) sp (lN (2048 * fx_ G0 + p)) r s := by
        intro sp hsp
        unfold wX8_directory_L85
        refine ⟨hc'.1, c_sound hG.1.1 hc' hm' (by omega) (s := if rc < 2 then rc else 2) (by split <;> omega) hsp (fun s24 hr f24 i24 s25 e25 => ⟨fun _ => ?_, fun z => absurd z (by decide)⟩) (fun s24 hr f24 i24 s25 e25 => ⟨fun z => absurd rfl z, fun _ => ?_⟩)⟩
        · rw [ic_t hr] at hsc
          have f25 : RF r s s25 := by rw [e25]; exact f24.bu'
          have i25 : RdI s25 r (2048 * fx_ G0 + p + 33) (B (2048 * fx_ G0 + p + 32)) := by rw [e25]; exact i24.1
          have r25 : RU r s s25 := by rw [e25]; exact i24.2
          have G25 := hG.rf f25
          have c25 := G25.1.2.1.1
          have m25 := G25.1.2.2.1
          have hlt : p % 2048 + B (2048 * fx_ G0 + p) ≤ 2048 := by
            have := hr.1.2.1
            omega
          have h34 := hr.1.1
          have x25 : aR_ s25 (r + 2) d = x2 := by rw [f25.2.2.2.2.2.1]; exact hgx
          have bc25 : bc_ s25 = bc_ s := f25.2.2.2.2.2.2.2.1
          have bs25 : bs_ s25 = bs_ s := f25.2.2.2.2.2.2.2.2.1
          have u25 : fI_ s25 7 2 r = nI G.length := by rw [r25.1]; exact hGu
          rw [li_2, nI_leI (by decide) (by omega), nI_leI (by omega) (by decide)]
          have hidn := hr.1.2.2.1
          have hB32 := hB (2048 * fx_ G0 + p + 32)
          -- a node
          have L160 : 2 ≤ rc → (2 < rc → lx (idb (fn_ (gF G (G.length - 1))) (fd_ (gF G (G.length - 1)))) (idb (fn_ (mkF B d G (2048 * fx_ G0 + p))) (fd_ (mkF B d G (2048 * fx_ G0 + p)))) = true) → wX8_directory_L160 post R r (nI d) x2 (lN (2048 * fx_ G0)) (lN (2048 * fx_ G0 + p)) (nI rc) s25 := by
            intro q3 hrise
            rw [if_neg (by omega)] at hr
            rw [ic_f (by omega)] at hsc
            have hnewi : newOK G rc (mkF B d G (2048 * fx_ G0 + p)) ↔ (G.length ≠ 30 ∧ (fd_ (mkF B d G (2048 * fx_ G0 + p)) = 1 → fp_ (mkF B d G (2048 * fx_ G0 + p)) ≤ 6 ∧ ¬ laps G (mkF B d G (2048 * fx_ G0 + p)))) := by
              rw [newOK_iff]
              exact ⟨fun z => z.2, fun z => ⟨hrise, z⟩⟩
            obtain ⟨ho, hnm⟩ := rec_mk (d := d) (F := G) hr
            unfold wX8_directory_L160
            refine ⟨c25.1, fun s7 e7 s8 e8 => ?_⟩
            have f8 : RF r s25 s8 := by rw [e8, e7]; exact RF.refl.sL.sI
            have G8 := G25.rf f8
            have u8 : fI_ s8 7 2 r = nI G.length := by rw [e8, afI_sI, u3_k (by decide), e7, afI_sL]; exact u25
            have i8 : RdI s8 r (2048 * fx_ G0 + p + 33) (B (2048 * fx_ G0 + p + 32)) := ⟨by rw [e8, afL_sI, e7, afL_sL, u3_k (by decide)]; exact i25.1, by rw [e8, afI_sI, u3_k (by decide), e7, afI_sL]; exact i25.2⟩
            have l8 : fL_ s8 7 5 r = lN (2048 * fx_ G0 + p + 33) ∧ fI_ s8 7 7 r = nI (B (2048 * fx_ G0 + p + 32)) := ⟨by rw [e8, afL_sI, e7, afL_sL, u3_e]; exact i25.1, by rw [e8, afI_sI, u3_e, e7, afI_sL]; exact i25.2⟩
            have x8 : aR_ s8 (r + 2) d = x2 := by rw [f8.2.2.2.2.2.1]; exact x25
            have bc8 : bc_ s8 = bc_ s := by rw [f8.2.2.2.2.2.2.2.1]; exact bc25
            have bs8 : bs_ s8 = bs_ s := by rw [f8.2.2.2.2.2.2.2.2.1]; exact bs25
            obtain ⟨cs1, cs2, cs3⟩ := capF_s cok G.length (by omega)
            have cb := capF_b cok G.length (by omega)
            have room : 1 + gC G.length (capF c G.length) ≤ bc_ s8 ∧ 6 + gS G.length (capF c G.length) ≤ bs_ s8 := by
              cases Z with
              | inl w =>
                obtain ⟨v1, v2⟩ := hb0 w rfl
                omega
              | inr F' =>
                have hnew : newOK G rc (mkF B d G (2048 * fx_ G0 + p)) := by
                  rcases ic_or hsc with ⟨z, _⟩ | ⟨_, z⟩
                  · exact z
                  · cases z
                rw [ic_t hnew] at hsc
                have hlen := scan_len _ _ _ _ _ hsc
                rw [List.length_append, List.length_singleton] at hlen
                have h30 : F'.length ≤ 30 := scan_30 _ _ _ _ _ hsc (by rw [List.length_append, List.length_singleton]; have := hnew.1; omega)
                obtain ⟨v1, v2⟩ := hb1 F' rfl h30
                have mm := capF_m cok (G.length + 1) (by omega) F'.length (by omega) hlen
                omega
            refine ⟨1 + gC G.length (capF c G.length), 6 + gS G.length (capF c G.length), room.1, room.2, ?_⟩
            refine c_node (σ := bu_ s8 (1 + gC G.length (capF c G.length)) (6 + gS G.length (capF c G.length))) G8.bu u8 hGok hGd hr (by omega) i8 (Nat.le_refl _) (Nat.le_refl _) (fun s14 y1 y2 H14 u14 k14 _ _ s15 e15 => ⟨fun _ => ?_, fun z => absurd z (by decide)⟩) (fun s14 y1 H14 e14 s15 e15 => ⟨fun z => absurd rfl z, fun _ => ?_⟩)
            · have hnew := hnewi.mpr ⟨y1, y2⟩
              rw [ic_t hnew] at hsc
              have k14' : RK r s8 s14 := k14
              rw [cs1] at H14
              have el : (G ++ [mkF B d G (2048 * fx_ G0 + p)]).length = G.length + 1 := by simp
              refine L188 (G ++ [mkF B d G (2048 * fx_ G0 + p)]) s15 (fun _ => ?_) (by omega) (by omega) hsc (by rw [el, e15]; exact H14.bu) (by rw [el, e15]; exact u14) (FOK_snoc hGok (by omega) hGd (by rw [hGD, hD]; exact hdd) ho hnm rfl rfl (fun z => (y2 z).1)) (by rw [el]; omega) (by rw [gF_app hGd]; exact hGD) (by rw [el]; omega) ?_ ?_ ?_
              · rw [el, Nat.add_sub_cancel, gF_new, e15]
                refine ⟨2048 * fx_ G0 + p + 33, B (2048 * fx_ G0 + p + 32), ?_, ?_, hB32, by omega, id_eq hr⟩
                · show fL_ s14 7 5 r = _
                  rw [k14'.2.1]; exact l8.1
                · show fI_ s14 7 7 r = _
                  rw [k14'.2.2.2.1]; exact l8.2
              · rw [e15]
                show aR_ s14 (r + 2) d = _
                rw [k14'.2.2.2.2 d (by rw [x8]; exact x20)]; exact x8
              · rw [el, e15]
                show bc_ s8 - _ + _ + _ = _
                omega
              · rw [el, e15]
                show bs_ s8 - _ + _ + _ = _
                omega
            · have hno : ¬ newOK G rc (mkF B d G (2048 * fx_ G0 + p)) := fun z => y1 (hnewi.mp z)
              rw [ic_f hno] at hsc
              exact k0 _ s15 G _ hsc.symm (by omega) (by rw [e15]; exact H14.bu) (by rw [e15]; exact e14)
          -- one of the first two
          have L132 : ∀ (o x0 : Nat), rc < 2 → o < G.length → aR_ s25 (r + 2) o = x0 → (if rc = 0 ∨ d = 0 then G0 else gF G (fa_ G0)) = gF G o → wX8_directory_L132 post R r (nI d) x2 (lN (2048 * fx_ G0)) (lN (2048 * fx_ G0 + p)) (nI rc) x0 (lN (2048 * fx_ G0 + p)) r s25 := by
            intro o x0 q3 ho1 ho2 ho3
            rw [ic_t q3, ho3] at hsc
            have fo := G25.1.2.1.2.2.2.2.2.1 o ho1
            rw [ho2] at fo
            unfold wX8_directory_L132
            refine ⟨c25.1, c_same G25 fo (hGok.2.1 o ho1).1 (by omega) (fun hs s20 e20 => ⟨fun _ => ?_, fun z => absurd z (by decide)⟩) (fun s19 hs f19 e19 s20 e20 => ⟨fun z => absurd rfl z, fun _ => ?_⟩)⟩
            · rw [ic_t hs] at hsc
              refine L188 G s20 (fun z => by omega) (by omega) (by omega) hsc (by rw [e20]; exact G25.bu) (by rw [e20]; exact u25) hGok hGd hGD hGF (by rw [e20]; exact x25) ?_ ?_
              · rw [e20]; show bc_ s25 + _ + _ = _; rw [bc25]; exact hgc
              · rw [e20]; show bs_ s25 + _ + _ = _; rw [bs25]; exact hgb
            · rw [ic_f hs] at hsc
              exact k0 _ s20 G _ hsc.symm (by omega) (by rw [e20]; exact (G25.rf f19).bu) (by rw [e20]; exact e19)
          refine ⟨fun q3 => ⟨fun q4 => L160 q3 (fun z => by omega), fun q4 => ⟨c25.1, ?_⟩⟩, fun q3 => ?_⟩
          · obtain ⟨lp, lL, t1, t2, t3, t4, t5⟩ := hlid (by omega)
            have hr2 := hr
            rw [if_neg (by omega)] at hr2
            have ide := id_eq (d := d) (F := G) hr2
            refine c_rises c25 m25 i25 (by rw [r25.2.1]; exact t1) (by rw [r25.2.2]; exact t2) hB32 t3 (by omega) t4 (fun y => ⟨fun _ => L160 q3 (fun _ => ?_), fun z => absurd z (by decide)⟩) (fun y => ⟨fun z => absurd rfl z, fun _ => ?_⟩)
            · rw [t5, ide] at y; exact y
            · rw [t5, ide] at y
              rw [ic_f (by omega), ic_f (fun z => by have := z.2.1 (by omega); rw [y] at this; cases this)] at hsc
              refine c_bad c25 (fun s33 f33 e33 s34 e34 => ⟨rfl, ?_⟩)
              exact k0 _ s34 G _ hsc.symm (by omega) (by rw [e34]; exact (G25.rf f33).bu) (by rw [e34]; exact e33)
          · have fo25 := G25.1.2.1.2.2.2.2.2.1 d hGd
            rw [x25, hGD] at fo25
            unfold wX8_directory_L114
            rw [li_0, nI_eq (by omega) (by decide)]
            refine ⟨fun e => L132 d x2 (by omega) hGd x25 (by rw [if_pos (Or.inl e), hGD]), fun e => ⟨fo25.1, ?_⟩⟩
            rw [fo25.2.1]
            rcases Nat.eq_zero_or_pos d with d0 | d0
            · have hneg : ¬ nI 0 ≤ nI (fa_ G0) := by
                have h1 := hGok.2.2.1.2.1
                rw [d0] at hGD
                rw [hGD] at h1
                rw [h1]; decide
              exact ⟨fun z => absurd z hneg, fun _ => L132 d x2 (by omega) hGd x25 (by rw [if_pos (Or.inr d0), hGD])⟩
            · have hab : fa_ G0 < d := by
                have := (hGok.2.2.2 d d0 hGd).2.1
                rw [hGD] at this; exact this
              have hl25 := G25.1.2.1.2.2.2.1
              rw [nI_leI (by decide) (by omega), c25.2.1]
              refine ⟨fun _ => ⟨c25.1, hl25.1, l_get hl25 (by rw [rfs_len]; omega) (fun tg2 => ⟨Or.inr tg2, ?_⟩)⟩, fun z => absurd (Nat.zero_le _) z⟩
              rw [rfs_get (by omega)]
              exact L132 (fa_ G0) _ (by omega) (by omega) rfl (by rw [if_neg (by omega)])
        · rw [ic_f hr] at hsc
          exact k0 _ s25 G _ hsc.symm (by omega) (by rw [e25]; exact (hG.rf f24).bu) (by rw [e25]; exact i24)
      refine ⟨fun q3 => L85 _ ?_, fun q3 => L85 _ ?_⟩
      · rw [if_neg (by omega : ¬ rc < 2), if_neg (by omega)]; rfl
      · rw [if_pos (by omega : rc < 2), if_pos (by omega)]
    · rw [ic_t q2] at hsc
      refine hR j y56 _ s (by omega) ⟨G, p - p % 2048 + 2048, rc, ?_, rfl, hsc, by omega, hG, hGu, hGok, hGd, hGD, by omega, by omega, hGF, hlid, hgx, hgc, hgb⟩
      rw [h56, show (2048 : Int64) = lN 2048 from rfl, show (1 : Int64) = lN 1 from rfl, lN_div (by omega) (by decide) (by decide), lN_add, lN_mul]
      congr 1
      omega
end
