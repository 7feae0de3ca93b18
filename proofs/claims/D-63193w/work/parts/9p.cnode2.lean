/-! the reader: a node -/
def gC (L c : Nat) : Nat := if L = c then 1 else 0
def gS (L c : Nat) : Nat := if L = c then capN c else 0
def cA (L c : Nat) : Nat := if L = c then capN c else c
/-- a list's capacity when it has come to L -/
def capF (c L : Nat) : Nat := if L ≤ c then c else if L ≤ 10 then 10 else if L ≤ 15 then 15 else if L ≤ 22 then 22 else 33
theorem capF_s {c : Nat} (h : capOK c) : ∀ L, L < 33 → cA L (capF c L) = capF c (L + 1) ∧ spC (capF c (L + 1)) = spC (capF c L) + gC L (capF c L) ∧ spS (capF c (L + 1)) = spS (capF c L) + gS L (capF c L) := by
  unfold capOK at h
  rcases h with e | e | e | e | e <;> subst e <;> decide +kernel
theorem capF_m {c : Nat} (h : capOK c) : ∀ L, L < 34 → ∀ M, M < 34 → L ≤ M → spC (capF c L) ≤ spC (capF c M) ∧ spS (capF c L) ≤ spS (capF c M) := by
  unfold capOK at h
  rcases h with e | e | e | e | e <;> subst e <;> decide +kernel
theorem capF_b {c : Nat} (h : capOK c) : ∀ L, L < 31 → spC (capF c L) + gC L (capF c L) ≤ 4 ∧ spS (capF c L) + gS L (capF c L) ≤ 80 := by
  unfold capOK at h
  rcases h with e | e | e | e | e <;> subst e <;> decide +kernel
theorem capF_0 {c L : Nat} (h : L ≤ c) : capF c L = c := by unfold capF; rw [if_pos h]
section
variable {S : Prop} {W : Nat → Prop} {D n : Nat} {σ0 σ σ' τ υ : Hp} {r md p c q : Nat} {B St : Nat → Nat} {Df : Nat → Bool} {F : List FT} {f : FT}
theorem RF.bu' (h : RF r σ σ') : RF r σ (bu_ σ' (bc_ σ) (bs_ σ)) := ⟨h.1, h.2.1, h.2.2.1, h.2.2.2.1, h.2.2.2.2.1, h.2.2.2.2.2.1, h.2.2.2.2.2.2.1, rfl, rfl, h.2.2.2.2.2.2.2.2.2.1, h.2.2.2.2.2.2.2.2.2.2.1, h.2.2.2.2.2.2.2.2.2.2.2⟩
theorem c_node (H : BR D σ0 σ r md n B St Df F c) (hu : fI_ σ 7 2 r = nI F.length) (hok : FOK n F) {d : Nat} (hd : d < F.length) (hr : recOK n B St p 2) (hp : p < 2048 * n) (hi : RdI σ r (p + 33) (B (p + 32))) (h1 : 1 + gC F.length c ≤ bc_ σ) (h2 : 6 + gS F.length c ≤ bs_ σ) {post : Int32 → Hp → Prop}
    (k1 : ∀ σ', F.length ≠ 30 → (fd_ (mkF B d F p) = 1 → fp_ (mkF B d F p) ≤ 6 ∧ ¬ laps F (mkF B d F p)) → BR D σ0 σ' r md n B St Df (F ++ [mkF B d F p]) (cA F.length c) → fI_ σ' 7 2 r = nI (F.length + 1) → RK r σ σ' → bc_ σ' = bc_ σ - (1 + gC F.length c) → bs_ σ' = bs_ σ - (6 + gS F.length c) → post 1 σ')
    (k0 : ∀ σ', ¬ (F.length ≠ 30 ∧ (fd_ (mkF B d F p) = 1 → fp_ (mkF B d F p) ≤ 6 ∧ ¬ laps F (mkF B d F p))) → BR D σ0 σ' r md n B St Df F c → fI_ σ' 7 8 r = nI p → post 0 σ') : wX8_node r (lN p) (nI d) σ post := by
  have hm := H.1.2.2.1
  have hn := hm.med.2.1
  have hB := hm.med.2.2.1
  have len := hok.1.2
  obtain ⟨hfo, hnm⟩ := rec_mk (d := d) (F := F) hr
  have hK : (if B (p + 25) = 2 then B (p + 32) else B (p + 32) - 3) ≤ 8 := by
    have := hnm.2.1
    rw [show fn_ (mkF B d F p) = ltA B (p + 33) (if B (p + 25) = 2 then B (p + 32) else B (p + 32) - 3) from rfl, ltA_len] at this
    exact this
  have hrl : p + 34 ≤ 2048 * n := by have := hr.1.1; have := hr.1.2.1; omega
  have hid : p + 33 + B (p + 32) ≤ 2048 * n := by have := hr.1.2.2.1; have := hr.1.2.1; omega
  have h32 := hB (p + 32)
  have hpd := (hok.2.1 d hd).2
  unfold wX8_node
  refine ⟨H.1.2.1.1.1, 1, 6, by omega, by omega, c_found (σ := bu_ σ 1 6) H.bu hu (a := d) hrl (Nat.le_refl _) (Nat.le_refl _) (fun q s34 H34 q34 fo34 u34 k34 s35 e35 => ?_)⟩
  have H35 : BR D σ0 s35 r md n B St Df F c := by rw [e35]; exact H34.bu
  have q35 : q = aR_ s35 (r + 2) F.length := by rw [e35]; exact q34
  have fo35 : FoA s35 q (mk0 B d p) := by rw [e35]; exact fo34
  have u35 : fI_ s35 7 2 r = nI (F.length + 1) := by rw [e35]; exact u34
  have k35 : RK r σ s35 := by rw [e35]; exact k34
  have c35 : bc_ s35 = bc_ σ - 1 := by rw [e35]; rfl
  have b35 : bs_ s35 = bs_ σ - 6 := by rw [e35]; rfl
  have hl35 := H35.1.2.1.2.2.2.1
  have qr : q ≠ r := fun z => by have := H35.1.2.1.1.1; rw [← z, fo35.1] at this; cases this
  rw [H35.1.2.1.1.2.1]
  refine ⟨H35.1.2.1.1.1, hl35.1, l_get hl35 (by rw [rfs_len]; exact hd) (fun tg => ?_)⟩
  rw [rfs_get hd] at tg ⊢
  refine ⟨Or.inr tg, tg, fo35.1, fun s42 e42 => ?_⟩
  rw [(H35.1.2.1.2.2.2.2.2.1 d hd).2.2.1, li_1, nI_add] at e42
  have f42 : RF q s35 s42 := by rw [e42]; exact RF.refl.sI
  have H42 := H35.rfF (Nat.le_refl _) (by omega) q35 fo35.1 f42
  have k42 : RK r σ s42 := k35.trans (RK.rf f42 qr)
  have i42 := k42.i hi
  have d42 : fI_ s42 9 4 q = nI (if B (p + 25) = 2 then 1 else 0) := by rw [e42, afI_sI, u3_k (by decide)]; exact fo35.2.2.2.2.2.1
  have L53 : wX8_node_L53 post r (lN p) q (nI (if B (p + 25) = 2 then B (p + 32) else B (p + 32) - 3)) r q s42 := by
    unfold wX8_node_L53
    refine ⟨H42.1.2.1.1.1, c_word H42.1.2.1.1 H42.1.2.2.1 i42 hK (by split <;> omega) ⟨by rw [f42.1]; exact fo35.1, fun s18 e18 => ?_⟩⟩
    have f18 : RF q s35 s18 := by rw [e18]; exact f42.sL
    have H18 := H35.rfF (Nat.le_refl _) (by omega) q35 fo35.1 f18
    have k18 : RK r σ s18 := k35.trans (RK.rf f18 qr)
    have fo18 : FoA s18 q (mkF B d F p) := by
      obtain ⟨o1, o2, o3, o4, o5, o6, o7⟩ := fo35
      refine ⟨by rw [f18.1]; exact o1, ?_, ?_, ?_, ?_, ?_, ?_⟩
      · rw [e18, afI_sL, e42, afI_sI, u3_k (by decide)]; exact o2
      · rw [e18, afI_sL, e42, afI_sI, u3_e]; rfl
      · rw [e18, afI_sL, e42, afI_sI, u3_k (by decide)]; exact o4
      · rw [e18, afI_sL, e42, afI_sI, u3_k (by decide)]; exact o5
      · rw [e18, afI_sL, e42, afI_sI, u3_k (by decide)]; exact o6
      · rw [e18, afL_sL, u3_e]; rfl
    have u18 : fI_ s18 7 2 r = nI (F.length + 1) := by rw [f18.2.2.2.2.2.2.2.2.2.2.1 _ _ _ (fun z => qr z.symm)]; exact u35
    have q18 : q = aR_ s18 (r + 2) F.length := by rw [f18.2.2.2.2.2.1]; exact q35
    have c18 : bc_ s18 = bc_ σ - 1 := by rw [f18.2.2.2.2.2.2.2.1]; exact c35
    have b18 : bs_ s18 = bs_ σ - 6 := by rw [f18.2.2.2.2.2.2.2.2.1]; exact b35
    have hc18 := H18.1.2.1.1
    have hl18 := H18.1.2.1.2.2.2.1
    have L98 : ¬ (F.length ≠ 30 ∧ (fd_ (mkF B d F p) = 1 → fp_ (mkF B d F p) ≤ 6 ∧ ¬ laps F (mkF B d F p))) → wX8_node_L98 post r (lN p) s18 := by
      intro hno
      unfold wX8_node_L98
      refine ⟨hc18.1, c_bad hc18 (fun s' f' e' s13 e13 => ⟨rfl, k0 s13 hno ?_ ?_⟩)⟩
      · rw [e13]; exact (H18.rf f').bu
      · rw [e13]; exact e'
    have L104 : F.length ≠ 30 → (fd_ (mkF B d F p) = 1 → fp_ (mkF B d F p) ≤ 6 ∧ ¬ laps F (mkF B d F p)) → wX8_node_L104 post r q s18 := by
      intro y1 y2
      unfold wX8_node_L104
      rw [hc18.2.1]
      refine ⟨hc18.1, hl18.1, l_addC hl18 H18.1.1 fo18.1 (Or.inr rfl) (by rw [rfs_len]; omega) ?_ ?_ (fun s' hA v1 v2 => ?_)⟩
      · unfold g1A; rw [rfs_len, c18]; unfold gC at h1; omega
      · unfold g2A; rw [rfs_len, b18]; unfold gS at h2; omega
      · have l0 := H18.1.1.lt hc18.1
        have w0 : ¬ WL s18 (r + 1) r := by
          rintro (e | ⟨e, _⟩)
          · omega
          · have := hl18.2.2.1
            rw [← e, hc18.1] at this; cases this
        have w2 : ¬ WL s18 (r + 1) (r + 2) := by
          have t2 := H18.1.2.1.2.1.1
          rintro (e | ⟨e, _⟩)
          · omega
          · have := hl18.2.2.1
            rw [← e, t2] at this; cases this
        have A2 := hA.2.1
        have HA := H18.add (f := mkF B d F p) (by rw [← q18]; exact fo18) (by omega) (by rw [← q18]; exact hA)
        have ec : capA (rfs s18 r F.length) c = cA F.length c := by unfold capA cA; rw [rfs_len]
        rw [ec] at HA
        refine k1 s' y1 y2 HA (by rw [A2.i l0 w0 (by omega)]; exact u18) (k18.trans ⟨A2.l l0 w0, A2.l l0 w0, A2.i l0 w0 (by omega), A2.i l0 w0 (by omega), fun i _ => A2.aR (H18.1.1.lt H18.1.2.1.2.1.1) w2⟩) ?_ ?_
        · rw [v1, c18]; unfold g1A gC; rw [rfs_len]; omega
        · rw [v2, b18]; unfold g2A gS; rw [rfs_len]; omega
    rw [hc18.2.1]
    refine ⟨hc18.1, hl18.1, l_size hl18 ?_⟩
    have h9 : fI_ s18 9 4 q = nI (fd_ (mkF B d F p)) := fo18.2.2.2.2.2.1
    have h9' : fI_ s18 9 1 q = nI (fp_ (mkF B d F p)) := fo18.2.2.1
    have hfp : fp_ (mkF B d F p) = fp_ (gF F d) + 1 := rfl
    have hf1 := hfo.1
    rw [rfs_len, h9, h9', show (30 : Int32) = nI 30 from rfl, nI_eq (by omega) (by decide), li_0, nI_eq (by omega) (by decide), show (6 : Int32) = nI 6 from rfl, nI_ltI (by decide) (by omega)]
    refine ⟨fun y => L98 (fun w => w.1 y), fun y => ⟨fo18.1, fun w => L104 y (fun v => by omega), fun w => ⟨fun v => L98 (fun u => by have := (u.2 (by omega)).1; omega), fun v => ?_⟩⟩⟩
    refine c_overlaps H18.1.2.1 (fun i hi => (hok.2.1 i hi).1) hn fo18 hfo (by omega) (fun y2 => ⟨fun w => absurd w (by decide), fun _ => L98 (fun u => (u.2 (by omega)).2 y2)⟩) (fun y2 => ⟨fun _ => L104 y (fun _ => ⟨by omega, y2⟩), fun w => absurd rfl w⟩)
  rw [d42, i42.2]
  by_cases e : B (p + 25) = 2
  · rw [if_pos e] at L53 ⊢
    exact ⟨fun w => absurd w (by decide), fun _ => L53⟩
  · rw [if_neg e] at L53 ⊢
    have h3 : 3 < B (p + 32) := by
      have := hr.2.1
      unfold idOK at this
      rw [if_neg (by decide)] at this
      exact (this.2 e).1
    rw [show (3 : Int32) = nI 3 from rfl, pk_sub (by omega)]
    exact ⟨fun _ => L53, fun w => absurd rfl w⟩
end
