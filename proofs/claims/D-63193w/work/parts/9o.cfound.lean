/-! the reader: a found node -/
def mk0 (B : Nat → Nat) (a p : Nat) : FT := (a, if B (p + 25) = 2 then 1 else 0, lowN B (p + 10) 4, lowN B (p + 2) 4, [], 0)
/-- identifiers' places stay -/
def RK (r : Nat) (σ σ' : Hp) : Prop := fL_ σ' 7 4 r = fL_ σ 7 4 r ∧ fL_ σ' 7 5 r = fL_ σ 7 5 r ∧ fI_ σ' 7 6 r = fI_ σ 7 6 r ∧ fI_ σ' 7 7 r = fI_ σ 7 7 r ∧ (∀ i, aR_ σ (r + 2) i ≠ 0 → aR_ σ' (r + 2) i = aR_ σ (r + 2) i)
section
variable {S : Prop} {W : Nat → Prop} {D n : Nat} {σ0 σ σ' τ υ : Hp} {r md p c q : Nat} {B St : Nat → Nat} {Df : Nat → Bool} {F : List FT} {f : FT}
theorem RK.refl : RK r σ σ := ⟨rfl, rfl, rfl, rfl, fun _ _ => rfl⟩
theorem RK.trans (h : RK r σ τ) (g : RK r τ υ) : RK r σ υ := ⟨g.1.trans h.1, g.2.1.trans h.2.1, g.2.2.1.trans h.2.2.1, g.2.2.2.1.trans h.2.2.2.1, fun i hi => (g.2.2.2.2 i (by rw [h.2.2.2.2 i hi]; exact hi)).trans (h.2.2.2.2 i hi)⟩
theorem RK.rf (f : RF q σ τ) (h : q ≠ r) : RK r σ τ := ⟨f.2.2.2.2.2.2.2.2.2.2.2 _ _ _ (fun z => h z.symm), f.2.2.2.2.2.2.2.2.2.2.2 _ _ _ (fun z => h z.symm), f.2.2.2.2.2.2.2.2.2.2.1 _ _ _ (fun z => h z.symm), f.2.2.2.2.2.2.2.2.2.2.1 _ _ _ (fun z => h z.symm), fun i _ => by rw [f.2.2.2.2.2.1]⟩
theorem RK.i (h : RK r σ τ) {L : Nat} (hi : RdI σ r p L) : RdI τ r p L := ⟨by rw [h.1]; exact hi.1, by rw [h.2.2.1]; exact hi.2⟩
theorem c_isDir (h : RdC σ r md) (hm : MdA D σ md n B St Df) (hp : p + 25 < 2048 * n) {post : Int32 → Prop} (k : post (nI (if B (p + 25) = 2 then 1 else 0))) : wX8_isDirectory r (lN p) σ post := by
  have hb := hm.med.2.2.1 (p + 25)
  unfold wX8_isDirectory
  rw [h.2.2.2.1, show (25 : Int64) = lN 25 from rfl, lN_add]
  refine ⟨h.1, hm.tag, c_at hm hp ?_⟩
  rw [li_2, nI_eq (by omega) (by decide)]
  refine ⟨fun z => ?_, fun z => ?_⟩
  · rw [if_neg z] at k; exact k
  · rw [if_pos z] at k; exact k
theorem c_found28 (H : BR D σ0 σ r md n B St Df F c) (hu : fI_ σ 7 2 r = nI F.length) (hq : tg_ σ (aR_ σ (r + 2) F.length) = 10) {a : Nat} (hp : p + 34 ≤ 2048 * n) {post : Nat → Hp → Prop}
    (k : ∀ q σ', BR D σ0 σ' r md n B St Df F c → q = aR_ σ' (r + 2) F.length → FoA σ' q (mk0 B a p) → fI_ σ' 7 2 r = nI (F.length + 1) → RK r σ σ' → post q σ') : wX8_found_L28 post r (lN p) (nI a) σ := by
  have hS := H.1.2.1
  have hc := hS.1
  have hmd := hS.2.1
  have len := hS.2.2.2.2.2.2.2
  have hm := H.1.2.2.1
  have hn := hm.med.2.1
  obtain ⟨q, hqe⟩ : ∃ q, q = aR_ σ (r + 2) F.length := ⟨_, rfl⟩
  rw [← hqe] at hq
  have qr : q ≠ r := fun z => by have := hc.1; rw [← z, hq] at this; cases this
  unfold wX8_found_L28
  rw [hc.2.2.1, hmd.2.1, hu, nI_clamp (by omega), ← hqe]
  refine ⟨hc.1, hmd.1, (vin_ (by omega)).mpr (by omega), fun y4 h4 σ5 e5 => ?_⟩
  subst h4
  have f5 : RF r σ σ5 := by rw [e5]; exact RF.refl.sI
  have H5 := H.rf f5
  have k5 : RK r σ σ5 := by
    rw [e5]
    exact ⟨rfl, rfl, by rw [afI_sI, u3_k (by decide)], by rw [afI_sI, u3_k (by decide)], fun _ _ => rfl⟩
  have u5 : fI_ σ5 7 2 r = nI (F.length + 1) := by rw [e5, afI_sI, u3_e, li_1, nI_add]
  have q5 : tg_ σ5 y4 = 10 := by rw [f5.1]; exact hq
  have qe5 : y4 = aR_ σ5 (r + 2) F.length := by rw [f5.2.2.2.2.2.1]; exact hqe
  refine ⟨q5, fun σ7 e7 σ8 e8 σ9 e9 => ?_⟩
  have f9 : RF y4 σ5 σ9 := by rw [e9, e8, e7]; exact RF.refl.sI.sI.sL
  have H9 := H5.rfF (Nat.le_refl _) (by omega) qe5 q5 f9
  refine c_isDir H9.1.2.1.1 H9.1.2.2.1 (by omega) ⟨?_, fun σ12 e12 => ?_⟩
  · split <;> exact ⟨rfl, rfl⟩
  have f12 : RF y4 σ5 σ12 := by rw [e12]; exact f9.sI
  have H12 := H5.rfF (Nat.le_refl _) (by omega) qe5 q5 f12
  rw [H12.1.2.1.1.2.2.2.1, show (2 : Int64) = lN 2 from rfl, lN_add]
  refine ⟨H12.1.2.2.1.tag, c_mlow H12.1.2.2.1 (k := 4) (by decide) (by omega) (fun σ15 e15 => ?_)⟩
  have f15 : RF y4 σ5 σ15 := by rw [e15]; exact f12.sI
  have H15 := H5.rfF (Nat.le_refl _) (by omega) qe5 q5 f15
  rw [H15.1.2.1.1.2.2.2.1, show (10 : Int64) = lN 10 from rfl, lN_add]
  refine ⟨H15.1.2.2.1.tag, c_mlow H15.1.2.2.1 (k := 4) (by decide) (by omega) (fun σ18 e18 => ?_)⟩
  have f18 : RF y4 σ5 σ18 := by rw [e18]; exact f15.sI
  have H18 := H5.rfF (Nat.le_refl _) (by omega) qe5 q5 f18
  refine k y4 σ18 H18 (by rw [f18.2.2.2.2.2.1]; exact qe5) ⟨by rw [f18.1]; exact q5, ?_, ?_, ?_, ?_, ?_, ?_⟩ (by rw [f18.2.2.2.2.2.2.2.2.2.2.1 _ _ _ (fun z => qr z.symm)]; exact u5) (k5.trans (RK.rf f18 qr))
  · rw [e18, afI_sI, u3_k (by decide), e15, afI_sI, u3_k (by decide), e12, afI_sI, u3_k (by decide), e9, afI_sL, e8, afI_sI, u3_k (by decide), e7, afI_sI, u3_e]; rfl
  · rw [e18, afI_sI, u3_k (by decide), e15, afI_sI, u3_k (by decide), e12, afI_sI, u3_k (by decide), e9, afI_sL, e8, afI_sI, u3_e]; rfl
  · rw [e18, afI_sI, u3_k (by decide), e15, afI_sI, u3_e]; rfl
  · rw [e18, afI_sI, u3_e]; rfl
  · rw [e18, afI_sI, u3_k (by decide), e15, afI_sI, u3_k (by decide), e12, afI_sI, u3_e]; rfl
  · rw [e18, afL_sI, e15, afL_sI, e12, afL_sI, e9, afL_sL, u3_e]; rfl
theorem c_found (H : BR D σ0 σ r md n B St Df F c) (hu : fI_ σ 7 2 r = nI F.length) {a : Nat} (hp : p + 34 ≤ 2048 * n) (h1 : 1 ≤ bc_ σ) (h2 : 6 ≤ bs_ σ) {post : Nat → Hp → Prop}
    (k : ∀ q σ', BR D σ0 σ' r md n B St Df F c → q = aR_ σ' (r + 2) F.length → FoA σ' q (mk0 B a p) → fI_ σ' 7 2 r = nI (F.length + 1) → RK r σ σ' → post q σ') : wX8_found r (lN p) (nI a) σ post := by
  have hf := H.1.1
  have hS := H.1.2.1
  have hc := hS.1
  have hmd := hS.2.1
  have len := hS.2.2.2.2.2.2.2
  have l0 := hf.lt hc.1
  have l2 := hf.lt hmd.1
  unfold wX8_found
  rw [hc.2.2.1, hmd.2.1, hu, nI_clamp (by omega)]
  refine ⟨hc.1, hmd.1, (vin_ (by omega)).mpr (by omega), fun z => ?_, fun z => ⟨h1, h2, fun s25 e25 => ?_⟩⟩
  · rcases hmd.2.2.1 F.length (by omega) with y | ⟨y, _⟩
    · exact absurd y z
    · exact c_found28 H hu y hp k
  · have t25 : tg_ s25 = u1_ (tg_ σ) (nx_ σ) 10 := by rw [e25]; rfl
    have n25 : ln_ s25 (r + 2) = 31 := by rw [e25]; exact hmd.2.1
    have ta : tg_ s25 (r + 2) = 105 := by rw [t25, u1_k (by omega)]; exact hmd.1
    unfold wX10_init
    refine ⟨by rw [t25, u1_e], ⟨by rw [t25, u1_e], ta, by rw [n25]; exact (vin_ (by omega)).mpr (by omega), ?_, fun s30 e30 => ?_⟩⟩
    · refine Or.inr ⟨9, by decide, by rw [t25, u1_e], fun _ => rfl⟩
    · rw [e25] at e30
      obtain ⟨H30, a30, t30⟩ := H.mk (Nat.le_refl _) (by omega) z e30
      have u30 : fI_ s30 7 2 r = nI F.length := by rw [e30, afI_wR, afI_mO, z3_r (by omega)]; exact hu
      have k30 : RK r σ s30 := by
        rw [e30]
        exact ⟨by rw [afL_wR, afL_mO, z3_r (by omega)], by rw [afL_wR, afL_mO, z3_r (by omega)], by rw [afI_wR, afI_mO, z3_r (by omega)], by rw [afI_wR, afI_mO, z3_r (by omega)], fun i hi => by rw [aaR_wR, u2_i (fun y => hi (by rw [y]; exact z)), aaR_mO]⟩
      refine c_found28 H30 u30 (by rw [a30]; exact t30) hp (fun q s' g1 g2 g3 g4 g5 => k q s' g1 g2 g3 g4 (k30.trans g5))
/-- another directory lies across it -/
def laps (F : List FT) (f : FT) : Prop := ∃ i, i < F.length ∧ fd_ (gF F i) = 1 ∧ lapF f (gF F i)
theorem c_sectors (hq : FoA σ q f) (hs : fs_ f ≤ 409600) {post : Int32 → Prop} (k : post (nI ((fs_ f + 2047) / 2048))) : wX10_sectors q σ post := by
  unfold wX10_sectors
  rw [hq.2.2.2.2.1, li_2048, li_1, nI_add, pk_sub (by omega), pk_div (by omega) (by decide) (by decide)]
  exact ⟨hq.1, k⟩
theorem c_overlaps (hS : RdS D σ r md F c) (hok : ∀ i, i < F.length → FO n (gF F i)) (hn : n ≤ 200) (hq : FoA σ q f) (hfo : FO n f) (hd : fd_ f = 1) {post : Int32 → Prop} (k1 : laps F f → post 1) (k0 : ¬ laps F f → post 0) : wX8_overlaps r q σ post := by
  obtain ⟨hc, hmd, hp, hl, la, fo, rr, len⟩ := hS
  obtain ⟨q1, q2, q3, q4, q5, q6, q7⟩ := hq
  obtain ⟨z1, z2, z3⟩ := FO_sz hfo hn
  have fm := (hfo.2.2.1 hd).2
  unfold wX8_overlaps wX8_overlaps_L4
  refine lpG2 (B := fun R y z => wX8_overlaps_B4 post R r q y z σ) (fun j y z => j ≤ F.length ∧ z = nI (F.length - j) ∧ ((y = 1 ∧ laps F f) ∨ (y = 0 ∧ ∀ i, i < F.length - j → ¬ (fd_ (gF F i) = 1 ∧ lapF f (gF F i))))) F.length ⟨Nat.le_refl _, by simp [nI_0], Or.inr ⟨rfl, fun i hi => by omega⟩⟩ ?_
  rintro j y z R ⟨g1, rfl, g3⟩ hR
  have nr : nr_ .boolean y := nr_b (by rcases g3 with z | z; exact Or.inr z.1; exact Or.inl z.1)
  unfold wX8_overlaps_B4 wX8_overlaps_L79 wX8_overlaps_L75 wX8_overlaps_L80
  have e : ∀ y : Int32, y = nI (F.length - j) + 1 → 1 ≤ j → y = nI (F.length - (j - 1)) := fun y hy hj => by rw [hy, li_1, nI_add]; congr 1; omega
  rw [hc.2.1]
  refine ⟨hc.1, hl.1, l_size hl ?_⟩
  rw [rfs_len, nI_leI (by omega) (by omega)]
  refine ⟨fun z => ⟨nr, ?_⟩, fun z => l_get hl (by rw [rfs_len]; omega) (fun tg => ?_)⟩
  · rcases g3 with ⟨v, v2⟩ | ⟨v, v2⟩
    · rw [v]; exact k1 v2
    · rw [v]; exact k0 (fun ⟨i, hi, u⟩ => v2 i (by omega) u)
  rw [rfs_get (by omega)] at tg ⊢
  refine ⟨Or.inr tg, fun w y1 hy1 => ?_, fun w => ⟨tg, ?_⟩⟩
  · rcases g3 with ⟨v, v2⟩ | ⟨v, v2⟩
    · exact hR (j - 1) 1 y1 (by omega) ⟨by omega, e y1 hy1 (by omega), Or.inl ⟨rfl, v2⟩⟩
    · exact absurd v w
  have v2 : ∀ i, i < F.length - j → ¬ (fd_ (gF F i) = 1 ∧ lapF f (gF F i)) := by
    rcases g3 with ⟨v, _⟩ | ⟨_, v⟩
    · rw [v] at w; cases w
    · exact v
  have go0 : ¬ (fd_ (gF F (F.length - j)) = 1 ∧ lapF f (gF F (F.length - j))) → ∀ y1 : Int32, y1 = nI (F.length - j) + 1 → R 0 y1 := by
    intro hno y1 hy1
    refine hR (j - 1) 0 y1 (by omega) ⟨by omega, e y1 hy1 (by omega), Or.inr ⟨rfl, fun i hi => ?_⟩⟩
    by_cases ei : i < F.length - j
    · exact v2 i ei
    · rw [show i = F.length - j by omega]; exact hno
  obtain ⟨p1, p2, p3, p4, p5, p6, p7⟩ := fo (F.length - j) (by omega)
  have ho := hok (F.length - j) (by omega)
  obtain ⟨y1, y2, y3⟩ := FO_sz ho hn
  have hd1 := ho.1
  have gm := fun h1 => (ho.2.2.1 h1).2
  rw [p4, p6, q4, li_0, nI_eq (by omega) (by decide)]
  refine ⟨fun u => go0 (by omega), fun u => ⟨q1, c_sectors ⟨q1, q2, q3, q4, q5, q6, q7⟩ (by omega) ?_⟩⟩
  rw [nI_add, nI_leI (by omega) (by omega)]
  refine ⟨fun u2 => go0 (fun v => ?_), fun u2 => c_sectors ⟨p1, p2, p3, p4, p5, p6, p7⟩ (by omega) ?_⟩
  · have := v.2; unfold lapF at this; omega
  rw [nI_add, nI_leI (by omega) (by omega)]
  refine ⟨fun u3 => go0 (fun v => ?_), fun u3 y1' hy1' => ?_⟩
  · have := gm (by omega)
    have := v.2; unfold lapF at this; omega
  · have g2 := gm (by omega)
    refine hR (j - 1) 1 y1' (by omega) ⟨by omega, e y1' hy1' (by omega), Or.inl ⟨rfl, F.length - j, by omega, by omega, ?_⟩⟩
    unfold lapF; omega
theorem c_same (H : BR D σ0 σ r md n B St Df F c) (hq : FoA σ q f) (hfo : FO n f) (hp : p + 34 ≤ 2048 * n) {post : Int32 → Hp → Prop} (k1 : sameOK B p f → post 1 σ) (k0 : ∀ σ', ¬ sameOK B p f → RF r σ σ' → fI_ σ' 7 8 r = nI p → post 0 σ') : wX8_same r (lN p) q σ post := by
  have hc := H.1.2.1.1
  have hm := H.1.2.2.1
  have hn := hm.med.2.1
  have hB := hm.med.2.2.1
  obtain ⟨q1, q2, q3, q4, q5, q6, q7⟩ := hq
  obtain ⟨z1, z2, z3⟩ := FO_sz hfo hn
  have v2 := lowN_lt hB 4 (p + 2)
  have v10 := lowN_lt hB 4 (p + 10)
  have p4 : (256 : Nat) ^ 4 = 4294967296 := by decide
  rw [p4] at v2 v10
  have bad : ¬ sameOK B p f → wX8_same_L40 post r (lN p) σ := by
    intro hno
    unfold wX8_same_L40 wX8_same_L48
    exact ⟨hc.1, c_bad hc (fun s' f' e' => ⟨fun _ => k0 s' hno f' e', fun w => absurd rfl w⟩)⟩
  unfold wX8_same wX8_same_L48
  rw [hc.2.2.2.1, show (2 : Int64) = lN 2 from rfl, show (10 : Int64) = lN 10 from rfl, lN_add, lN_add, q4, q5]
  refine ⟨hc.1, hm.tag, c_mlow hm (k := 4) (by decide) (by omega) ⟨q1, ?_⟩⟩
  rw [nI_eq32 (by omega) (by omega)]
  refine ⟨fun w => bad (fun u => w u.1), fun w => c_mlow hm (k := 4) (by decide) (by omega) ?_⟩
  rw [nI_eq32 (by omega) (by omega)]
  exact ⟨fun u => k1 ⟨w, u⟩, fun u => bad (fun y => u y.2)⟩
end
