/-! the burner: the table's size, heads, marks, descriptor -/
theorem and1_ : ∀ m, m < 12 → nI m &&& (1 : Int32) = nI (m % 2) := by decide
theorem pz_rep (A : List Nat) (g : Nat) : pz (A ++ List.replicate g 0) = pz A := by
  funext i
  unfold pz
  rw [getD_app]
  split
  · rfl
  · rename_i h
    rw [List.getD_eq_getElem?_getD, List.getD_eq_getElem?_getD, List.getElem?_eq_none (l := A) (by omega), List.getElem?_replicate]
    split <;> rfl
theorem pz_gap {A B : List Nat} {p g : Nat} (h : p = A.length + g) : ov (pz A) p B = pz (A ++ (List.replicate g 0 ++ B)) := by
  rw [← pz_rep A g, pz_ov' (by rw [List.length_append, List.length_replicate]; exact h), List.append_assoc]
section
variable {S : Prop} {W : Nat → Prop} {D n : Nat} {σ0 σ σ' τ : Hp} {x md od q : Nat} {t : TT} {rf : Nat → Nat} {c : Nat} {ct : Nat} {f : Nat → Nat} {b : BS} {Df : Nat → Bool} {Bo : Nat → Nat} {P : Nat → Prop} {base : Nat}
theorem ptT_s (tb : List Nat) (lo : Bool) (j : Nat) : ptT t tb base lo (j + 1) = ptT t tb base lo j ++ ptN t tb base lo j := rfl
theorem c_tableSize (G : BG D σ0 σ x n md od q t rf c ct f b Df Bo P base) {post : Int32 → Prop} (k : post (nI (ptT t (dirT t) base true (dirT t).length).length)) : wX3_tableSize (x + 2) σ post := by
  have ok := G.ok
  have l30 := dirT_len ok
  have hL := G.tbl
  unfold wX3_tableSize wX3_tableSize_L4
  refine lpG2 (B := fun R y z => wX3_tableSize_B4 post R (x + 2) y z σ) (fun j y z => ∃ i, i + j = (dirT t).length ∧ z = nI i ∧ y = nI (ptT t (dirT t) base true i).length) (dirT t).length ⟨0, by omega, rfl, rfl⟩ ?_
  rintro j y z R ⟨i, h1, rfl, rfl⟩ hR
  unfold wX3_tableSize_B4
  rw [G.bur.2.2.2.2.2.1]
  refine ⟨G.bur.1, hL.1, l_size hL ?_⟩
  rw [List.length_map, nI_leI (by omega) (by omega), li_0, nI_eq (by omega) (by decide)]
  have L40 : ∀ m, i < (dirT t).length → m = (if i = 0 then [0] else tM t ((dirT t).getD i 0)).length → m < 12 → wX3_tableSize_L40 post R (x + 2) (nI (ptT t (dirT t) base true i).length) (nI i) (nI m) σ := by
    intro m hi hm hm2
    unfold wX3_tableSize_L40
    intro y1 hy1 y2 hy2
    refine hR (j - 1) y1 y2 (by omega) ⟨i + 1, by omega, by rw [hy2, li_1, nI_add], ?_⟩
    rw [hy1, and1_ m hm2, li_8, nI_add, nI_add, nI_add, ptT_s, List.length_append, (ptN_len ok hi).1, ← hm]
  refine ⟨fun z => ?_, fun z => ⟨fun z2 => l_get hL (by rw [List.length_map]; omega) (fun tg => ?_), fun z2 => L40 1 (by omega) (by rw [if_pos z2]; rfl) (by decide)⟩⟩
  · have : i = (dirT t).length := by omega
    rw [this]; exact k
  · rw [gD_map (by omega)] at tg ⊢
    have hm : (dirT t).getD i 0 ∈ dirT t := getD_mem (by omega)
    have nd := G.tr.2.2.2 _ (G.dt hm)
    have l8 := (nm_b ok (mem_tL.mp (G.dt hm)).1 (mem_tL.mp (G.dt hm)).2).1
    exact ⟨Or.inr tg, tg, nd.2.2.2.2.2.2.2.2.1.1, s_length nd.2.2.2.2.2.2.2.2.1 (L40 _ (by omega) (by rw [if_neg z2]) (by omega))⟩
theorem c_head (G : BG D σ0 σ x n md od q t rf c ct f b Df Bo P base) {s : Nat} (hs : s < 256) {post : Nat → Hp → Prop} (k : ∀ σ', AF (x + 5) σ σ' → BG D σ0 σ' x n md od q t rf c ct (pz [s, 67, 68, 48, 48, 49, 1]) b Df Bo P base → post (x + 4) σ') : wX3_head (x + 2) (nI s) σ post := by
  unfold wX3_head
  refine ⟨G.bur.1, c_blankG G (fun s1 a1 G1 => ⟨G1.page.1, c_low G1.page (q := 0) (n := 1) (by decide) (by decide) (by omega) (fun s2 a2 g2 => ?_)⟩)⟩
  rw [lowB_1 hs, pz_ov' (a := []) (p := 0) rfl] at g2
  have G2 := G1.pg a2 g2
  refine ⟨G2.page.1, c_say G2.wf G2.page (q := 1) (G2.wf.2.2.2.2.1 2 (by decide)) (by decide) (fun s3 a3 g3 => ?_)⟩
  rw [pz_ov' (a := [] ++ [s]) (p := 1) rfl] at g3
  have G3 := G2.pg a3 g3
  refine ⟨G3.page.1, c_low G3.page (q := 6) (n := 1) (v := 1) (by decide) (by decide) (by decide) (fun s4 a4 g4 => ?_)⟩
  rw [lowB_1 (by decide), pz_ov' (p := 6) rfl] at g4
  exact k s4 (((a1.trans a2).trans a3).trans a4) (G3.pg a4 g4)
theorem c_mark (G : BG D σ0 σ x n md od q t rf c ct f b Df Bo P base) (hb : base < 2 ^ 32) {num : Nat} (hn : num < 2 ^ 32) {post : Nat → Hp → Prop} (k : ∀ σ', AF (x + 5) σ σ' → BG D σ0 σ' x n md od q t rf c ct (pz ([77, 65, 82, 75] ++ (lowB 4 base ++ lowB 4 num))) b Df Bo P base → post (x + 4) σ') : wX3_mark (x + 2) (nI base) (nI num) σ post := by
  unfold wX3_mark
  refine ⟨G.bur.1, c_blankG G (fun s1 a1 G1 => ⟨G1.page.1, c_say G1.wf G1.page (q := 0) (G1.wf.2.2.2.2.1 4 (by decide)) (by decide) (fun s2 a2 g2 => ?_)⟩)⟩
  rw [pz_ov' (a := []) (p := 0) rfl] at g2
  have G2 := G1.pg a2 g2
  refine ⟨G2.page.1, c_low G2.page (q := 4) (n := 4) (by decide) (by decide) hb (fun s3 a3 g3 => ?_)⟩
  rw [pz_ov' (p := 4) rfl] at g3
  have G3 := G2.pg a3 g3
  refine ⟨G3.page.1, c_low G3.page (q := 8) (n := 4) (by decide) (by decide) hn (fun s4 a4 g4 => ?_)⟩
  rw [pz_ov' (p := 8) (by rw [List.length_append, lowB_len]; rfl), List.append_assoc] at g4
  exact k s4 (((a1.trans a2).trans a3).trans a4) (G3.pg a4 g4)
theorem c_descriptor (G : BG D σ0 σ x n md od q t rf c ct f b Df Bo P base) (hbase : base ≤ 200) (h1 : 4 ≤ bc_ σ) (h2 : 25 ≤ bs_ σ) {post : Nat → Hp → Prop} (k : ∀ σ', BG D σ0 σ' x n md od q t rf c ct (pz (desL n t (dirT t) base)) b Df Bo P base → post (x + 4) σ') : wX3_descriptor (x + 2) (nI base) σ post := by
  have ok := G.ok
  have hn := G.med.med.2.1
  have m0 : 0 ∈ tL t := mem_tL.mpr ⟨by have := ok.1.1; omega, ok.2.1.1⟩
  have d0 : 0 ∈ dirT t := by
    have := dirT_ok ok
    have h := this.2.1
    have hm : (dirT t).getD 0 1 ∈ dirT t := getD_mem (by have := this.2.2.1; omega)
    rw [h] at hm; exact hm
  obtain ⟨L, hL⟩ : ∃ L, L = (ptT t (dirT t) base true (dirT t).length).length := ⟨_, rfl⟩
  have hLb : L < 2 ^ 32 := by
    have := (ptT_len ok (base := base) (dirT t).length (Nat.le_refl _)).2
    have := dirT_len ok
    omega
  unfold wX3_descriptor
  refine ⟨G.bur.1, c_head G (s := 1) (by decide) (fun s3 a3 G3 s4 e4 => ?_)⟩
  have G4 := (G3.bu (i := bc_ σ) (j := bs_ σ))
  rw [← e4] at G4
  have b4 : bc_ s4 = bc_ σ ∧ bs_ s4 = bs_ σ := by rw [e4]; exact ⟨rfl, rfl⟩
  rw [G4.bur.2.1, G4.med.1.2.1]
  refine ⟨G4.bur.1, G4.med.tag, G4.page.1, c_bothP G4.page (q := 80) (n := 4) (by decide) (by decide) (by omega) (fun s8 a8 g8 s9 e9 => ?_)⟩
  rw [pz_gap (p := 80) (g := 73) rfl] at g8
  have G9 := (G4.pg a8 g8).bu (i := bc_ s4) (j := bs_ s4)
  rw [← e9] at G9
  have b9 : bc_ s9 = bc_ σ ∧ bs_ s9 = bs_ σ := by rw [e9]; exact b4
  refine ⟨G9.page.1, c_bothP G9.page (q := 128) (n := 2) (v := 2048) (by decide) (by decide) (by decide) (fun s11 a11 g11 s12 e12 => ?_)⟩
  rw [pz_gap (p := 128) (g := 40) (by simp [lowB_len, highB_len])] at g11
  have G12 := (G9.pg a11 g11).bu (i := bc_ s9) (j := bs_ s9)
  rw [← e12] at G12
  have b12 : bc_ s12 = bc_ σ ∧ bs_ s12 = bs_ σ := by rw [e12]; exact b9
  refine ⟨G12.bur.1, c_tableSize G12 ⟨G12.page.1, ?_⟩⟩
  rw [← hL]
  refine c_bothP G12.page (q := 132) (n := 4) (by decide) (by decide) hLb (fun s16 a16 g16 s17 e17 => ?_)
  rw [pz_ov' (p := 132) (by simp [lowB_len, highB_len])] at g16
  have G17 := (G12.pg a16 g16).bu (i := bc_ s12) (j := bs_ s12)
  rw [← e17] at G17
  have b17 : bc_ s17 = bc_ σ ∧ bs_ s17 = bs_ σ := by rw [e17]; exact b12
  have e18 : nI base + 18 = nI (base + 18) := by rw [li_18, nI_add]
  have e19 : nI base + 19 = nI (base + 19) := by rw [li_19, nI_add]
  rw [e18, e19]
  refine ⟨G17.page.1, c_low G17.page (q := 140) (n := 4) (by decide) (by decide) (by omega) (fun s19 a19 g19 s20 e20 => ?_)⟩
  rw [pz_ov' (p := 140) (by simp [lowB_len, highB_len])] at g19
  have G20 := (G17.pg a19 g19).bu (i := bc_ s17) (j := bs_ s17)
  rw [← e20] at G20
  have b20 : bc_ s20 = bc_ σ ∧ bs_ s20 = bs_ σ := by rw [e20]; exact b17
  refine ⟨G20.page.1, c_high G20.page (q := 148) (n := 4) (by decide) (by decide) (by omega) (fun s22 a22 g22 s23 e23 => ?_)⟩
  rw [pz_gap (p := 148) (g := 4) (by simp [lowB_len, highB_len])] at g22
  have G23 := (G20.pg a22 g22).bu (i := bc_ s20) (j := bs_ s20)
  rw [← e23] at G23
  have b23 : bc_ s23 = bc_ σ ∧ bs_ s23 = bs_ σ := by rw [e23]; exact b20
  rw [G23.bur.2.2.2.2.1]
  refine ⟨G23.bur.1, G23.tr.1, c_findK G23.tr ok m0 (fun _ => ⟨4, 25, by omega, by omega, c_special (σ := bu_ s23 4 25) (c := 0) G23.wf G23.dn (by decide) (Nat.le_refl _) (Nat.le_refl _) (fun r31 s32 N32 s33 e33 => ?_)⟩)⟩
  have N32' : NewS D s23 s32 r31 [0] := N32
  have G33 := (G23.made N32'.1 N32'.2.1).bu (i := bc_ s23 - 4) (j := bs_ s23 - 25)
  rw [← e33] at G33
  have hs33 : Str D s33 r31 [0] := by rw [e33]; exact N32'.2.2
  refine ⟨G33.bur.1, c_record G33 hbase (p := 156) hs33 (by decide) m0 (fun _ => d0) (by decide) (fun i h _ => pz_hi (by simp [lowB_len, highB_len]; omega)) (fun s35 a35 G35 s36 e36 => ?_)⟩
  rw [pz_gap (p := 156) (g := 4) (by simp [lowB_len, highB_len])] at G35
  rw [e36]
  refine k _ (G35.ext ?_).bu
  unfold desL
  rw [← hL]
  simp only [List.append_assoc]
  rfl
end
