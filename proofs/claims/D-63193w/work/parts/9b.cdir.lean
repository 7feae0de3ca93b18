/-! the burner: a directory's page, the table's size, heads, marks -/
section
variable {S : Prop} {W : Nat → Prop} {D n : Nat} {σ0 σ σ' τ : Hp} {x md od q : Nat} {t : TT} {rf : Nat → Nat} {c : Nat} {ct : Nat} {f : Nat → Nat} {b : BS} {Df : Nat → Bool} {Bo : Nat → Nat} {P : Nat → Prop} {base : Nat}
theorem c_blankG (G : BG D σ0 σ x n md od q t rf c ct f b Df Bo P base) {post : Nat → Hp → Prop} (k : ∀ σ', AF (x + 5) σ σ' → BG D σ0 σ' x n md od q t rf c ct (pz []) b Df Bo P base → post (x + 4) σ') : wX3_blank (x + 2) σ post := by
  have hb := G.bur
  unfold wX3_blank
  rw [hb.2.2.2.2.2.2]
  refine ⟨hb.1, G.page.1, c_clear G.page (fun s1 a1 g1 => ?_)⟩
  have G1 := G.pg a1 g1
  have hb1 := G1.bur
  rw [hb1.2.2.2.2.2.2]
  exact ⟨hb1.1, k s1 a1 (G1.ext pz_nil.symm)⟩
theorem pz_ov' {a l : List Nat} {p : Nat} (h : p = a.length) : ov (pz a) p l = pz (a ++ l) := by rw [h]; exact pz_ov a l
theorem c_directory (G : BG D σ0 σ x n md od q t rf c ct f b Df Bo P base) (hbase : base ≤ 200) {d : Nat} (hd : d ∈ dirT t) (h1 : 9 + (chl t d).length ≤ bc_ σ) (h2 : 53 + 10 * (chl t d).length ≤ bs_ σ) {post : Nat → Hp → Prop}
    (k : ∀ σ', BG D σ0 σ' x n md od q t rf c ct (pz (dirL t (dirT t) base d)) b Df Bo P base → post (x + 4) σ') : wX3_directory (x + 2) (rf d) σ post := by
  have ok := G.ok
  have hdt := G.dt hd
  have l600 := tL_lt ok hdt
  have hdD : tD t d = 1 := (dirT_mem ok hd).2
  unfold wX3_directory
  refine ⟨G.bur.1, c_blankG G (fun s1 a1 G1 s2 e2 => ?_)⟩
  have G2 : BG D σ0 s2 x n md od q t rf c ct (pz []) b Df Bo P base := by rw [e2]; exact G1.bu
  have b2 : bc_ s2 = bc_ σ ∧ bs_ s2 = bs_ σ := by rw [e2]; exact ⟨rfl, rfl⟩
  refine ⟨4, 25, by omega, by omega, c_special (σ := bu_ s2 4 25) (c := 0) G2.wf G2.dn (by decide) (Nat.le_refl _) (Nat.le_refl _) (fun r46 s47 N47 s48 e48 => ?_)⟩
  have N47' : NewS D s2 s47 r46 [0] := N47
  have G48 : BG D σ0 s48 x n md od q t rf c ct (pz []) b Df Bo P base := by rw [e48]; exact (G2.made N47'.1 N47'.2.1).bu
  have b48 : bc_ s48 = bc_ σ - 4 ∧ bs_ s48 = bs_ σ - 25 := by rw [e48]; show bc_ s2 - 4 = _ ∧ bs_ s2 - 25 = _; omega
  have hs48 : Str D s48 r46 [0] := by rw [e48]; exact N47'.2.2
  refine ⟨G48.bur.1, c_record G48 hbase (p := 0) hs48 (by decide) hdt (fun _ => hd) (by decide) (fun i _ _ => pz_hi (by simp)) (fun s50 a50 G50 s51 e51 => ?_)⟩
  have G51 : BG D σ0 s51 x n md od q t rf c ct (pz (recS t (dirT t) base 0 d)) b Df Bo P base := by
    rw [e51]
    have := G50.ext (g := pz (recS t (dirT t) base 0 d)) (by rw [pz_ov' (a := []) (p := 0) rfl]; rfl)
    exact this.bu
  have b51 : bc_ s51 = bc_ σ - 4 ∧ bs_ s51 = bs_ σ - 25 := by rw [e51]; exact b48
  have nd51 := G51.tr.2.2.2 d hdt
  -- the one above
  have L42 : ∀ p, (p = if d = 0 then 0 else tP t d) → wX3_directory_L42 post (x + 2) (rf d) (x + 4) (rf p) 34 (x + 4) (x + 2) s51 := by
    intro p hp
    have hpd : p ∈ dirT t := by
      rw [hp]
      split
      · rename_i e; rw [← e]; exact hd
      · rename_i e; exact dirT_par ok hd e
    unfold wX3_directory_L42
    refine ⟨4, 25, by omega, by omega, c_special (σ := bu_ s51 4 25) (c := 1) G51.wf G51.dn (by decide) (Nat.le_refl _) (Nat.le_refl _) (fun r22 s23 N23 s24 e24 => ?_)⟩
    have N23' : NewS D s51 s23 r22 [1] := N23
    have G24 : BG D σ0 s24 x n md od q t rf c ct (pz (recS t (dirT t) base 0 d)) b Df Bo P base := by rw [e24]; exact (G51.made N23'.1 N23'.2.1).bu
    have b24 : bc_ s24 = bc_ σ - 8 ∧ bs_ s24 = bs_ σ - 50 := by rw [e24]; show bc_ s51 - 4 = _ ∧ bs_ s51 - 25 = _; omega
    have hs24 : Str D s24 r22 [1] := by rw [e24]; exact N23'.2.2
    refine ⟨G24.bur.1, c_record G24 hbase (p := 34) hs24 (by decide) (G.dt hpd) (fun _ => hpd) (by decide) (fun i h _ => pz_hi (by rw [recS_len]; exact h)) (fun s26 a26 G26 s27 e27 => ?_)⟩
    have G27 : BG D σ0 s27 x n md od q t rf c ct (pz (dLc t (dirT t) base d 2)) b Df Bo P base := by
      rw [e27]
      have := G26.ext (g := pz (dLc t (dirT t) base d 2)) (by
        rw [pz_ov' (recS_len (dirT t) base 0 d).symm, show (2 : Nat) = 0 + 2 from rfl, dLc_2, List.take_zero, List.map_nil, List.flatten_nil, List.append_nil, hp]; rfl)
      exact this.bu
    have b27 : bc_ s27 = bc_ σ - 8 ∧ bs_ s27 = bs_ σ - 50 := by rw [e27]; exact b24
    have nd27 := G27.tr.2.2.2 d hdt
    rw [G27.bur.2.2.2.2.1, nd27.2.1]
    refine ⟨G27.bur.1, nd27.1, G27.tr.1, 1 + (chl t d).length, 3 + 10 * (chl t d).length, by omega, by omega, ?_⟩
    refine c_order (σ := bu_ s27 (1 + (chl t d).length) (3 + 10 * (chl t d).length)) (d := d) G27.wf G27.tr ok (by omega) (Nat.le_refl _) (Nat.le_refl _) (fun r35 s36 c36 N36 s37 e37 => ?_)
    have N36' : NL D s27 s36 6 r35 ((srt t d).map rf) c36 := N36
    have G37 : BG D σ0 s37 x n md od q t rf c ct (pz (dLc t (dirT t) base d 2)) b Df Bo P base := by rw [e37]; exact (G27.made N36'.1 N36'.2.1).bu
    have l37 : Lst s37 6 r35 ((srt t d).map rf) c36 := by rw [e37]; exact N36'.2.2.1
    have sl := srt_len ok d
    have srt_m : ∀ k ∈ srt t d, k ∈ tL t := fun k hk => mem_tL.mpr (((srt_ok ok d).2.1 k).mp hk).1
    have aR : fR_ s37 10 1 r35 ≠ x + 5 := fun z => by
      have := l37.2.2.1
      rw [z, G37.page.2.2.1] at this; cases this
    unfold wX3_directory_L68
    refine lpG3 (B := fun R2 y z s => wX3_directory_B68 post R2 (x + 2) (x + 4) y r35 z s) (fun m y z s => ∃ i, i + m = (srt t d).length ∧ z = nI i ∧ y = nI (dLc t (dirT t) base d (i + 2)).length ∧ BG D σ0 s x n md od q t rf c ct (pz (dLc t (dirT t) base d (i + 2))) b Df Bo P base ∧ Lst s 6 r35 ((srt t d).map rf) c36) (srt t d).length ⟨0, by omega, rfl, ?_, G37, l37⟩ ?_
    · have : (dLc t (dirT t) base d (0 + 2)).length = 68 := by
        rw [Nat.zero_add, dLc_2]; simp [recS_len]
      rw [this]; rfl
    rintro m y z s R2 ⟨i, w1, rfl, rfl, w4, w5⟩ hR2
    have hlen := dLc_len ok (dirT t) base d (i + 2) (by omega)
    unfold wX3_directory_B68
    refine ⟨w5.1, l_size w5 ?_⟩
    rw [List.length_map, nI_leI (by omega) (by omega)]
    refine ⟨fun z => ?_, fun z => l_get w5 (by rw [List.length_map]; omega) (fun tg => ?_)⟩
    · have : i = (srt t d).length := by omega
      subst this
      rw [dLc_all] at w4
      exact k s w4
    · obtain ⟨m, rfl⟩ : ∃ q, m = q + 1 := ⟨m - 1, by omega⟩
      rw [gD_map (by omega)] at tg ⊢
      obtain ⟨e, he⟩ : ∃ e, e = (srt t d).getD i 0 := ⟨_, rfl⟩
      have he2 : (srt t d)[i] = e := by rw [he, List.getD_eq_getElem?_getD, List.getElem?_eq_getElem (by omega)]; rfl
      rw [← he] at tg ⊢
      have hes : e ∈ srt t d := by rw [he]; exact getD_mem (by omega)
      have het := srt_m e hes
      have nde := w4.tr.2.2.2 e het
      have hl11 := tI_len ok het
      have hev : 34 ≤ ev (33 + (tI t e).length) ∧ ev (33 + (tI t e).length) ≤ 44 := by unfold ev; omega
      refine ⟨Or.inr tg, tg, fun y7 hy7 => ?_⟩
      subst hy7
      refine c_recSize nde.2.2.2.2.2.2.2.2.2 hl11 (c_fit (by omega) (by omega) (l_get w5 (by rw [List.length_map]; omega) (fun tg6 => ?_)))
      rw [gD_map (by omega), ← he] at tg6 ⊢
      refine ⟨Or.inr tg6, w4.bur.1, c_record w4 hbase nde.2.2.2.2.2.2.2.2.2 hl11 het (fun v => dirT_all ok hd hes v) (by omega) (fun i h _ => pz_hi h) (fun s13 a13 G13 s14 e14 => ?_)⟩
      have G14 : BG D σ0 s14 x n md od q t rf c ct (pz (dLc t (dirT t) base d (i + 1 + 2))) b Df Bo P base := by
        rw [e14]
        have := G13.ext (g := pz (dLc t (dirT t) base d (i + 1 + 2))) (by
          rw [pz_ov, show i + 1 + 2 = i + 3 by omega, dLc_s (dirT t) base d (show i < (srt t d).length by omega), he2]; rfl)
        exact this.bu
      have hs14 : Str D s14 (fR_ s 5 7 (rf e)) (tI t e) := by rw [e14]; exact nde.2.2.2.2.2.2.2.2.2.kp (S := False) w4.wf a13.kp (w4.page.ws w4.wf)
      have hx := w4.1.1.2.1
      have l14 : Lst s14 6 r35 ((srt t d).map rf) c36 := by
        rw [e14]
        have aR' : fR_ s 10 1 r35 ≠ x + 5 := fun z => by
          have := w5.2.2.1
          rw [z, w4.page.2.2.1] at this; cases this
        have r35' : r35 ≠ x + 5 := fun z => by
          have := w5.1
          rw [z, w4.page.2.2.1] at this; cases this
        exact w5.kp (S := False) w4.wf a13.kp r35' aR' (by omega) (w5.lt w4.wf (by decide))
      refine c_recSize hs14 hl11 (fun y16 hy16 y17 hy17 => hR2 m y16 y17 s14 (by omega) ⟨i + 1, by omega, by rw [hy17, li_1, nI_add], ?_, G14, l14⟩)
      rw [hy16, nI_add, show i + 1 + 2 = i + 3 by omega, dLc_s (dirT t) base d (show i < (srt t d).length by omega), he2, List.length_append]
      congr 2
      unfold recN
      rw [recP_len]
  refine ⟨nd51.1, ?_⟩
  rw [nd51.2.2.2.1]
  by_cases e : d = 0
  · have L := L42 d (by rw [if_pos e, e])
    rw [e, ok.2.1.2.2.1]
    rw [e] at L
    exact ⟨fun z => absurd z (by decide), fun _ => L⟩
  · have L := L42 (tP t d) (by rw [if_neg e])
    obtain ⟨p1, p2, -⟩ := dep_s ok (by omega) (mem_tL.mp hdt).1 (mem_tL.mp hdt).2
    have hpt : tP t d ∈ tL t := mem_tL.mpr ⟨p1, p2⟩
    have lp := tL_lt ok hpt
    rw [G51.bur.2.2.2.2.1]
    refine ⟨fun _ => ⟨G51.bur.1, G51.tr.1, c_findK G51.tr ok hpt (fun _ => L)⟩, fun z => absurd ?_ z⟩
    rw [li_0, nI_leI (by decide) (by omega)]; omega
end
