/-! the burner: the table -/
section
variable {S : Prop} {W : Nat → Prop} {D n : Nat} {σ0 σ σ' τ : Hp} {x md od q : Nat} {t : TT} {rf : Nat → Nat} {c : Nat} {R : List Nat} {ct : Nat} {f : Nat → Nat} {b : BS} {Df : Nat → Bool} {Bo : Nat → Nat} {P : Nat → Prop}
/-- a list that is not the table stays when the table is written -/
theorem lst_tb (hf : WF D σ) (ht : TbA D σ x R ct) {tk r cc : Nat} {L : List Nat} (h : Lst σ tk r L cc) (hr : r ≠ x + 3) (htk : tk ≠ 0) (hlo : lo_ σ < x) (k : Kp False (WL σ (x + 3)) σ τ) : Lst τ tk r L cc ∧ fR_ τ 10 1 r = fR_ σ 10 1 r := by
  have aT := ht.1.2.2.1
  have w1 : ¬ WL σ (x + 3) r := by
    rintro (e | ⟨e, _⟩)
    · exact hr e
    · rw [← e, h.1] at aT; cases aT
  have w2 : ¬ WL σ (x + 3) (fR_ σ 10 1 r) := by
    rintro (e | ⟨e, e2⟩)
    · have := h.2.2.1
      rw [e, ht.1.1] at this; cases this
    · have := hf.2.2.2.2.2.2.2 r (x + 3) h.1 ht.1.1 hr e
      omega
  have w0 : ¬ WL σ (x + 3) 0 := by
    rintro (e | ⟨e, e2⟩)
    · omega
    · omega
  exact ⟨h.kp hf k w1 w2 w0 (h.lt hf htk), k.r (hf.lt h.1) w1⟩
theorem bfs_s (j i : Nat) (tb : List Nat) : bfs t (j + 1) i tb = if i < tb.length then bfs t j (i + 1) (tb ++ (srt t (tb.getD i 0)).filter (fun k => tD t k == 1)) else tb := rfl
theorem ev_b {m : Nat} (h : m ≤ 11) : 34 ≤ ev (33 + m) ∧ ev (33 + m) ≤ 44 ∨ m = 0 ∧ ev (33 + m) = 34 := by
  unfold ev; omega
theorem nd_tl (F : BF D σ0 σ x n md od q t rf c R ct f b Df Bo P) {k : Nat} (hk : k ∈ tL t) : NdA D σ (rf k) t k := F.1.2.2.2.2.2.2.2.1.2.2.2 k hk
theorem c_layOut (F : BF D σ0 σ x n md od q t rf c R ct f b Df Bo P) {fr : Nat} (hfr : fr ≤ 1000) (h1 : 63 ≤ bc_ σ) (h2 : 460 ≤ bs_ σ) {post : Int32 → Hp → Prop}
    (k : ∀ σ' ct', BF D σ0 σ' x n md od q t rf c ((dirT t).map rf) ct' f b Df Bo P → SCn σ' rf (dirT t) fr → post (nI (fr + (dirT t).length)) σ') : wX3_layOut (x + 2) (nI fr) σ post := by
  obtain ⟨hf, hx, hb, hp, hpg, hmd, hod, htr, htz, htb, ok, hD⟩ := id F.1
  have m0 : 0 ∈ tL t := mem_tL.mpr ⟨by have := ok.1.1; omega, ok.2.1.1⟩
  unfold wX3_layOut
  rw [hb.2.2.2.2.2.1]
  refine ⟨hb.1, htb.1.1, l_clear htb.1 hf (fun s1 f1 k1 l1 r1 t1 n1 c1 b1 s2 e2 => ?_)⟩
  have F2 : BF D σ0 s2 x n md od q t rf c [] ct f b Df Bo P := by rw [e2]; exact (F.tb f1 k1 l1 (Or.inl (by rw [r1]))).bu
  have bc2 : bc_ s2 = bc_ σ := by rw [e2]; rfl
  have bs2 : bs_ s2 = bs_ σ := by rw [e2]; rfl
  have hb2 := F2.1.2.2.1
  have htr2 := F2.1.2.2.2.2.2.2.2.1
  have htb2 := F2.1.2.2.2.2.2.2.2.2.2.1
  rw [hb2.2.2.2.2.1, hb2.2.2.2.2.2.1]
  refine ⟨hb2.1, htr2.1, c_findK htr2 ok m0 (fun _ => ⟨htb2.1.1, c_tbAdd F2 m0 (by decide) (fun _ _ => ?_) (fun s3 ct3 F3 k3 c3 b3 => ?_)⟩)⟩
  · have := spC_le htb2.1.2.2.2.2.1
    omega
  have cap0 := spC_le htb2.1.2.2.2.2.1
  unfold wX3_layOut_L27
  refine lpG3 (B := fun R' y z s => wX3_layOut_B27 post R' (x + 2) y z s) (fun j y z s => ∃ i tbl ct', i + j = 31 ∧ z = nI i ∧ y = nI (fr + i) ∧ i ≤ tbl.length ∧ bfs t j i tbl = dirT t ∧ TBk t i tbl ∧ BF D σ0 s x n md od q t rf c (tbl.map rf) ct' f b Df Bo P ∧ SCn s rf (tbl.take i) fr ∧ bc_ σ ≤ bc_ s + ocC t (tbl.take i) + spC ct' ∧ bs_ σ ≤ bs_ s + ocS t (tbl.take i) + spS ct') 31 ⟨0, [0], ct3, rfl, rfl, rfl, by simp, rfl, TBk0 ok, F3, fun j hj => absurd hj (by simp), by omega, by omega⟩ ?_
  rintro j y z s R' ⟨i, tbl, ct', g1, rfl, rfl, g4, g5, g6, g7, g8, g9, g10⟩ hR
  have E7 := g7.1
  have hb7 := E7.2.2.1
  have htr7 := E7.2.2.2.2.2.2.2.1
  have htb7 := E7.2.2.2.2.2.2.2.2.2.1
  have l30 := TBk_len ok g6
  unfold wX3_layOut_B27
  rw [hb7.2.2.2.2.2.1]
  refine ⟨hb7.1, htb7.1.1, l_size htb7.1 ?_⟩
  rw [List.length_map, nI_leI (by omega) (by omega)]
  refine ⟨fun z => ?_, fun z => l_get htb7.1 (by rw [List.length_map]; omega) (fun tg => ?_)⟩
  · have e : dirT t = tbl := by
      rw [← g5]
      cases j with
      | zero => rfl
      | succ j => rw [bfs_s, if_neg (by omega)]
    have hi : i = tbl.length := by omega
    subst hi
    rw [List.take_length] at g8
    rw [e] at k
    exact k s ct' g7 g8
  obtain ⟨j, rfl⟩ : ∃ q, j = q + 1 := ⟨j - 1, by omega⟩
  rw [bfs_s, if_pos (by omega)] at g5
  rw [gD_map (by omega)] at tg ⊢
  obtain ⟨d, hd⟩ : ∃ d, d = tbl.getD i 0 := ⟨_, rfl⟩
  rw [← hd] at tg g5 ⊢
  have hdm : d ∈ tbl := by rw [hd]; exact getD_mem (by omega)
  have hdt : d ∈ tL t := mem_tL.mpr (g6.2.2.2.1 d hdm).1
  have hsub : ∀ k ∈ tbl, k ∈ tL t := fun k hk => mem_tL.mpr (g6.2.2.2.1 k hk).1
  have hne : ∀ k ∈ tbl.take i, rf k ≠ rf d := by
    intro k hk e
    have := rf_inj htr7 ok (hsub k (List.mem_of_mem_take hk)) hdt e
    obtain ⟨a, ha, hb⟩ := mem_getD hk
    have ha' : a < i := by rw [List.length_take] at ha; omega
    rw [getD_take ha', this, hd] at hb
    have := getD_inj g6.1 (by omega) (by omega) hb
    omega
  refine ⟨Or.inr tg, tg, fun s38 e38 => ?_⟩
  have F38 : BF D σ0 s38 x n md od q t rf c (tbl.map rf) ct' f b Df Bo P := by rw [e38]; exact g7.sc (by decide)
  have E38 := F38.1
  have hb38 := E38.2.2.1
  have htr38 := E38.2.2.2.2.2.2.2.1
  have sc38 : SCn s38 rf (tbl.take i) fr := by rw [e38]; exact g8.sI hne
  have pl38 : fI_ s38 5 11 (rf d) = nI (i + 1) := by rw [e38, afI_sI, u3_e, li_1, nI_add]
  have bc38 : bc_ s38 = bc_ s := by rw [e38]; rfl
  have bs38 : bs_ s38 = bs_ s := by rw [e38]; rfl
  have hcap := spC_le htb7.1.2.2.2.2.1
  have hoc : ocC t (tbl.take (i + 1)) ≤ 59 ∧ ocS t (tbl.take (i + 1)) ≤ 380 := by
    have o1 := oc_eq (t := t) (tbl.take (i + 1))
    have o2 := ocL_le ok (g6.1.sublist (List.take_sublist (i + 1) tbl))
    have o3 : (tbl.take (i + 1)).length ≤ 30 := by rw [List.length_take]; omega
    omega
  have hoc2 : ocC t (tbl.take (i + 1)) = ocC t (tbl.take i) + (1 + (chl t d).length) ∧ ocS t (tbl.take (i + 1)) = ocS t (tbl.take i) + (3 + 10 * (chl t d).length) := by
    rw [take_snoc (by omega), ← hd]; exact oc_snoc _ _
  rw [hb38.2.2.2.2.1, (htr38.2.2.2 d hdt).2.1]
  refine ⟨htr38.1, 1 + (chl t d).length, 3 + 10 * (chl t d).length, by omega, by omega, ?_⟩
  refine c_order (σ := bu_ s38 (1 + (chl t d).length) (3 + 10 * (chl t d).length)) (d := d) F38.1.1 htr38 ok (by have := tL_lt ok hdt; omega) (Nat.le_refl _) (Nat.le_refl _) (fun r44 s45 c44 N45 s46 e46 => ?_)
  have N45' : NL D s38 s45 6 r44 ((srt t d).map rf) c44 := N45
  have F46 : BF D σ0 s46 x n md od q t rf c (tbl.map rf) ct' f b Df Bo P := by rw [e46]; exact F38.made N45'.1 N45'.2.1
  have bc46 : bc_ s46 = bc_ s - (1 + (chl t d).length) := by rw [e46]; show bc_ s38 - _ = _; rw [bc38]
  have bs46 : bs_ s46 = bs_ s - (3 + 10 * (chl t d).length) := by rw [e46]; show bs_ s38 - _ = _; rw [bs38]
  have k46 : Kp False (fun _ => False) s38 s46 := by rw [e46]; exact N45'.2.1
  have sc46 : SCn s46 rf (tbl.take i) fr := sc38.kp k46 (fun k hk => ⟨E38.1.lt (htr38.2.2.2 k (hsub k (List.mem_of_mem_take hk))).1, fun z => z⟩)
  have pl46 : fI_ s46 5 11 (rf d) = nI (i + 1) := by
    rw [(k46.2.2.2 _ (E38.1.lt (htr38.2.2.2 d hdt).1) (fun z => z)).1 5 11 (fun z => z.elim)]; exact pl38
  have l46 : Lst s46 6 r44 ((srt t d).map rf) c44 := by rw [e46]; exact N45'.2.2.1
  have hr44 : r44 ≠ x + 3 := by have := N45'.2.2.2.1; have := E38.2.2.2.2.2.2.2.2.2.2.2; have := E38.2.1.1; omega
  have srt_m : ∀ k ∈ srt t d, k ∈ tL t := fun k hk => mem_tL.mpr (((srt_ok ok d).2.1 k).mp hk).1
  have sl := srt_len ok d
  unfold wX3_layOut_L80
  refine lpG3 (B := fun R2 y z s => wX3_layOut_B80 post R' R2 (x + 2) (nI (fr + i)) (nI i) (rf d) y r44 z s) (fun m y z s => ∃ i' a ct'', i' + m = (srt t d).length ∧ z = nI i' ∧ y = nI a ∧ 68 ≤ a ∧ a ≤ 68 + 44 * i' ∧ BF D σ0 s x n md od q t rf c ((tbl ++ ((srt t d).take i').filter (fun k => tD t k == 1)).map rf) ct'' f b Df Bo P ∧ Lst s 6 r44 ((srt t d).map rf) c44 ∧ SCn s rf (tbl.take i) fr ∧ fI_ s 5 11 (rf d) = nI (i + 1) ∧ bc_ σ ≤ bc_ s + ocC t (tbl.take (i + 1)) + spC ct'' ∧ bs_ σ ≤ bs_ s + ocS t (tbl.take (i + 1)) + spS ct'') (srt t d).length ⟨0, 68, ct', by omega, rfl, rfl, by omega, by omega, by simpa using F46, l46, sc46, pl46, by omega, by omega⟩ ?_
  rintro m y z s5 R2 ⟨i', a, ct5, w1, rfl, rfl, w4, w5, w6, w7, w8, w9, w10, w11⟩ hR2
  have E6 := w6.1
  have htr6 := E6.2.2.2.2.2.2.2.1
  have htb6 := E6.2.2.2.2.2.2.2.2.2.1
  have hcap6 := spC_le htb6.1.2.2.2.2.1
  have tb6 : TBk t (i + 1) (tbl ++ ((srt t d).take i').filter (fun k => tD t k == 1)) := by
    rw [hd]
    exact TBk_dirs ok g6 (by omega) ((List.filter_sublist ..).trans (List.take_sublist _ _)) (fun k hk => by have := (List.mem_filter.mp hk).2; simpa using this)
  unfold wX3_layOut_B80 wX3_layOut_L154
  refine ⟨w7.1, l_size w7 ?_⟩
  rw [List.length_map, nI_leI (by omega) (by omega)]
  refine ⟨fun z => ⟨(htr6.2.2.2 d hdt).1, fun s6 e6 s7 e7 y8 hy8 y9 hy9 => ?_⟩, fun z => l_get w7 (by rw [List.length_map]; omega) (fun tg5 => ?_)⟩
  · rw [li_2048, li_1, nI_add, pk_sub (by omega), pk_div (by omega) (by decide) (by decide), show (a + 2048 - 1) / 2048 = 1 by omega] at e7
    have i10 : fI_ s7 5 10 (rf d) = nI 1 := by rw [e7, afI_sI, u3_e]
    rw [i10, nI_add] at hy8
    rw [li_1, nI_add] at hy9
    have hi' : i' = (srt t d).length := by omega
    subst hi'
    rw [List.take_length] at w6 tb6
    have len1 : i + 1 ≤ (tbl ++ (srt t d).filter (fun k => tD t k == 1)).length := by simp; omega
    have tk : (tbl ++ (srt t d).filter (fun k => tD t k == 1)).take (i + 1) = tbl.take (i + 1) := by
      rw [List.take_append_of_le_length (by omega)]
    refine hR j y8 y9 s7 (by omega) ⟨i + 1, tbl ++ (srt t d).filter (fun k => tD t k == 1), ct5, by omega, hy9, by rw [hy8]; congr 1, len1, g5, tb6, ?_, ?_, ?_, ?_⟩
    · rw [e7, e6]; exact (w6.sc (by decide)).sc (by decide)
    · rw [tk, take_snoc (by omega), ← hd]
      have sc7 : SCn s7 rf (tbl.take i) fr := by rw [e7, e6]; exact (w8.sI hne).sI hne
      have lt : (tbl.take i).length = i := by rw [List.length_take]; omega
      intro m hm
      by_cases e : m < i
      · have := sc7 m (by omega)
        rw [← gD_app (b := [d]) (by omega : m < (tbl.take i).length)] at this
        exact this
      · have em : m = i := by simp at hm; omega
        subst em
        have ed : (tbl.take m ++ [d]).getD m 0 = d := by
          rw [getD_app, if_neg (by omega), lt]; simp
        rw [ed]
        refine ⟨?_, i10, ?_⟩
        · rw [e7, afI_sI, u3_k (by decide), e6, afI_sI, u3_e]
        · rw [e7, afI_sI, u3_k (by decide), e6, afI_sI, u3_k (by decide)]; exact w9
    · rw [tk, e7, e6]; exact w10
    · rw [tk, e7, e6]; exact w11
  · obtain ⟨m, rfl⟩ : ∃ q, m = q + 1 := ⟨m - 1, by omega⟩
    rw [gD_map (by omega)] at tg5 ⊢
    obtain ⟨e, he⟩ : ∃ e, e = (srt t d).getD i' 0 := ⟨_, rfl⟩
    rw [← he] at tg5 ⊢
    have hes : e ∈ srt t d := by rw [he]; exact getD_mem (by omega)
    have het := srt_m e hes
    have nde := htr6.2.2.2 e het
    have hl11 := tI_len ok het
    have hev : 34 ≤ ev (33 + (tI t e).length) ∧ ev (33 + (tI t e).length) ≤ 44 := by unfold ev; omega
    have hdD := root_D ok (mem_tL.mp het).1 (mem_tL.mp het).2
    refine ⟨Or.inr tg5, tg5, c_recSize nde.2.2.2.2.2.2.2.2.2 hl11 (c_fit (by omega) (by omega) (fun y15 hy15 => l_get w7 (by rw [List.length_map]; omega) (fun tg6 => ?_)))⟩
    rw [nI_add] at hy15
    rw [gD_map (by omega), ← he] at tg6 ⊢
    rw [nde.2.2.1, li_0, nI_eq (by omega) (by decide)]
    have flt : ((srt t d).take (i' + 1)).filter (fun k => tD t k == 1) = ((srt t d).take i').filter (fun k => tD t k == 1) ++ (if tD t e == 1 then [e] else []) := by
      rw [take_snoc (by omega), ← he, List.filter_append]
      congr 1
      by_cases v : tD t e = 1
      · simp [v]
      · simp [v]
    refine ⟨Or.inr tg6, tg6, fun v y1 hy1 => hR2 m y15 y1 s5 (by omega) ⟨i' + 1, a + ev (33 + (tI t e).length), ct5, by omega, by rw [hy1, li_1, nI_add], hy15, by omega, by omega, ?_, w7, w8, w9, w10, w11⟩, fun v => ⟨E6.2.2.1.1, l_get w7 (by rw [List.length_map]; omega) (fun tg7 => ?_)⟩⟩
    · rw [flt, if_neg (by simp; omega), List.append_nil]; exact w6
    · rw [gD_map (by omega), ← he] at tg7 ⊢
      rw [E6.2.2.1.2.2.2.2.2.1]
      have tb7 : TBk t (i + 1) (tbl ++ ((srt t d).take (i' + 1)).filter (fun k => tD t k == 1)) := by
        rw [hd]
        exact TBk_dirs ok g6 (by omega) ((List.filter_sublist ..).trans (List.take_sublist _ _)) (fun k hk => by have := (List.mem_filter.mp hk).2; simpa using this)
      have l7 := TBk_len ok tb7
      rw [flt, if_pos (by simp; omega), ← List.append_assoc, List.length_append] at l7
      have l7' : (tbl ++ ((srt t d).take i').filter (fun k => tD t k == 1)).length + 1 ≤ 30 := l7
      refine ⟨Or.inr tg7, htb6.1.1, c_tbAdd w6 het (by rw [List.length_map]; omega) (fun u1 u2 => ?_) (fun s8 ct8 F8 k8 v1 v2 y1 hy1 => ?_)⟩
      · have := hcap6.2.2 u1
        omega
      · have av : ∀ k ∈ tL t, ¬ WL s5 (x + 3) (rf k) := by
          intro k hk
          have tk := (htr6.2.2.2 k hk).1
          rintro (e | ⟨e, _⟩)
          · rw [e, htb6.1.1] at tk; cases tk
          · rw [e, htb6.1.2.2.1] at tk; cases tk
        obtain ⟨l8, _⟩ := lst_tb E6.1 htb6 w7 hr44 (by decide) E6.2.1.2.1 k8
        refine hR2 m y15 y1 s8 (by omega) ⟨i' + 1, a + ev (33 + (tI t e).length), ct8, by omega, by rw [hy1, li_1, nI_add], hy15, by omega, by omega, ?_, l8, w8.kp k8 (fun k hk => ⟨E6.1.lt (htr6.2.2.2 k (hsub k (List.mem_of_mem_take hk))).1, av k (hsub k (List.mem_of_mem_take hk))⟩), ?_, by omega, by omega⟩
        · rw [flt, if_pos (by simp; omega), ← List.append_assoc, List.map_append]; exact F8
        · rw [(k8.2.2.2 _ (E6.1.lt (htr6.2.2.2 d hdt).1) (av d hdt)).1 5 11 (fun z => z.elim)]; exact w9
end
