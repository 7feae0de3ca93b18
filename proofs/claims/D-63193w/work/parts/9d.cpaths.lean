/-! the burner: path tables -/
def xB (lo : Bool) (n v : Nat) : List Nat := if lo then lowB n v else highB n v
theorem xB_len (lo : Bool) (n v : Nat) : (xB lo n v).length = n := by unfold xB; split; exact lowB_len n v; exact highB_len n v
theorem ptE_pz (A : List Nat) (lo : Bool) (l : List Nat) (x up : Nat) : pz (A ++ [l.length] ++ (List.replicate 1 0 ++ xB lo 4 x) ++ xB lo 2 up ++ l) = pz (A ++ ptE lo l x up) := by
  have e : A ++ ptE lo l x up = A ++ [l.length] ++ (List.replicate 1 0 ++ xB lo 4 x) ++ xB lo 2 up ++ l ++ List.replicate (l.length % 2) 0 := by
    unfold ptE xB
    have : (if l.length % 2 = 1 then [0] else []) = List.replicate (l.length % 2) 0 := by
      split
      · rename_i h; rw [h]; rfl
      · rename_i h; rw [show l.length % 2 = 0 by omega]; rfl
    rw [this]
    simp only [List.append_assoc, List.cons_append, List.nil_append, List.replicate_succ, List.replicate_zero]
  rw [e, pz_rep]
section
variable {S : Prop} {W : Nat → Prop} {D n : Nat} {σ0 σ σ' τ : Hp} {x md od q : Nat} {t : TT} {rf : Nat → Nat} {c : Nat} {ct : Nat} {f : Nat → Nat} {b : BS} {Df : Nat → Bool} {Bo : Nat → Nat} {P : Nat → Prop} {base : Nat}
theorem AF.bu {a : Nat} (h : AF a σ σ') : AF a σ (bu_ σ' (bc_ σ) (bs_ σ)) := by
  obtain ⟨q1, q2, q3, q4, q5, q6, q7, q8, q9, q10, q11, q12⟩ := h
  exact ⟨q1, q2, q3, q4, q5, q6, q7, q8, rfl, rfl, q11, q12⟩
theorem c_paths (G : BG D σ0 σ x n md od q t rf c ct f b Df Bo P base) (hbase : base ≤ 200) (lo : Bool) (h1 : 4 ≤ bc_ σ) (h2 : 25 ≤ bs_ σ) {post : Nat → Hp → Prop} (k : ∀ σ', BG D σ0 σ' x n md od q t rf c ct (pz (ptT t (dirT t) base lo (dirT t).length)) b Df Bo P base → post (x + 4) σ') : wX3_paths (x + 2) (b2 lo) σ post := by
  have ok := G.ok
  have l30 := dirT_len ok
  unfold wX3_paths
  refine ⟨G.bur.1, c_blankG G (fun s1 a1 G1 s2 e2 => ?_)⟩
  have G2 := G1.bu (i := bc_ σ) (j := bs_ σ)
  rw [← e2] at G2
  have bb2 : bc_ s2 = bc_ σ ∧ bs_ s2 = bs_ σ := by rw [e2]; exact ⟨rfl, rfl⟩
  unfold wX3_paths_L10
  refine lpG3 (B := fun R y z s => wX3_paths_B10 post R (x + 2) (b2 lo) (x + 4) y z s) (fun j y z s => ∃ i, i + j = (dirT t).length ∧ z = nI i ∧ y = nI (ptT t (dirT t) base lo i).length ∧ BG D σ0 s x n md od q t rf c ct (pz (ptT t (dirT t) base lo i)) b Df Bo P base ∧ (i = 0 → 4 ≤ bc_ s ∧ 25 ≤ bs_ s)) (dirT t).length ⟨0, by omega, rfl, rfl, G2, fun _ => by omega⟩ ?_
  rintro j y z s R ⟨i, w1, rfl, rfl, w4, w5⟩ hR
  have hL := w4.tbl
  have hA : (ptT t (dirT t) base lo i).length ≤ 16 * i := by
    have := ptT_len ok (base := base) i (by omega)
    cases lo <;> omega
  obtain ⟨A, hAd⟩ : ∃ A, A = ptT t (dirT t) base lo i := ⟨_, rfl⟩
  rw [← hAd] at hA w4 ⊢
  unfold wX3_paths_B10
  rw [w4.bur.2.2.2.2.2.1]
  refine ⟨w4.bur.1, hL.1, l_size hL ?_⟩
  rw [List.length_map, nI_leI (by omega) (by omega), li_0, nI_eq (by omega) (by decide)]
  refine ⟨fun z => ?_, fun z => l_get hL (by rw [List.length_map]; omega) (fun tg => ?_)⟩
  · have : i = (dirT t).length := by omega
    subst this
    rw [hAd] at w4
    exact k s w4
  rw [gD_map (by omega)] at tg ⊢
  obtain ⟨d, hd⟩ : ∃ d, d = (dirT t).getD i 0 := ⟨_, rfl⟩
  rw [← hd] at tg ⊢
  have hdm : d ∈ dirT t := by rw [hd]; exact getD_mem (by omega)
  have hdt := G.dt hdm
  have hpl : plc (dirT t) d = i := by rw [hd]; exact dirT_plc ok (by omega)
  have l8 := (nm_b ok (mem_tL.mp hdt).1 (mem_tL.mp hdt).2).1
  obtain ⟨j, rfl⟩ : ∃ q, j = q + 1 := ⟨j - 1, by omega⟩
  have ptNi : ptN t (dirT t) base lo i = ptE lo (if i = 0 then [0] else tM t d) (base + 20 + i) (if i = 0 then 1 else plc (dirT t) (tP t d) + 1) := by unfold ptN; rw [← hd]
  -- an entry
  have L79 : ∀ (s5 : Hp) (r up : Nat) (l : List Nat), BG D σ0 s5 x n md od q t rf c ct (pz A) b Df Bo P base → Str D s5 r l → l = (if i = 0 then [0] else tM t d) → l.length ≤ 8 → up = (if i = 0 then 1 else plc (dirT t) (tP t d) + 1) → up < 100 → wX3_paths_L79 post R (x + 2) (b2 lo) (x + 4) (nI A.length) (nI i) (rf d) r (nI up) s5 := by
    intro s5 r up l G5 hs5 hl hl8 hup hup1
    have ws5 := G5.page.ws G5.wf
    have fin : ∀ (s6 : Hp), AF (x + 5) s5 s6 → BG D σ0 s6 x n md od q t rf c ct (pz (A ++ [l.length] ++ (List.replicate 1 0 ++ xB lo 4 (base + 20 + i)) ++ xB lo 2 up)) b Df Bo P base → wX3_paths_L147 post R (x + 2) (b2 lo) (x + 4) (nI A.length) (nI i) r s6 := by
      intro s6 a6 G6
      unfold wX3_paths_L147
      rw [li_8, nI_add]
      have hs6 : Str D s6 r l := hs5.kp (S := False) G5.wf a6.kp ws5
      refine ⟨G6.page.1, c_say G6.wf G6.page hs6 (by omega) (fun s7 a7 g7 s8 e8 => ?_)⟩
      rw [pz_ov' (by simp [xB_len]), ptE_pz] at g7
      have G8 := (G6.pg a7 g7).bu (i := bc_ s6) (j := bs_ s6)
      rw [← e8] at G8
      have hs8 : Str D s8 r l := by rw [e8]; exact hs5.kp (S := False) G5.wf (a6.trans a7).kp ws5
      refine ⟨hs8.1, s_length hs8 (s_length hs8 (fun y7 hy7 y8 hy8 => hR j y7 y8 s8 (by omega) ⟨i + 1, by omega, by rw [hy8, li_1, nI_add], ?_, ?_, fun v => absurd v (by omega)⟩))⟩
      · rw [hy7, and1_ _ (by omega), nI_add, nI_add, nI_add, ptT_s, List.length_append, ptNi, ← hl, ← hAd, ptE_len]
      · rw [ptT_s, ptNi, ← hl, ← hup, ← hAd]; exact G8
    unfold wX3_paths_L79
    refine ⟨hs5.1, s_length hs5 ⟨G5.page.1, c_low G5.page (n := 1) (by decide) (by omega) (by omega) (fun s12 a12 g12 s13 e13 => ?_)⟩⟩
    rw [lowB_1 (by omega), pz_ov] at g12
    have G13 := (G5.pg a12 g12).bu (i := bc_ s5) (j := bs_ s5)
    rw [← e13] at G13
    have a13 : AF (x + 5) s5 s13 := by rw [e13]; exact a12.bu
    have nd13 := G13.tr.2.2.2 d hdt
    have sc13 := (G13.sc hdm).1
    rw [hpl] at sc13
    rw [sc13, li_2, li_6, nI_add, nI_add]
    cases lo with
    | false =>
      refine ⟨fun _ => ⟨nd13.1, G13.page.1, c_high G13.page (n := 4) (by decide) (by omega) (by omega) (fun s17 a17 g17 s18 e18 => ?_)⟩, fun z => absurd rfl z⟩
      rw [pz_gap (g := 1) (by simp)] at g17
      have G18 := (G13.pg a17 g17).bu (i := bc_ s13) (j := bs_ s13)
      rw [← e18] at G18
      refine ⟨G18.page.1, c_high G18.page (n := 2) (by decide) (by omega) (by omega) (fun s20 a20 g20 s21 e21 => ?_)⟩
      rw [pz_ov' (by simp [highB_len])] at g20
      have G21 := (G18.pg a20 g20).bu (i := bc_ s18) (j := bs_ s18)
      rw [← e21] at G21
      have a18 : AF (x + 5) s13 s18 := by rw [e18]; exact a17.bu
      have a21 : AF (x + 5) s18 s21 := by rw [e21]; exact a20.bu
      exact fin s21 ((a13.trans a18).trans a21) G21
    | true =>
      refine ⟨fun z => absurd z (by decide), fun _ => ⟨nd13.1, G13.page.1, c_low G13.page (n := 4) (by decide) (by omega) (by omega) (fun s17 a17 g17 s18 e18 => ?_)⟩⟩
      rw [pz_gap (g := 1) (by simp)] at g17
      have G18 := (G13.pg a17 g17).bu (i := bc_ s13) (j := bs_ s13)
      rw [← e18] at G18
      refine ⟨G18.page.1, c_low G18.page (n := 2) (by decide) (by omega) (by omega) (fun s20 a20 g20 s21 e21 => ?_)⟩
      rw [pz_ov' (by simp [lowB_len])] at g20
      have G21 := (G18.pg a20 g20).bu (i := bc_ s18) (j := bs_ s18)
      rw [← e21] at G21
      have a18 : AF (x + 5) s13 s18 := by rw [e18]; exact a17.bu
      have a21 : AF (x + 5) s18 s21 := by rw [e21]; exact a20.bu
      exact fin s21 ((a13.trans a18).trans a21) G21
  -- the one above it
  have L53 : ∀ (s5 : Hp) (r : Nat) (l : List Nat), BG D σ0 s5 x n md od q t rf c ct (pz A) b Df Bo P base → Str D s5 r l → l = (if i = 0 then [0] else tM t d) → l.length ≤ 8 → wX3_paths_L53 post R (x + 2) (b2 lo) (x + 4) (nI A.length) (nI i) (rf d) r s5 := by
    intro s5 r l G5 hs5 hl hl8
    unfold wX3_paths_L53
    rw [li_0, nI_eq (by omega) (by decide)]
    refine ⟨fun v => ?_, fun v => L79 s5 r 1 l G5 hs5 hl hl8 (by rw [if_pos v]) (by decide)⟩
    have d0 : d ≠ 0 := fun e => by
      have h0 := (dirT_ok ok).2.1
      have h1' : 0 < (dirT t).length := by omega
      have e0 : (dirT t).getD 0 0 = 0 := by
        rw [List.getD_eq_getElem?_getD, List.getElem?_eq_getElem h1'] at h0 ⊢
        exact h0
      have := getD_inj (dirT_ok ok).1 (i := i) (j := 0) (by omega) h1' (by rw [← hd, e, e0])
      omega
    have hpd := dirT_par ok hdm d0
    have hpt := G.dt hpd
    have nd5 := G5.tr.2.2.2 d hdt
    have hpp : plc (dirT t) (tP t d) < (dirT t).length := List.idxOf_lt_length_of_mem hpd
    rw [G5.bur.2.2.2.2.1, nd5.2.2.2.1]
    refine ⟨G5.bur.1, nd5.1, G5.tr.1, c_findK G5.tr ok hpt (fun tg' => ⟨tg', ?_⟩)⟩
    rw [(G5.sc hpd).2.2]
    exact L79 s5 r _ l G5 hs5 hl hl8 (by rw [if_neg v]) (by omega)
  refine ⟨Or.inr tg, fun v => ⟨tg, ?_⟩, fun v => ?_⟩
  · have nd := w4.tr.2.2.2 d hdt
    exact L53 s _ (tM t d) w4 nd.2.2.2.2.2.2.2.2.1 (by rw [if_neg v]) l8
  · obtain ⟨u1, u2⟩ := w5 v
    refine ⟨4, 25, u1, u2, c_special (σ := bu_ s 4 25) (c := 0) w4.wf w4.dn (by decide) (Nat.le_refl _) (Nat.le_refl _) (fun r47 s48 N48 s49 e49 => ?_)⟩
    have N48' : NewS D s s48 r47 [0] := N48
    have G49 := (w4.made N48'.1 N48'.2.1).bu (i := bc_ s - 4) (j := bs_ s - 25)
    rw [← e49] at G49
    have hs49 : Str D s49 r47 [0] := by rw [e49]; exact N48'.2.2
    exact L53 s49 r47 [0] G49 hs49 (by rw [if_pos v]) (by decide)
end
