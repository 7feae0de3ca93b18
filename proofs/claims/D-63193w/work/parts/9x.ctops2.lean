/-! the class: nodes are made, replaced, removed, renamed -/
theorem g1A_le {R : List Nat} {c : Nat} : g1A R c ≤ 1 := by unfold g1A; split <;> omega
theorem g2A_le {R : List Nat} {c : Nat} : g2A R c ≤ 33 := by
  unfold g2A capN
  split
  · split
    · omega
    · split
      · omega
      · split <;> omega
  · omega
section
variable {S' : Prop} {W : Nat → Prop} {D n : Nat} {σ σ' τ υ : Hp} {x md od q la r r' m c c' : Nat} {t t' : TT} {rf : Nat → Nat} {O F F' : List FT} {S S2 : AS}
theorem sameN_add {d : Nat} {l : List Nat} {dir size seed k : Nat} (hk : k ∈ tL t) : sameN t (tAdd t d l dir size seed) k := by
  have hne : k ≠ tN t := by have := (mem_tL.mp hk).1; omega
  exact ⟨upA_n hne, upA_n hne, upA_n hne, upA_n hne, upA_n hne, upA_n hne, upA_n hne⟩
theorem nd_add {d : Nat} {l : List Nat} {dir size seed : Nat} : tD (tAdd t d l dir size seed) (tN t) = dir ∧ tP (tAdd t d l dir size seed) (tN t) = d ∧ tM (tAdd t d l dir size seed) (tN t) = l ∧ tS (tAdd t d l dir size seed) (tN t) = size ∧ tE (tAdd t d l dir size seed) (tN t) = seed ∧ tW (tAdd t d l dir size seed) (tN t) = false ∧ tX (tAdd t d l dir size seed) (tN t) = 0 := ⟨upA_e, upA_e, upA_e, upA_e, upA_e, upA_e, upA_e⟩
/-- a new node joins the tree -/
theorem c_joinG (h : CJ D σ x md od q S) {y k' : Nat} (hy : D < y) (hnd : NdA D σ y t' k') (hL : tL t' = tL (sT S) ++ [k']) (hN : tN t' = k' + 1) (hs : ∀ k ∈ tL (sT S), sameN (sT S) t' k) (hlen : (tL (sT S)).length < 33) {post : Hp → Prop}
    (k : ∀ σ', CJ D σ' x md od q (wT S t') → Cf D x σ σ' → (∀ r m F c, x + 18 ≤ r → r ≤ x + 26 → RdS D σ r m F c → RdS D σ' r m F c) → fI_ σ' 4 1 q = nI (tN t') → tg_ σ' y = 6 → fI_ σ' 5 0 y = nI k' → post σ') : wX5_add q y (bu_ σ 1 33) post := by
  obtain ⟨hf, hz, hx, hb, hp, hmd, hod, ⟨rf, c, ht, htz⟩, hr⟩ := id h
  have hnt : k' ∉ tL (sT S) := by
    have := tL_nodup t'
    rw [hL, List.nodup_append] at this
    intro z
    exact this.2.2 k' z k' (by simp) rfl
  refine c_tadd (σ := bu_ σ 1 33) hf ht (t' := t') (k' := k') hnd hL hN hs hlen g1A_le g2A_le (fun s' f' k' tr' u1 u2 => ?_)
  have kk : Kp False (WTn σ q (sT S) rf) σ s' := by
    have k2 : Kp False (WT σ q) σ s' := k'
    refine k2.mono (fun z => z) (fun z _ hz => ?_)
    rcases hz with e | e
    · exact Or.inl e
    · exact Or.inr (Or.inl e)
  have hD : D < nx_ σ := hz.1.2.2
  rename_i k0
  have tz' : TZ D x s' q t' (upA rf k0 y) := by
    refine htz.add hL hnt u1 ?_ hy
    have u2' : fR_ s' 10 1 (fR_ σ 4 0 q) = fR_ σ 10 1 (fR_ σ 4 0 q) ∨ nx_ σ ≤ fR_ s' 10 1 (fR_ σ 4 0 q) := u2
    rcases u2' with e | e
    · exact Or.inl e
    · right; omega
  obtain ⟨g1, g2⟩ := h.tree ht htz kk f' ⟨_, _, tr', tz'⟩
  have nd' := tr'.2.2.2 k0 (by rw [hL]; simp)
  rw [upA_e] at nd'
  exact k s' g1 g2 (fun r m F c a b hS => h.treeR ht htz kk a b hS) tr'.2.1 nd'.1 nd'.2.1
theorem c_join (h : CJ D σ x md od q S) (ok : AOK S) {y d dir size seed : Nat} {l : List Nat} (hy : D < y) (hnd : NdA D σ y (tAdd (sT S) d l dir size seed) (tN (sT S))) (hlen : (tL (sT S)).length ≠ 30) {post : Hp → Prop}
    (k : ∀ σ', CJ D σ' x md od q (wT S (tAdd (sT S) d l dir size seed)) → Cf D x σ σ' → fI_ σ' 4 1 q = nI (tN (sT S) + 1) → tg_ σ' y = 6 → fI_ σ' 5 0 y = nI (tN (sT S)) → post σ') : wX5_add q y (bu_ σ 1 33) post :=
  c_joinG h hy hnd tL_add rfl (fun k hk => sameN_add hk) (by have := ok.2.1.1.2.2; omega) (fun s' g1 g2 _ g3 g4 g5 => k s' g1 g2 g3 g4 g5)
theorem opAdd_L {v : Int32} {a dir size seed : Nat} {right : Prop} (lo : sLo S = true) : opAdd S v a dir size seed right = (-4, S) := by unfold opAdd; rw [if_pos lo]
theorem opAdd_n {v : Int32} {a dir size seed : Nat} {right : Prop} (lo : sLo S = false) (en : nodeOf (sT S) v = none) : opAdd S v a dir size seed right = (-2, S) := by unfold opAdd; rw [if_neg (by rw [lo]; decide), en]
theorem opAdd_2 {v : Int32} {a dir size seed d : Nat} {right : Prop} (lo : sLo S = false) (en : nodeOf (sT S) v = some d) (hc : hinC S d dir (told a) right) : opAdd S v a dir size seed right = (-2, S) := by
  unfold opAdd; rw [if_neg (by rw [lo]; decide), en]
  exact ic_t hc
theorem opAdd_5 {v : Int32} {a dir size seed d : Nat} {right : Prop} (lo : sLo S = false) (en : nodeOf (sT S) v = some d) (hc : ¬ hinC S d dir (told a) right) (hn : nmd (sT S) d (told a) 0) : opAdd S v a dir size seed right = (-5, S) := by
  unfold opAdd; rw [if_neg (by rw [lo]; decide), en]
  exact (ic_f hc).trans (ic_t hn)
theorem opAdd_3 {v : Int32} {a dir size seed d : Nat} {right : Prop} (lo : sLo S = false) (en : nodeOf (sT S) v = some d) (hc : ¬ hinC S d dir (told a) right) (hn : ¬ nmd (sT S) d (told a) 0) (hl : (tL (sT S)).length = 30) : opAdd S v a dir size seed right = (-3, S) := by
  unfold opAdd; rw [if_neg (by rw [lo]; decide), en]
  exact (ic_f hc).trans ((ic_f hn).trans (if_pos hl))
theorem opAdd_0 {v : Int32} {a dir size seed d : Nat} {right : Prop} (lo : sLo S = false) (en : nodeOf (sT S) v = some d) (hc : ¬ hinC S d dir (told a) right) (hn : ¬ nmd (sT S) d (told a) 0) (hl : (tL (sT S)).length ≠ 30) : opAdd S v a dir size seed right = (nI (tN (sT S)), wT S (tAdd (sT S) d (told a) dir size seed)) := by
  unfold opAdd; rw [if_neg (by rw [lo]; decide), en]
  exact (ic_f hc).trans ((ic_f hn).trans (if_neg hl))
theorem C_directory (h : CI D σ x S) (ok : AOK S) {v : Int32} {a : Nat} (h1 : 10 ≤ bc_ σ) (h2 : 112 ≤ bs_ σ) {post : Int32 → Hp → Prop} (k : ∀ σ', CI D σ' x (opDir S v a).2 → Cf D x σ σ' → post (opDir S v a).1 σ') : wX1_directory x v (lN a) σ post := by
  obtain ⟨md, od, q, hj⟩ := id h
  have hf := hj.1
  have hD : D < nx_ σ := hj.2.1.1.2.2
  have hT := ok.2.1
  unfold opDir at k
  unfold wX1_directory
  refine ⟨4, 32, by omega, by omega, c_nameOf (σ := bu_ σ 4 32) hf hD (a := a) (Nat.le_refl _) (Nat.le_refl _) (fun s s6 hN s7 e7 => ?_)⟩
  have k7 : Kp False (fun _ => False) σ s7 := by rw [e7]; exact hN.2.1
  have f7 : WF D s7 := by rw [e7]; exact hN.1
  have st7 : Str D s7 s (told a) := by rw [e7]; exact hN.2.2
  obtain ⟨j7, c7⟩ := hj.made k7 f7
  have bc7 : bc_ s7 = bc_ σ - 4 := by rw [e7]; rfl
  have bs7 : bs_ s7 = bs_ σ - 32 := by rw [e7]; rfl
  have D7 : D < nx_ s7 := j7.2.1.1.2.2
  refine ⟨j7.2.2.1.1, c_hind j7 ok st7 (dir := 1) (by decide) (right := True) ⟨fun z => absurd z (by decide), fun z => absurd trivial z⟩ (fun lo => ⟨fun w => absurd w (by decide), fun _ => ?_⟩) (fun lo en => ⟨fun w => absurd w (by decide), fun _ => ?_⟩) (fun d lo en hc => ⟨fun w => absurd w (by decide), fun _ => ?_⟩) (fun d lo en hc hn => ⟨fun w => absurd w (by decide), fun _ => ?_⟩) (fun d lo en hc hn hl => ⟨fun w => absurd w (by decide), fun _ => ?_⟩) (fun d hd ev lo en hc hn hl => ⟨fun _ => ?_, fun w => absurd rfl w⟩)⟩
  · rw [opAdd_L lo] at k; exact k s7 ⟨md, od, q, j7⟩ c7
  · rw [opAdd_n lo en] at k; exact k s7 ⟨md, od, q, j7⟩ c7
  · rw [opAdd_2 lo en hc] at k
    exact k s7 ⟨md, od, q, j7⟩ c7
  · rw [opAdd_5 lo en hc hn] at k
    exact k s7 ⟨md, od, q, j7⟩ c7
  · rw [opAdd_3 lo en hc hn hl] at k
    exact k s7 ⟨md, od, q, j7⟩ c7
  · rw [opAdd_0 lo en hc hn hl] at k
    refine ⟨by omega, by omega, fun s13 e13 => ?_⟩
    have k13 : Kp False (fun _ => False) s7 s13 := by rw [e13]; exact Kp.mO' Kp.refl
    obtain ⟨j13, _⟩ := j7.made k13 (by rw [e13]; exact f7.mO)
    rw [j13.2.2.1.2.2.2.2.2.1, j7.2.2.1.2.2.2.2.2.1]
    obtain ⟨rf, c, ht, htz⟩ := j13.2.2.2.2.2.2.2.1
    rw [ht.2.1]
    refine ⟨j13.2.2.1.1, ht.1, by rw [e13, atg_mO, u1_e], c_nnew f7 (d := 1) (l := told a) (by decide) (Or.inl rfl) st7 (told_len a) (nI (tN (sT S))) v e13 (by omega) (by omega) (fun s22 hN22 w1 w2 => ?_)⟩
    obtain ⟨j22, c22⟩ := j7.made hN22.2.1 hN22.1
    obtain ⟨n1, n2, n3, n4, n5, n6, n7⟩ := nd_add (t := sT S) (d := d) (l := told a) (dir := 1) (size := 0) (seed := 0)
    have nd := hN22.nd (t := tAdd (sT S) d (told a) 1 0 0) (k := tN (sT S)) rfl n1 (by rw [n2]; exact ev) n3 n4 n5 n7 n6
    obtain ⟨rf', c', ht', _⟩ := j22.2.2.2.2.2.2.2.1
    refine ⟨ht'.1, 1, 33, by omega, by omega, c_join j22 ok (y := nx_ s7) (by omega) nd hl (fun s28 g1 g2 g3 g4 g5 s29 e29 => ?_)⟩
    have g1' : CJ D s29 x md od q (wT S (tAdd (sT S) d (told a) 1 0 0)) := by rw [e29]; exact g1.bu
    have x29 := g1'.2.2.1
    rw [x29.2.2.2.2.2.1]
    obtain ⟨rf2, c2, ht2, _⟩ := g1'.2.2.2.2.2.2.2.1
    have i29 : fI_ s29 4 1 q = nI (tN (sT S) + 1) := by rw [e29]; exact g3
    rw [i29, li_1, pk_sub (by omega), Nat.add_sub_cancel]
    exact ⟨x29.1, ht2.1, k s29 ⟨md, od, q, g1'⟩ ((c7.trans c22).trans (by rw [e29]; exact g2.bu))⟩
theorem C_file (h : CI D σ x S) (ok : AOK S) {v y z : Int32} {a : Nat} (h1 : 10 ≤ bc_ σ) (h2 : 112 ≤ bs_ σ) {post : Int32 → Hp → Prop} (k : ∀ σ', CI D σ' x (opFile S v a y z).2 → Cf D x σ σ' → post (opFile S v a y z).1 σ') : wX1_file x v (lN a) y z σ post := by
  obtain ⟨md, od, q, hj⟩ := id h
  have hf := hj.1
  have hD : D < nx_ σ := hj.2.1.1.2.2
  have hT := ok.2.1
  unfold opFile at k
  unfold wX1_file
  refine ⟨4, 32, by omega, by omega, c_nameOf (σ := bu_ σ 4 32) hf hD (a := a) (Nat.le_refl _) (Nat.le_refl _) (fun s s6 hN s7 e7 => ?_)⟩
  have k7 : Kp False (fun _ => False) σ s7 := by rw [e7]; exact hN.2.1
  have f7 : WF D s7 := by rw [e7]; exact hN.1
  have st7 : Str D s7 s (told a) := by rw [e7]; exact hN.2.2
  obtain ⟨j7, c7⟩ := hj.made k7 f7
  have bc7 : bc_ s7 = bc_ σ - 4 := by rw [e7]; rfl
  have bs7 : bs_ s7 = bs_ σ - 32 := by rw [e7]; rfl
  have D7 : D < nx_ s7 := j7.2.1.1.2.2
  have go : ∀ (r8 : Int32) (i j : Nat) (right : Prop), (r8 = 0 ↔ ¬ right) → (right → y = nI i ∧ z = nI j) → (∀ σ', CI D σ' x (opAdd S v a 0 i j right).2 → Cf D x σ σ' → post (opAdd S v a 0 i j right).1 σ') → (tg_ s7 x = 1 ∧ (wX1_hindrance x v s (0 : Int32) r8 s7 (fun r10 => ((r10 = 0 → (1 ≤ bc_ s7 ∧ (12 ≤ bs_ s7 ∧ (∀ σ14, σ14 = mO_ s7 5 12 → (tg_ σ14 x = 1 ∧ (tg_ σ14 (fR_ σ14 0 4 x) = 5 ∧ (tg_ σ14 (nx_ s7) = 6 ∧ (∃ mc18 ms19 : Nat, (mc18 ≤ bc_ σ14 ∧ (ms19 ≤ bs_ σ14 ∧ (wX6_init (nx_ s7) (fI_ σ14 4 1 (fR_ σ14 0 4 x)) v (0 : Int32) s (bu_ σ14 mc18 ms19) (fun σ22 => (∀ σ23, σ23 = bu_ σ22 (bc_ σ14 - mc18) (bs_ σ14 - ms19) → (∀ y24 : Nat, y24 = (nx_ s7) → (tg_ σ23 y24 = 6 ∧ (∀ σ26, σ26 = sI_ σ23 5 3 y24 y → (∀ σ27, σ27 = sI_ σ26 5 4 y24 z → (tg_ σ27 x = 1 ∧ (tg_ σ27 (fR_ σ27 0 4 x) = 5 ∧ (∃ mc30 ms31 : Nat, (mc30 ≤ bc_ σ27 ∧ (ms31 ≤ bs_ σ27 ∧ (wX5_add (fR_ σ27 0 4 x) y24 (bu_ σ27 mc30 ms31) (fun σ34 => (∀ σ35, σ35 = bu_ σ34 (bc_ σ27 - mc30) (bs_ σ27 - ms31) → (tg_ σ35 y24 = 6 ∧ post (fI_ σ35 5 0 y24) σ35)))))))))))))))))))))))))) ∧ (¬ r10 = 0 → post r10 s7))))) := by
    intro r8 i j right hr8 hyz k
    refine ⟨j7.2.2.1.1, c_hind j7 ok st7 (dir := 0) (by decide) (right := right) hr8 (fun lo => ⟨fun w => absurd w (by decide), fun _ => ?_⟩) (fun lo en => ⟨fun w => absurd w (by decide), fun _ => ?_⟩) (fun d lo en hc => ⟨fun w => absurd w (by decide), fun _ => ?_⟩) (fun d lo en hc hn => ⟨fun w => absurd w (by decide), fun _ => ?_⟩) (fun d lo en hc hn hl => ⟨fun w => absurd w (by decide), fun _ => ?_⟩) (fun d hd ev lo en hc hn hl => ⟨fun _ => ?_, fun w => absurd rfl w⟩)⟩
    · rw [opAdd_L lo] at k; exact k s7 ⟨md, od, q, j7⟩ c7
    · rw [opAdd_n lo en] at k; exact k s7 ⟨md, od, q, j7⟩ c7
    · rw [opAdd_2 lo en hc] at k
      exact k s7 ⟨md, od, q, j7⟩ c7
    · rw [opAdd_5 lo en hc hn] at k
      exact k s7 ⟨md, od, q, j7⟩ c7
    · rw [opAdd_3 lo en hc hn hl] at k
      exact k s7 ⟨md, od, q, j7⟩ c7
    · rw [opAdd_0 lo en hc hn hl] at k
      have hright : right := Classical.not_not.mp (fun u => hc (Or.inl u))
      obtain ⟨ey, ez⟩ := hyz hright
      refine ⟨by omega, by omega, fun s14 e14 => ?_⟩
      have k14 : Kp False (fun _ => False) s7 s14 := by rw [e14]; exact Kp.mO' Kp.refl
      obtain ⟨j14, _⟩ := j7.made k14 (by rw [e14]; exact f7.mO)
      rw [j14.2.2.1.2.2.2.2.2.1]
      obtain ⟨rf, c, ht, htz⟩ := j14.2.2.2.2.2.2.2.1
      rw [ht.2.1]
      refine ⟨j14.2.2.1.1, ht.1, by rw [e14, atg_mO, u1_e], c_nnew f7 (d := 0) (l := told a) (by decide) (Or.inr D7) st7 (told_len a) (nI (tN (sT S))) v e14 (by omega) (by omega) (fun s23 hN23 w1 w2 y24 h24 => ?_)⟩
      subst h24
      refine ⟨hN23.2.2.1, fun s26 e26 s27 e27 => ?_⟩
      have k27 : Kp False (fun _ => False) s7 s27 := by
        rw [e27, e26]
        exact Kp.sI' (Kp.sI' hN23.2.1 (Or.inr (Or.inl (Nat.le_refl _)))) (Or.inr (Or.inl (Nat.le_refl _)))
      have f27 : WF D s27 := by rw [e27, e26]; exact (hN23.1.sI (by decide)).sI (by decide)
      obtain ⟨j27, c27⟩ := j7.made k27 f27
      obtain ⟨n1, n2, n3, n4, n5, n6, n7⟩ := nd_add (t := sT S) (d := d) (l := told a) (dir := 0) (size := i) (seed := j)
      obtain ⟨rf', c', ht', _⟩ := j27.2.2.2.2.2.2.2.1
      have bc27 : bc_ s27 = bc_ σ - 9 := by rw [e27, e26]; show bc_ s23 = _; omega
      have bs27 : bs_ s27 = bs_ σ - 79 := by rw [e27, e26]; show bs_ s23 = _; omega
      have nd : NdA D s27 (nx_ s7) (tAdd (sT S) d (told a) 0 i j) (tN (sT S)) := by
        obtain ⟨o1, o2, o3, o4, o5, o6, o7, o8, o9, o10⟩ := hN23
        unfold NdA tI
        rw [n1, n2, n3, n4, n5, n6, n7]
        refine ⟨by rw [e27, e26]; exact o3, ?_, ?_, ?_, ?_, ?_, ?_, ?_, ?_, ?_⟩
        · rw [e27, afI_sI, u3_k (by decide), e26, afI_sI, u3_k (by decide)]; exact o5
        · rw [e27, afI_sI, u3_k (by decide), e26, afI_sI, u3_k (by decide)]; exact o6
        · rw [e27, afI_sI, u3_k (by decide), e26, afI_sI, u3_k (by decide), o7]; exact ev
        · rw [e27, afI_sI, u3_k (by decide), e26, afI_sI, u3_e]; exact ey
        · rw [e27, afI_sI, u3_e]; exact ez
        · rw [e27, afI_sI, u3_k (by decide), e26, afI_sI, u3_k (by decide)]; exact o8 5 (by decide)
        · rw [e27, afI_sI, u3_k (by decide), e26, afI_sI, u3_k (by decide)]; exact o8 8 (by decide)
        · rw [e27, e26]; exact (o9.sI (by decide)).sI (by decide)
        · rw [e27, e26]; exact (o10.sI (by decide)).sI (by decide)
      rw [j27.2.2.1.2.2.2.2.2.1]
      refine ⟨j27.2.2.1.1, ht'.1, 1, 33, by omega, by omega, c_join j27 ok (y := nx_ s7) (by omega) nd hl (fun s28 g1 g2 g3 g4 g5 s29 e29 => ?_)⟩
      have g1' : CJ D s29 x md od q (wT S (tAdd (sT S) d (told a) 0 i j)) := by rw [e29]; exact g1.bu
      have i29 : fI_ s29 5 0 (nx_ s7) = nI (tN (sT S)) := by rw [e29]; exact g5
      rw [i29]
      exact ⟨by rw [e29]; exact g4, k s29 ⟨md, od, q, g1'⟩ ((c7.trans c27).trans (by rw [e29]; exact g2.bu))⟩
  refine c_isContent (fun i j e ey ez _ _ => ?_) (fun e => ?_)
  · rw [e] at k
    exact go 1 i j True ⟨fun w => absurd w (by decide), fun w => absurd trivial w⟩ (fun _ => ⟨ey, ez⟩) k
  · rw [e] at k
    exact go 0 0 0 False ⟨fun _ w => w, fun _ => rfl⟩ (fun w => w.elim) k
end
