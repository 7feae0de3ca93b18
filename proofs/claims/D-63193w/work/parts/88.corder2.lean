/-! a list made since σ0; a directory's nodes in order -/
def spS (c : Nat) : Nat := if c = 0 then 0 else if c = 10 then 10 else if c = 15 then 25 else if c = 22 then 47 else 80
def spC (c : Nat) : Nat := if c = 0 then 0 else if c = 10 then 1 else if c = 15 then 2 else if c = 22 then 3 else 4
def NL (D : Nat) (σ0 σ : Hp) (tk r : Nat) (R : List Nat) (c : Nat) : Prop := WF D σ ∧ Kp False (fun _ => False) σ0 σ ∧ Lst σ tk r R c ∧ nx_ σ0 ≤ r ∧ (fR_ σ 10 1 r ≤ lo_ σ ∨ nx_ σ0 ≤ fR_ σ 10 1 r)
theorem set_mid (A B : List Nat) (g y : Nat) : (A ++ g :: B).set A.length y = A ++ y :: B := by
  rw [List.set_append_right _ _ (Nat.le_refl _)]; simp
theorem get_pre {A B : List Nat} {i : Nat} (h : i < A.length) : (A ++ B).getD i 0 = A.getD i 0 := gD_app h
theorem getD_take {l : List Nat} {i j : Nat} (h : i < j) : (l.take j).getD i 0 = l.getD i 0 := by
  rw [List.getD_eq_getElem?_getD, List.getElem?_take_of_lt h, ← List.getD_eq_getElem?_getD]
theorem take_snoc {l : List Nat} {i : Nat} (h : i < l.length) : l.take (i + 1) = l.take i ++ [l.getD i 0] := by
  rw [List.take_succ, List.getElem?_eq_getElem h, List.getD_eq_getElem?_getD, List.getElem?_eq_getElem h]; rfl
section
variable {S : Prop} {W : Nat → Prop} {D n : Nat} {σ0 σ σ' τ : Hp} {q c tk r : Nat} {t : TT} {rf : Nat → Nat} {R : List Nat}
theorem NL.step (h : NL D σ0 σ tk r R c) (k : Kp False (WL σ r) σ σ') : Kp False (fun _ => False) σ0 σ' := by
  refine h.2.1.trans k (fun q hq hw => ?_)
  have h4 := h.2.2.2.1
  have h5 := h.2.2.2.2
  rcases hw with e | ⟨e, e2⟩
  · omega
  · omega
theorem NL.add (h : NL D σ0 σ tk r R c) {x : Nat} (hA : Add D σ σ' tk r R c x) : NL D σ0 σ' tk r (R ++ [x]) (capA R c) := by
  obtain ⟨b1, b2, b3, b4, b5⟩ := hA
  refine ⟨b1, h.step b2, b3, h.2.2.2.1, ?_⟩
  rcases b4 with e | e
  · rw [e, b2.1]; exact h.2.2.2.2
  · right
    have := h.2.1.2.1; omega
/-- a list is made -/
theorem nl_new (hf : WF D σ) (tk : Nat) {P : Hp → Prop} (h1 : 1 ≤ bc_ σ) (h2 : 3 ≤ bs_ σ) (k : ∀ σ', NL D σ σ' tk (nx_ σ) [] 0 → nx_ σ' = nx_ σ + 1 → bc_ σ' = bc_ σ - 1 → bs_ σ' = bs_ σ - 3 → P σ') :
    1 ≤ bc_ σ ∧ (3 ≤ bs_ σ ∧ (∀ σ39, σ39 = mO_ σ 10 3 → (tg_ σ39 (nx_ σ) = 11 ∧ (wJ2_init (nx_ σ) σ39 (fun σ41 => (∀ σ42, σ42 = bu_ σ41 (bc_ σ39) (bs_ σ39) → P σ42)))))) := by
  refine ⟨h1, h2, fun s e => ⟨by rw [e, atg_mO, u1_e], ?_⟩⟩
  have hlo := hf.2.1
  have f3 : WF D s := by rw [e]; exact hf.mO
  have k3 : Kp False (fun _ => False) σ s := by rw [e]; exact Kp.mO' Kp.refl
  refine l_init f3 (by rw [e, atg_mO, u1_e]) (by rw [e]; exact hlo) (by rw [e, afI_mO, z3_e]) tk (fun s4 f4 k4 l4 n4 s5 e5 => k s5 ?_ (by rw [e5]; show nx_ s4 = _; rw [n4, e]; rfl) (by rw [e5, e]; rfl) (by rw [e5, e]; rfl))
  have kk : Kp False (fun _ => False) σ s4 := k3.trans k4 (fun q hq hw => by omega)
  rw [e5]
  refine ⟨f4, kk, l4, Nat.le_refl _, Or.inl ?_⟩
  have := l4.2.2.2.2.2.2.2.2.1
  rcases this with z | z
  · exact absurd rfl z.2
  · show fR_ s4 10 1 (nx_ σ) ≤ lo_ s4
    rw [z.2]; exact f4.2.2.2.2.2.1.2.2
theorem sp_grow (hc : capOK c) (h33 : c < 33) : spS (capN c) = spS c + capN c ∧ spC (capN c) = spC c + 1 ∧ spC c ≤ c ∧ spS c + capN c ≤ 10 * (c + 1) := by
  unfold capOK at hc
  rcases hc with e | e | e | e | e
  · subst e; decide
  · subst e; decide
  · subst e; decide
  · subst e; decide
  · omega
/-- the nodes of a directory among the first i -/
def preL (t : TT) (d i : Nat) : List Nat := (((tL t).take i).filter (fun k => decide (0 < k ∧ tP t k = d))).foldl (fun l x => insL t x l) []
theorem pre_ok (ok : TOK n t) (d i : Nat) : (preL t d i).Pairwise (RL t) ∧ (∀ k, k ∈ preL t d i → k ∈ tL t) ∧ (preL t d i).length = (((tL t).take i).filter (fun k => decide (0 < k ∧ tP t k = d))).length := by
  have hsub : (((tL t).take i).filter (fun k => decide (0 < k ∧ tP t k = d))).Sublist (chl t d) := (List.take_sublist _ _).filter _
  have hc : (chl t d).Nodup := (tL_nodup t).sublist (List.filter_sublist ..)
  obtain ⟨a, b, c⟩ := srt_aux (t := t) (((tL t).take i).filter (fun k => decide (0 < k ∧ tP t k = d))) [] (by simp) (hc.sublist hsub) (fun x _ h => by cases h) (fun x y hx hy hne => by
    have hx' := mem_chl.mp (hsub.subset (hx.resolve_right (by simp)))
    have hy' := mem_chl.mp (hsub.subset (hy.resolve_right (by simp)))
    exact ok.2.2.2.2 x y hx'.2.1 hx'.1.1 hx'.1.2 hy'.2.1 hy'.1.1 hy'.1.2 hne (by rw [hx'.2.2, hy'.2.2]))
  refine ⟨a, fun k hk => ?_, by unfold preL; rw [c]; simp⟩
  have := (b k).mp hk
  exact mem_tL.mpr (mem_chl.mp (hsub.subset (this.resolve_right (by simp)))).1
theorem c_order (hf : WF D σ) (h : TrA D σ q t rf c) (ok : TOK n t) {d : Nat} (hd : d < 2 ^ 31) (h1 : 1 + (chl t d).length ≤ bc_ σ) (h2 : 3 + 10 * (chl t d).length ≤ bs_ σ) {post : Nat → Hp → Prop}
    (k : ∀ r σ' c', NL D σ σ' 6 r ((srt t d).map rf) c' → post r σ') : wX5_order q (nI d) σ post := by
  have hlen := h.len
  have h30 := ok.1.2.2
  unfold wX5_order
  refine nl_new hf 6 (by omega) (by omega) (fun s0 g0 _ v1 v2 y hy => ?_)
  subst hy
  unfold wX5_order_L10
  refine lpG2 (B := fun R x s => wX5_order_B10 post R q (nI d) (nx_ σ) x s) (fun j x s => j ≤ (tL t).length ∧ x = nI ((tL t).length - j) ∧ ∃ c', NL D σ s 6 (nx_ σ) ((preL t d ((tL t).length - j)).map rf) c' ∧ bc_ s + spC c' = bc_ σ - 1 ∧ bs_ s + spS c' = bs_ σ - 3) (tL t).length ⟨Nat.le_refl _, by simp [nI_0], 0, ?_, ?_, ?_⟩ ?_
  · have : preL t d ((tL t).length - (tL t).length) = [] := by unfold preL; simp
    rw [this]; exact g0
  · show bc_ s0 + 0 = _; omega
  · show bs_ s0 + 0 = _; omega
  rintro j x s R ⟨w1, rfl, c', w2, w3, w4⟩ hR
  have hs : TrA D s q t rf c := h.kp hf w2.2.1 WS0 (fun z => z) (fun z => z) (fun z => z) (fun _ _ z => z)
  obtain ⟨a1, a2, a3, a4⟩ := id hs
  obtain ⟨p1, p2, p3⟩ := pre_ok ok d ((tL t).length - j)
  have e : ∀ y : Int32, y = nI ((tL t).length - j) + 1 → 1 ≤ j → y = nI ((tL t).length - (j - 1)) := fun y hy hj => by rw [hy, li_1, nI_add]; congr 1; omega
  unfold wX5_order_B10 wX5_order_L122
  refine ⟨a1, a3.1, l_size a3 ?_⟩
  rw [List.length_map, nI_leI (by omega) (by omega)]
  refine ⟨fun z => ?_, fun z => l_get a3 (by rw [List.length_map]; omega) (fun tg => ?_)⟩
  · have : preL t d ((tL t).length - j) = srt t d := by
      unfold preL srt chl
      rw [List.take_of_length_le (by omega)]
    rw [this] at w2
    exact k _ s c' w2
  rw [gD_map (by omega)] at tg ⊢
  have hm := hs.mem (show (tL t).length - j < (tL t).length by omega)
  have hpre : ((tL t).take ((tL t).length - (j - 1))).filter (fun k => decide (0 < k ∧ tP t k = d)) = ((tL t).take ((tL t).length - j)).filter (fun k => decide (0 < k ∧ tP t k = d)) ++ [(tL t).getD ((tL t).length - j) 0].filter (fun k => decide (0 < k ∧ tP t k = d)) := by
    rw [show (tL t).length - (j - 1) = (tL t).length - j + 1 by omega, take_snoc (by omega), List.filter_append]
  obtain ⟨b1, b2, b3, b4, b5, b6, b7, b8, b9, b10⟩ := a4 _ hm
  rw [b4, nI_eq32 (tP_lt ok hm) (by omega)]
  refine ⟨Or.inr tg, tg, fun z => ⟨w2.2.2.1.1, l_size w2.2.2.1 ?_⟩, fun z y hy => hR (j - 1) y s (by omega) ⟨by omega, e y hy (by omega), c', ?_, w3, w4⟩⟩
  · have k0 : 0 < (tL t).getD ((tL t).length - j) 0 := by
      rcases Nat.eq_zero_or_pos ((tL t).getD ((tL t).length - j) 0) with y | y
      · rw [y, ok.2.1.2.2.1] at z; omega
      · exact y
    have hpre2 : preL t d ((tL t).length - (j - 1)) = insL t ((tL t).getD ((tL t).length - j) 0) (preL t d ((tL t).length - j)) := by
      unfold preL
      rw [hpre, List.foldl_append]
      simp only [List.filter_cons, List.filter_nil, k0, z, and_self, decide_true, if_true, List.foldl_cons, List.foldl_nil]
    have hcnt : (preL t d ((tL t).length - j)).length + 1 ≤ (chl t d).length := by
      have hsub : (((tL t).take ((tL t).length - (j - 1))).filter (fun k => decide (0 < k ∧ tP t k = d))).Sublist (chl t d) := (List.take_sublist _ _).filter _
      have h3 := hsub.length_le
      rw [← (pre_ok ok d ((tL t).length - (j - 1))).2.2, hpre2, len_insL] at h3
      exact h3
    have hchl : (chl t d).length ≤ 30 := by
      have : (chl t d).length ≤ (tL t).length := List.length_filter_le ..
      omega
    rw [List.length_map]
    generalize hl : preL t d ((tL t).length - j) = l at *
    generalize hx : (tL t).getD ((tL t).length - j) 0 = x at *
    have lR : (l.map rf).length = l.length := List.length_map ..
    have cok := w2.2.2.1.2.2.2.2.1
    have hcl : (l.map rf).length ≤ c' := w2.2.2.1.2.2.2.2.2.2.1
    have gg : g1A (l.map rf) c' ≤ bc_ s ∧ g2A (l.map rf) c' ≤ bs_ s ∧ bc_ s - g1A (l.map rf) c' + spC (capA (l.map rf) c') = bc_ σ - 1 ∧ bs_ s - g2A (l.map rf) c' + spS (capA (l.map rf) c') = bs_ σ - 3 := by
      unfold g1A g2A capA
      by_cases ec : (l.map rf).length = c'
      · rw [if_pos ec, if_pos ec, if_pos ec]
        obtain ⟨u1, u2, u3, u4⟩ := sp_grow cok (by omega)
        omega
      · rw [if_neg ec, if_neg ec, if_neg ec]
        omega
    refine l_addC w2.2.2.1 w2.1 tg (Or.inl rfl) (by omega) gg.1 gg.2.1 (fun s1 hA v3 v4 => ?_)
    have n1 := w2.add hA
    unfold wX5_order_L59
    refine lpG2 (B := fun R' y s' => wX5_order_B59 post R R' q (nI d) (nx_ σ) (nI ((tL t).length - j)) (rf x) y s') (fun i y s' => i ≤ l.length ∧ y = nI i ∧ (∀ z ∈ l.drop i, lx (tI t x) (tI t z) = true) ∧ ∃ g, NL D σ s' 6 (nx_ σ) ((l.take i).map rf ++ g :: (l.drop i).map rf) (capA (l.map rf) c') ∧ bc_ s' = bc_ s1 ∧ bs_ s' = bs_ s1) l.length ⟨Nat.le_refl _, rfl, fun z hz => by simp at hz, rf x, ?_, rfl, rfl⟩ ?_
    · simpa using n1
    rintro i y s2 R2 ⟨i1, rfl, i3, g, i4, i5, i6⟩ hR2
    have hs2 : TrA D s2 q t rf c := h.kp hf i4.2.1 WS0 (fun z => z) (fun z => z) (fun z => z) (fun _ _ z => z)
    have ndx := hs2.2.2.2 x hm
    have lt : ((l.take i).map rf).length = i := by simp; omega
    have lall : ((l.take i).map rf ++ g :: (l.drop i).map rf).length = l.length + 1 := by simp; omega
    have L113 : (0 < i → lx (tI t x) (tI t (l.getD (i - 1) 0)) = false) → wX5_order_L113 post R q (nI d) (nx_ σ) (nI ((tL t).length - j)) (rf x) (nI i) s2 := by
      intro hb
      unfold wX5_order_L113 wX5_order_L122
      refine ⟨i4.2.2.1.1, l_set i4.2.2.1 i4.1 (by omega) ndx.1 (Or.inl rfl) (fun y3 s3 f3 k3 l3 u1 u2 u3 u4 s4 e4 y hy => ?_)⟩
      refine hR (j - 1) y s4 (by omega) ⟨by omega, e y hy (by omega), capA (l.map rf) c', ?_, ?_, ?_⟩
      · have hset : ((l.take i).map rf ++ g :: (l.drop i).map rf).set i (rf x) = (insL t x l).map rf := by
          have := set_mid ((l.take i).map rf) ((l.drop i).map rf) g (rf x)
          rw [lt] at this
          rw [this, insL_at l i p1 i1 i3 hb]
          simp
        rw [hset] at l3
        rw [hpre2, e4]
        refine ⟨f3, i4.step k3, l3, Nat.le_refl _, ?_⟩
        show fR_ s3 10 1 (nx_ σ) ≤ lo_ s3 ∨ nx_ σ ≤ fR_ s3 10 1 (nx_ σ)
        rw [u1, k3.1]; exact i4.2.2.2.2
      · rw [e4]; show bc_ s2 + _ = _; omega
      · rw [e4]; show bs_ s2 + _ = _; omega
    unfold wX5_order_B59
    rw [li_0, nI_leI (by omega) (by decide)]
    refine ⟨fun z => L113 (fun z' => by omega), fun z => ⟨ndx.1, i4.2.2.1.1, ?_⟩⟩
    rw [li_1, pk_sub (by omega)]
    have hmi : l.getD (i - 1) 0 ∈ l := getD_mem (by omega)
    have ndi := hs2.2.2.2 _ (p2 _ hmi)
    have hget : ((l.take i).map rf ++ g :: (l.drop i).map rf).getD (i - 1) 0 = rf (l.getD (i - 1) 0) := by
      rw [get_pre (by omega), gD_map (by simp; omega), getD_take (by omega)]
    refine l_get i4.2.2.1 (by omega) (fun tg2 => ?_)
    rw [hget] at tg2 ⊢
    refine ⟨Or.inr tg2, tg2, s_before ndx.2.2.2.2.2.2.2.2.2 ndi.2.2.2.2.2.2.2.2.2 (fun hb => ⟨fun z => absurd z (by decide), fun _ => l_get i4.2.2.1 (by omega) (fun tg3 => ?_)⟩) (fun hb => ⟨fun _ => L113 (fun _ => hb), fun z => absurd rfl z⟩)⟩
    rw [hget] at tg3 ⊢
    refine ⟨Or.inr tg3, l_set i4.2.2.1 i4.1 (by omega) tg3 (Or.inl rfl) (fun y3 s3 f3 k3 l3 u1 u2 u3 u4 s4 e4 y hy => ?_)⟩
    refine hR2 (i - 1) y s4 (by omega) ⟨by omega, ?_, fun z' hz => ?_, rf (l.getD (i - 1) 0), ?_, ?_, ?_⟩
    · rw [hy, ← li_1, nI_dec (by omega)]
    · rw [drop_cons (show i - 1 < l.length by omega), show i - 1 + 1 = i by omega] at hz
      rcases List.mem_cons.mp hz with y' | y'
      · rw [y']; exact hb
      · exact i3 z' y'
    · have hset : ((l.take i).map rf ++ g :: (l.drop i).map rf).set i (rf (l.getD (i - 1) 0)) = (l.take (i - 1)).map rf ++ rf (l.getD (i - 1) 0) :: (l.drop (i - 1)).map rf := by
        have := set_mid ((l.take i).map rf) ((l.drop i).map rf) g (rf (l.getD (i - 1) 0))
        rw [lt] at this
        rw [this, drop_cons (show i - 1 < l.length by omega), show i - 1 + 1 = i by omega]
        have e2 : l.take i = l.take (i - 1) ++ [l.getD (i - 1) 0] := by
          have := take_snoc (show i - 1 < l.length by omega)
          rw [show i - 1 + 1 = i by omega] at this
          exact this
        rw [e2]
        simp
      rw [hset] at l3
      rw [e4]
      refine ⟨f3, i4.step k3, l3, Nat.le_refl _, ?_⟩
      show fR_ s3 10 1 (nx_ σ) ≤ lo_ s3 ∨ nx_ σ ≤ fR_ s3 10 1 (nx_ σ)
      rw [u1, k3.1]; exact i4.2.2.2.2
    · rw [e4]; show bc_ s2 = _; omega
    · rw [e4]; show bs_ s2 = _; omega
  · have : preL t d ((tL t).length - (j - 1)) = preL t d ((tL t).length - j) := by
      unfold preL
      rw [hpre, List.foldl_append, List.filter_cons, if_neg (by rw [decide_eq_true_iff]; exact fun y => z y.2)]
      rfl
    rw [this]; exact w2
end
