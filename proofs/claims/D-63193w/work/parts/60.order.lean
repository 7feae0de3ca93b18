/-! directories in order: pure laws -/
theorem len_sub : ∀ (l r : List Nat), l.Nodup → (∀ x ∈ l, x ∈ r) → l.length ≤ r.length
  | [], r, _, _ => by simp
  | a :: l, r, h, hs => by
    rw [List.nodup_cons] at h
    have ha : a ∈ r := hs a (List.mem_cons_self ..)
    have := len_sub l (r.erase a) h.2 (fun x hx => (List.mem_erase_of_ne (fun e => h.1 (by rw [← e]; exact hx))).mpr (hs x (List.mem_cons_of_mem _ hx)))
    rw [List.length_erase_of_mem ha] at this
    have h0 : 0 < r.length := List.length_pos_of_mem ha
    simp only [List.length_cons]
    omega
theorem tL_nodup (t : TT) : (tL t).Nodup := by
  unfold tL
  exact (List.nodup_range).sublist (List.filter_sublist ..)
section
variable {n : Nat} {t : TT}
def RL (t : TT) (a b : Nat) : Prop := lx (tI t a) (tI t b) = true
theorem mem_insL {x y : Nat} : ∀ {l : List Nat}, y ∈ insL t x l ↔ y = x ∨ y ∈ l
  | [] => by simp [insL]
  | z :: l => by
    unfold insL
    split
    · simp
    · rw [List.mem_cons, mem_insL, List.mem_cons]
      constructor
      · rintro (a | a | a)
        · exact Or.inr (Or.inl a)
        · exact Or.inl a
        · exact Or.inr (Or.inr a)
      · rintro (a | a | a)
        · exact Or.inr (Or.inl a)
        · exact Or.inl a
        · exact Or.inr (Or.inr a)
theorem len_insL {x : Nat} : ∀ {l : List Nat}, (insL t x l).length = l.length + 1
  | [] => rfl
  | z :: l => by
    unfold insL
    split
    · simp
    · simp [len_insL]
theorem srt_insL {x : Nat} : ∀ {l : List Nat}, l.Pairwise (RL t) → (∀ y ∈ l, tI t x ≠ tI t y) → (insL t x l).Pairwise (RL t)
  | [], _, _ => by simp [insL]
  | z :: l, h, hd => by
    rw [List.pairwise_cons] at h
    unfold insL
    by_cases e : lx (tI t x) (tI t z) = true
    · rw [if_pos e, List.pairwise_cons]
      refine ⟨fun y hy => ?_, List.pairwise_cons.mpr h⟩
      rcases List.mem_cons.mp hy with q | q
      · rw [q]; exact e
      · exact lx_tr e (h.1 y q)
    · rw [if_neg e, List.pairwise_cons]
      refine ⟨fun y hy => ?_, srt_insL h.2 (fun y hy => hd y (List.mem_cons_of_mem _ hy))⟩
      rcases mem_insL.mp hy with q | q
      · rw [q]
        rcases lx_tot (tI t x) (tI t z) with a | a | a
        · exact absurd a e
        · exact absurd a (hd z (List.mem_cons_self ..))
        · exact a
      · exact h.1 y q
theorem srt_aux : ∀ (c l : List Nat), l.Pairwise (RL t) → c.Nodup → (∀ x ∈ c, x ∉ l) → (∀ x y, (x ∈ c ∨ x ∈ l) → (y ∈ c ∨ y ∈ l) → x ≠ y → tI t x ≠ tI t y) →
    (c.foldl (fun l x => insL t x l) l).Pairwise (RL t) ∧ (∀ y, y ∈ c.foldl (fun l x => insL t x l) l ↔ y ∈ c ∨ y ∈ l) ∧ (c.foldl (fun l x => insL t x l) l).length = c.length + l.length
  | [], l, h, _, _, _ => by simp [h]
  | x :: c, l, h, hc, hn, hd => by
    rw [List.nodup_cons] at hc
    have h1 : (insL t x l).Pairwise (RL t) := srt_insL h (fun y hy => hd x y (Or.inl (List.mem_cons_self ..)) (Or.inr hy) (fun e => hn x (List.mem_cons_self ..) (by rw [e]; exact hy)))
    obtain ⟨a, b, c'⟩ := srt_aux c (insL t x l) h1 hc.2 (fun y hy z => by
      rcases mem_insL.mp z with q | q
      · rw [q] at hy; exact hc.1 hy
      · exact hn y (List.mem_cons_of_mem _ hy) q) (fun u v hu hv => hd u v (by
        rcases hu with q | q
        · exact Or.inl (List.mem_cons_of_mem _ q)
        · rcases mem_insL.mp q with q | q
          · exact Or.inl (by rw [q]; exact List.mem_cons_self ..)
          · exact Or.inr q) (by
        rcases hv with q | q
        · exact Or.inl (List.mem_cons_of_mem _ q)
        · rcases mem_insL.mp q with q | q
          · exact Or.inl (by rw [q]; exact List.mem_cons_self ..)
          · exact Or.inr q))
    refine ⟨a, fun y => ?_, by rw [List.foldl_cons, c', len_insL]; simp; omega⟩
    rw [List.foldl_cons, b y, mem_insL, List.mem_cons]
    constructor
    · rintro (q | q | q)
      · exact Or.inl (Or.inr q)
      · exact Or.inl (Or.inl q)
      · exact Or.inr q
    · rintro ((q | q) | q)
      · exact Or.inr (Or.inl q)
      · exact Or.inl q
      · exact Or.inr (Or.inr q)
theorem mem_chl {d k : Nat} : k ∈ chl t d ↔ (k < tN t ∧ tT t k = true) ∧ 0 < k ∧ tP t k = d := by
  unfold chl
  rw [List.mem_filter, mem_tL, decide_eq_true_iff]
theorem srt_ok (ok : TOK n t) (d : Nat) : (srt t d).Pairwise (RL t) ∧ (∀ k, k ∈ srt t d ↔ (k < tN t ∧ tT t k = true) ∧ 0 < k ∧ tP t k = d) ∧ (srt t d).length = (chl t d).length := by
  have hc : (chl t d).Nodup := (tL_nodup t).sublist (List.filter_sublist ..)
  obtain ⟨a, b, c⟩ := srt_aux (t := t) (chl t d) [] (by simp) hc (fun x _ h => by cases h) (fun x y hx hy hne => by
    have hx' := mem_chl.mp (hx.resolve_right (by simp))
    have hy' := mem_chl.mp (hy.resolve_right (by simp))
    exact ok.2.2.2.2 x y hx'.2.1 hx'.1.1 hx'.1.2 hy'.2.1 hy'.1.1 hy'.1.2 hne (by rw [hx'.2.2, hy'.2.2]))
  refine ⟨a, fun k => ?_, by unfold srt; rw [c]; simp⟩
  unfold srt
  rw [b k]
  simp [mem_chl]
theorem RL_ne {l : List Nat} (h : l.Pairwise (RL t)) : l.Nodup := h.imp (fun {a b} q e => by unfold RL at q; rw [e, lx_irr] at q; cases q)
theorem srt_len (ok : TOK n t) (d : Nat) : (srt t d).length ≤ 29 := by
  obtain ⟨a, b, c⟩ := srt_ok ok d
  have h0 : 0 ∈ tL t := mem_tL.mpr ⟨by have := ok.1.1; omega, ok.2.1.1⟩
  have := len_sub (0 :: srt t d) (tL t) (List.nodup_cons.mpr ⟨fun z => by have := ((b 0).mp z).2.1; omega, RL_ne a⟩) (fun x hx => by
    rcases List.mem_cons.mp hx with q | q
    · rw [q]; exact h0
    · exact mem_tL.mpr ((b x).mp q).1)
  have h30 := ok.1.2.2
  simp at this
  omega
/-- the table so far, i of its directories looked at -/
def TBk (t : TT) (i : Nat) (tb : List Nat) : Prop := tb.Nodup ∧ tb.getD 0 1 = 0 ∧ 1 ≤ tb.length ∧ (∀ k ∈ tb, (k < tN t ∧ tT t k = true) ∧ tD t k = 1) ∧ (∀ k ∈ tb, k ≠ 0 → ∃ j, j < i ∧ tb.getD j 0 = tP t k ∧ j < tb.length) ∧ (∀ j x, j < tb.length → 0 < j → tb.getD j 0 = x → ∃ j', j' < j ∧ tb.getD j' 0 = tP t x)
theorem getD_inj {l : List Nat} (h : l.Nodup) {i j : Nat} (hi : i < l.length) (hj : j < l.length) (e : l.getD i 0 = l.getD j 0) : i = j := by
  rw [List.getD_eq_getElem?_getD, List.getD_eq_getElem?_getD, List.getElem?_eq_getElem hi, List.getElem?_eq_getElem hj] at e
  have h' := List.pairwise_iff_getElem.mp h
  rcases Nat.lt_trichotomy i j with q | q | q
  · exact absurd e (h' i j hi hj q)
  · exact q
  · exact absurd e.symm (h' j i hj hi q)
theorem getD_mem {l : List Nat} {i d : Nat} (h : i < l.length) : l.getD i d ∈ l := by
  rw [List.getD_eq_getElem?_getD, List.getElem?_eq_getElem h]
  exact List.getElem_mem h
theorem mem_getD {l : List Nat} {x : Nat} (h : x ∈ l) : ∃ j, j < l.length ∧ l.getD j 0 = x := by
  obtain ⟨j, h1, h2⟩ := List.getElem_of_mem h
  exact ⟨j, h1, by rw [List.getD_eq_getElem?_getD, List.getElem?_eq_getElem h1]; exact h2⟩
theorem gD_app {a b : List Nat} {i d : Nat} (h : i < a.length) : (a ++ b).getD i d = a.getD i d := by
  rw [List.getD_eq_getElem?_getD, List.getElem?_append_left h, ← List.getD_eq_getElem?_getD]
theorem TBk0 (ok : TOK n t) : TBk t 0 [0] := ⟨by simp, rfl, by simp, fun k hk => by simp at hk; rw [hk]; exact ⟨⟨by have := ok.1.1; omega, ok.2.1.1⟩, ok.2.1.2.1⟩, fun k hk h => by simp at hk; exact absurd hk h, fun j x hj h0 => by simp at hj; omega⟩
/-- one directory more in the table -/
theorem TBk_add (ok : TOK n t) {i k : Nat} {tb : List Nat} (h : TBk t (i + 1) tb) (hi : i < tb.length) (hk : k < tN t) (hkt : tT t k = true) (h0 : 0 < k) (hp : tP t k = tb.getD i 0) (hd : tD t k = 1) (hn : k ∉ tb) : TBk t (i + 1) (tb ++ [k]) := by
  obtain ⟨a, b, c, d, e, f⟩ := h
  refine ⟨?_, by rw [gD_app (by omega)]; exact b, by simp, fun x hx => ?_, fun x hx hx0 => ?_, fun j x hj hj0 hx => ?_⟩
  · rw [List.nodup_append]
    exact ⟨a, by simp, fun x hx y hy => by simp at hy; rw [hy]; exact fun e => hn (by rw [← e]; exact hx)⟩
  · rcases List.mem_append.mp hx with q | q
    · exact d x q
    · simp at q; rw [q]; exact ⟨⟨hk, hkt⟩, hd⟩
  · rcases List.mem_append.mp hx with q | q
    · obtain ⟨j, h1, h2, h3⟩ := e x q hx0
      exact ⟨j, h1, by rw [gD_app h3]; exact h2, by simp; omega⟩
    · simp at q
      exact ⟨i, by omega, by rw [gD_app hi, q]; exact hp.symm, by simp; omega⟩
  · by_cases q : j < tb.length
    · rw [gD_app q] at hx
      obtain ⟨j', h1, h2⟩ := f j x q hj0 hx
      exact ⟨j', h1, by rw [gD_app (by omega)]; exact h2⟩
    · have hj' : j = tb.length := by simp at hj; omega
      rw [hj', List.getD_eq_getElem?_getD, List.getElem?_append_right (Nat.le_refl _)] at hx
      simp at hx
      exact ⟨i, by omega, by rw [gD_app hi, ← hx]; exact hp.symm⟩
theorem TBk_mono {i j : Nat} {tb : List Nat} (h : TBk t i tb) (hij : i ≤ j) : TBk t j tb := by
  obtain ⟨a, b, c, d, e, f⟩ := h
  exact ⟨a, b, c, d, fun k hk h0 => by obtain ⟨x, h1, h2, h3⟩ := e k hk h0; exact ⟨x, by omega, h2, h3⟩, f⟩
theorem TBk_len (ok : TOK n t) {i : Nat} {tb : List Nat} (h : TBk t i tb) : tb.length ≤ 30 := by
  have := len_sub tb (tL t) h.1 (fun x hx => mem_tL.mpr (h.2.2.2.1 x hx).1)
  have h30 := ok.1.2.2
  omega
/-- a child of directory i isn't in the table before that directory is looked at -/
theorem TBk_new {i k : Nat} {tb : List Nat} (h : TBk t i tb) (hi : i < tb.length) (h0 : 0 < k) (hp : tP t k = tb.getD i 0) : k ∉ tb := by
  intro hk
  obtain ⟨j, h1, h2, h3⟩ := h.2.2.2.2.1 k hk (by omega)
  rw [hp] at h2
  have := getD_inj h.1 h3 hi h2
  omega
end
