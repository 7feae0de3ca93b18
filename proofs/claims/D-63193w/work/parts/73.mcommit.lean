/-! files are laid, sessions burnt: pure laws; the reference commits -/
def rmF (f : Nat → Bool) : Nat → Nat → List Nat
  | 0, _ => []
  | j + 1, k => if f k then k :: rmF f j (k + 1) else rmF f j (k + 1)
theorem rmF_range (f : Nat → Bool) : ∀ (j k : Nat), (List.range' k j).filter f = rmF f j k
  | 0, k => rfl
  | j + 1, k => by
    rw [List.range'_succ, List.filter_cons, rmF_range f j (k + 1)]
    rfl
theorem tL_rm (t : TT) : tL t = rmF (tT t) (tN t) 0 := by
  unfold tL
  rw [List.range_eq_range', rmF_range]
theorem rmF_mem {f : Nat → Bool} : ∀ {j k x : Nat}, x ∈ rmF f j k → k ≤ x ∧ x < k + j ∧ f x = true
  | 0, k, x, h => by unfold rmF at h; cases h
  | j + 1, k, x, h => by
    unfold rmF at h
    split at h
    · rename_i e
      rcases List.mem_cons.mp h with q | q
      · rw [q]; exact ⟨by omega, by omega, e⟩
      · have := rmF_mem q; exact ⟨by omega, by omega, this.2.2⟩
    · have := rmF_mem h; exact ⟨by omega, by omega, this.2.2⟩
/-- trees alike but for sizes, seeds, extents -/
def sameT (t t' : TT) : Prop := tN t' = tN t ∧ tT t' = tT t ∧ tD t' = tD t ∧ tP t' = tP t ∧ tM t' = tM t
theorem insL_same {t t' : TT} (h : sameT t t') (x : Nat) : ∀ l, insL t' x l = insL t x l
  | [] => rfl
  | y :: l => by
    obtain ⟨h1, h2, h3, h4, h5⟩ := h
    unfold insL
    rw [insL_same ⟨h1, h2, h3, h4, h5⟩ x l]
    unfold tI
    rw [h3, h5]
theorem srt_same {t t' : TT} (h : sameT t t') (d : Nat) : srt t' d = srt t d := by
  have h' := h
  obtain ⟨h1, h2, h3, h4, h5⟩ := h
  unfold srt chl tL
  rw [h1, h2, h4]
  congr 1
  funext l x
  exact insL_same h' x l
theorem bfs_same {t t' : TT} (h : sameT t t') : ∀ (j i : Nat) (tb : List Nat), bfs t' j i tb = bfs t j i tb
  | 0, i, tb => rfl
  | j + 1, i, tb => by
    unfold bfs
    rw [srt_same h, h.2.2.1]
    split
    · exact bfs_same h j _ _
    · rfl
theorem dirT_same {t t' : TT} (h : sameT t t') : dirT t' = dirT t := bfs_same h _ _ _
theorem sameT_lay (t : TT) (k f : Nat) : sameT t (tLay t k f) := ⟨rfl, rfl, rfl, rfl, rfl⟩
theorem sameT.trans {a b c : TT} (h : sameT a b) (g : sameT b c) : sameT a c := ⟨g.1.trans h.1, g.2.1.trans h.2.1, g.2.2.1.trans h.2.2.1, g.2.2.2.1.trans h.2.2.2.1, g.2.2.2.2.trans h.2.2.2.2⟩
theorem sameT.refl (t : TT) : sameT t t := ⟨rfl, rfl, rfl, rfl, rfl⟩
theorem tLay_ok {n k f : Nat} {t : TT} (ok : TOK n t) (h0 : 0 < k) (hf : f ≤ 200) (hfn : f + (tS t k + 2047) / 2048 ≤ n) (hS : 0 < tS t k) (hD : tD t k = 0) : TOK n (tLay t k f) := by
  obtain ⟨a, b, c, d, e⟩ := ok
  refine ⟨a, ⟨b.1, b.2.1, b.2.2.1, b.2.2.2.1, b.2.2.2.2.1, b.2.2.2.2.2.1, ?_⟩, c, fun i i0 iN iT => ?_, e⟩
  · show upA (tX t) k f 0 = 0
    rw [upA_n (by omega)]; exact b.2.2.2.2.2.2
  · obtain ⟨d1, d2, d3, d4, d5, d6, d7, d8, d9⟩ := d i i0 iN iT
    by_cases q : i = k
    · subst q
      refine ⟨d1, d2, fun z => ?_, d4, ?_, d6, fun z => ?_, fun _ _ => ?_, fun _ z => ?_⟩
      · have : tD t i = 1 := z
        omega
      · show upA (tX t) i f i ≤ 200
        rw [upA_e]; exact hf
      · have : tS t i = 0 := z
        omega
      · show upA (tX t) i f i + (tS t i + 2047) / 2048 ≤ n
        rw [upA_e]; exact hfn
      · have : upA (tW t) i true i = false := z
        rw [upA_e] at this; cases this
    · show tD t i ≤ 1 ∧ NM (tM t i) ∧ (tD t i = 1 → tS t i = 0 ∧ tE t i = 0 ∧ upA (tX t) k f i = 0) ∧ tS t i ≤ 409600 ∧ upA (tX t) k f i ≤ 200 ∧ (tE t i ≤ 255 ∨ tE t i = 4294967295) ∧ (tS t i = 0 → upA (tX t) k f i = 0) ∧ (tD t i = 0 → upA (tW t) k true i = true → upA (tX t) k f i + (tS t i + 2047) / 2048 ≤ n) ∧ (tD t i = 0 → upA (tW t) k true i = false → tS t i ≤ 6000 ∧ tE t i ≤ 255 ∧ upA (tX t) k f i = 0)
      rw [upA_n q, upA_n q]
      exact ⟨d1, d2, d3, d4, d5, d6, d7, d8, d9⟩
theorem layB_ok {n need : Nat} {Df : Nat → Bool} {g : Nat → Nat → Nat} (hg : ∀ j i, g j i < 256) : ∀ (j : Nat) (b : BS), Med n (bB b) (bSt b) → Med n (bB (layB n Df need g j b).2.2) (bSt (layB n Df need g j b).2.2) ∧ ((layB n Df need g j b).1 = 0 → (layB n Df need g j b).2.1 + need ≤ n) ∧ ((layB n Df need g j b).1 = 0 ∨ (layB n Df need g j b).1 = 3 ∨ (layB n Df need g j b).1 = 4) ∧ ((layB n Df need g j b).1 ≠ 4 → bLo (layB n Df need g j b).2.2 = bLo b)
  | 0, b, h => by
    unfold layB
    exact ⟨h, fun z => absurd z (by simp), Or.inr (Or.inl rfl), fun _ => rfl⟩
  | j + 1, b, h => by
    unfold layB
    have hm := burnS_med (n := n) Df (frt (bSt b) n) hg need 0 b h
    obtain ⟨s1, s2, s3, s4⟩ := burnS_st Df (frt (bSt b) n) g need 0 b
    split
    · exact ⟨h, fun z => absurd z (by simp), Or.inr (Or.inl rfl), fun _ => rfl⟩
    · split
      · exact ⟨hm, fun z => absurd z (by simp), Or.inr (Or.inr rfl), fun z => absurd rfl z⟩
      · rename_i e2
        split
        · obtain ⟨a, b', c, d⟩ := layB_ok hg (Df := Df) (need := need) j _ hm
          exact ⟨a, b', c, fun z => by rw [d z, s4 e2]⟩
        · rename_i e1 _
          exact ⟨hm, fun _ => by simp only; omega, Or.inl rfl, fun _ => s4 e2⟩
theorem sesB_ok {n : Nat} {Df : Nat → Bool} {t : TT} (ok : TOK n t) {num : Nat} : ∀ (j : Nat) (b : BS), Med n (bB b) (bSt b) → Med n (bB (sesB n Df t (dirT t) num j b).2) (bSt (sesB n Df t (dirT t) num j b).2) ∧ ((sesB n Df t (dirT t) num j b).1 = 0 ∨ (sesB n Df t (dirT t) num j b).1 = 3 ∨ (sesB n Df t (dirT t) num j b).1 = 4) ∧ ((sesB n Df t (dirT t) num j b).1 ≠ 4 → bLo (sesB n Df t (dirT t) num j b).2 = bLo b)
  | 0, b, h => by
    unfold sesB
    exact ⟨h, Or.inr (Or.inl rfl), fun _ => rfl⟩
  | j + 1, b, h => by
    unfold sesB
    have hm := burnS_med (n := n) Df (frt (bSt b) n + 16) (g := fun i => pz (pgS n t (dirT t) (frt (bSt b) n) num i)) (fun j i => pgS_lt ok j i) (5 + (dirT t).length) 0 b h
    obtain ⟨s1, s2, s3, s4⟩ := burnS_st Df (frt (bSt b) n + 16) (fun i => pz (pgS n t (dirT t) (frt (bSt b) n) num i)) (5 + (dirT t).length) 0 b
    split
    · exact ⟨h, Or.inr (Or.inl rfl), fun _ => rfl⟩
    · split
      · exact ⟨hm, Or.inr (Or.inr rfl), fun z => absurd rfl z⟩
      · rename_i e2
        split
        · obtain ⟨a, c, d⟩ := sesB_ok ok (Df := Df) (num := num) j _ hm
          exact ⟨a, c, fun z => by rw [d z, s4 e2]⟩
        · exact ⟨hm, Or.inl rfl, fun _ => s4 e2⟩
/-- sound files: what laying them asks -/
theorem cmF_ok {n : Nat} {Df : Nat → Bool} {B : Nat → Nat} (hB : ∀ q, B q < 256) {all : Bool} : ∀ (l : List Nat) (t : TT) (b : BS), TOK n t → (∀ k ∈ l, k < tN t ∧ tT t k = true) → Med n (bB b) (bSt b) →
    TOK n (cmF n Df B all l t b).2.1 ∧ sameT t (cmF n Df B all l t b).2.1 ∧ Med n (bB (cmF n Df B all l t b).2.2) (bSt (cmF n Df B all l t b).2.2) ∧ ((cmF n Df B all l t b).1 = 0 ∨ (cmF n Df B all l t b).1 = 3 ∨ (cmF n Df B all l t b).1 = 4) ∧ ((cmF n Df B all l t b).1 ≠ 4 → bLo (cmF n Df B all l t b).2.2 = bLo b)
  | [], t, b, ok, _, hm => ⟨ok, sameT.refl t, hm, Or.inl rfl, fun _ => rfl⟩
  | k :: l, t, b, ok, hl, hm => by
    unfold cmF
    have hk := hl k (List.mem_cons_self ..)
    have hl' : ∀ x ∈ l, x < tN t ∧ tT t x = true := fun x hx => hl x (List.mem_cons_of_mem _ hx)
    split
    · exact cmF_ok hB l t b ok hl' hm
    · rename_i hc
      have hD := root_D ok hk.1 hk.2
      have h0 : 0 < k := by
        rcases Nat.eq_zero_or_pos k with e | e
        · exfalso; apply hc; left; rw [e]; exact ok.2.1.2.1
        · exact e
      have hD0 : tD t k = 0 := by
        rcases (show tD t k = 0 ∨ tD t k = 1 by omega) with e | e
        · exact e
        · exact absurd (Or.inl e) hc
      have hS : 0 < tS t k := by
        rcases Nat.eq_zero_or_pos (tS t k) with e | e
        · exact absurd (Or.inr (Or.inl e)) hc
        · exact e
      obtain ⟨a1, a2, a3, a4⟩ := layB_ok (n := n) (need := (tS t k + 2047) / 2048) (Df := Df) (g := filP t B k (tW t k)) (fun j i => filP_lt hB k _ j i) 201 b hm
      split
      · rename_i e
        have hf := a2 e
        have hn := hm.2.1
        obtain ⟨c1, c2, c3, c4, c5⟩ := cmF_ok hB (Df := Df) (all := all) l (tLay t k (layB n Df ((tS t k + 2047) / 2048) (filP t B k (tW t k)) 201 b).2.1) (layB n Df ((tS t k + 2047) / 2048) (filP t B k (tW t k)) 201 b).2.2 (tLay_ok ok h0 (by omega) hf hS hD0) hl' a1
        exact ⟨c1, (sameT_lay t k _).trans c2, c3, c4, fun z => by rw [c5 z, a4 (by rw [e]; decide)]⟩
      · rename_i e
        exact ⟨ok, sameT.refl t, a1, a3, a4⟩
