/-! sound states stay sound: the tree changes -/
theorem idb_inj {a b : List Nat} {d e : Nat} (ha : ∀ c ∈ a, isL c) (hb : ∀ c ∈ b, isL c) (h : idb a d = idb b e) : a = b := by
  have n46 : ¬ isL 46 := by unfold isL; omega
  unfold idb at h
  by_cases h1 : d = 1
  · rw [if_pos h1] at h
    by_cases h2 : e = 1
    · rw [if_pos h2] at h; exact h
    · rw [if_neg h2] at h
      exact absurd (ha 46 (by rw [h]; simp)) n46
  · rw [if_neg h1] at h
    by_cases h2 : e = 1
    · rw [if_pos h2] at h
      exact absurd (hb 46 (by rw [← h]; simp)) n46
    · rw [if_neg h2] at h
      exact List.append_cancel_right h
section
variable {n : Nat} {t : TT} {S : AS}
theorem tAdd_ok (ok : TOK n t) {d dir size seed : Nat} {l : List Nat} (hd : d ∈ tL t) (hdd : tD t d = 1) (hl : NM l) (hdir : dir ≤ 1) (h1 : dir = 1 → size = 0 ∧ seed = 0 ∧ dep t d ≠ 6) (hsz : size ≤ 6000) (hse : seed ≤ 255) (hn : ¬ nmd t d l 0) (h30 : (tL t).length < 30) (hN : tN t < 600) : TOK n (tAdd t d l dir size seed) := by
  obtain ⟨m1, m2⟩ := mem_tL.mp hd
  have d6 := dep_6 ok m1 m2 hdd
  obtain ⟨a, b, _, e, f⟩ := id ok
  have ne : ∀ k, k < tN t → k ≠ tN t := fun k h => by omega
  have hlt : ∀ k, k < tN t + 1 → upA (tT t) (tN t) true k = true → k = tN t ∨ (k < tN t ∧ tT t k = true) := by
    intro k h1 h2
    by_cases z : k = tN t
    · exact Or.inl z
    · rw [upA_n z] at h2; exact Or.inr ⟨by omega, h2⟩
  refine ⟨⟨by show 1 ≤ tN t + 1; omega, by show tN t + 1 ≤ 600; omega, by rw [tL_add, List.length_append]; show _ + 1 ≤ 30; omega⟩, ?_, ⟨upA (dep t) (tN t) (dep t d + 1), by rw [upA_n (by omega)]; exact dep_0, fun k h0 hk ht => ?_⟩, fun k h0 hk ht => ?_, fun i j hi1 hi2 hi3 hj1 hj2 hj3 hne hp => ?_⟩
  · show upA (tT t) (tN t) true 0 = true ∧ upA (tD t) (tN t) dir 0 = 1 ∧ upA (tP t) (tN t) d 0 = 4294967295 ∧ upA (tM t) (tN t) l 0 = [] ∧ upA (tS t) (tN t) size 0 = 0 ∧ upA (tE t) (tN t) seed 0 = 0 ∧ upA (tX t) (tN t) 0 0 = 0
    rw [upA_n (by omega), upA_n (by omega), upA_n (by omega), upA_n (by omega), upA_n (by omega), upA_n (by omega), upA_n (by omega)]
    exact b
  · show upA (tP t) (tN t) d k < tN t + 1 ∧ upA (tT t) (tN t) true (upA (tP t) (tN t) d k) = true ∧ upA (tD t) (tN t) dir (upA (tP t) (tN t) d k) = 1 ∧ upA (dep t) (tN t) (dep t d + 1) k = upA (dep t) (tN t) (dep t d + 1) (upA (tP t) (tN t) d k) + 1 ∧ upA (dep t) (tN t) (dep t d + 1) k ≤ 7 ∧ (upA (tD t) (tN t) dir k = 1 → upA (dep t) (tN t) (dep t d + 1) k ≤ 6)
    rcases hlt k hk ht with z | ⟨z1, z2⟩
    · rw [z, upA_e, upA_e, upA_e, upA_n (ne d m1), upA_n (ne d m1), upA_n (ne d m1)]
      exact ⟨by omega, m2, hdd, rfl, by omega, fun y => by have := (h1 y).2.2; omega⟩
    · obtain ⟨q1, q2, q3, q4, q5, q6⟩ := dep_s ok h0 z1 z2
      rw [upA_n (ne k z1), upA_n (ne k z1), upA_n (ne k z1), upA_n (ne _ q1), upA_n (ne _ q1), upA_n (ne _ q1)]
      exact ⟨by omega, q2, q3, q4, q5, q6⟩
  · show upA (tD t) (tN t) dir k ≤ 1 ∧ NM (upA (tM t) (tN t) l k) ∧ (upA (tD t) (tN t) dir k = 1 → upA (tS t) (tN t) size k = 0 ∧ upA (tE t) (tN t) seed k = 0 ∧ upA (tX t) (tN t) 0 k = 0) ∧ upA (tS t) (tN t) size k ≤ 409600 ∧ upA (tX t) (tN t) 0 k ≤ 200 ∧ (upA (tE t) (tN t) seed k ≤ 255 ∨ upA (tE t) (tN t) seed k = 4294967295) ∧ (upA (tS t) (tN t) size k = 0 → upA (tX t) (tN t) 0 k = 0) ∧ (upA (tD t) (tN t) dir k = 0 → upA (tW t) (tN t) false k = true → upA (tX t) (tN t) 0 k + (upA (tS t) (tN t) size k + 2047) / 2048 ≤ n) ∧ (upA (tD t) (tN t) dir k = 0 → upA (tW t) (tN t) false k = false → upA (tS t) (tN t) size k ≤ 6000 ∧ upA (tE t) (tN t) seed k ≤ 255 ∧ upA (tX t) (tN t) 0 k = 0)
    rcases hlt k hk ht with z | ⟨z1, z2⟩
    · rw [z, upA_e, upA_e, upA_e, upA_e, upA_e, upA_e]
      exact ⟨hdir, hl, fun y => ⟨(h1 y).1, (h1 y).2.1, rfl⟩, by omega, by omega, Or.inl hse, fun _ => rfl, fun _ y => (by cases y), fun _ _ => ⟨hsz, hse, rfl⟩⟩
    · rw [upA_n (ne k z1), upA_n (ne k z1), upA_n (ne k z1), upA_n (ne k z1), upA_n (ne k z1), upA_n (ne k z1)]
      exact e k h0 z1 z2
  · have nmd' : ∀ i, 0 < i → i < tN t → tT t i = true → tP t i = d → tM t i ≠ l := fun i a1 a2 a3 a4 a5 => hn ⟨i, mem_tL.mpr ⟨a2, a3⟩, a1, by omega, a4, a5⟩
    have idn : ∀ i, i < tN t → tI (tAdd t d l dir size seed) i = tI t i := fun i h => by
      unfold tI
      show idb (upA (tM t) (tN t) l i) (upA (tD t) (tN t) dir i) = _
      rw [upA_n (ne i h), upA_n (ne i h)]
    have ida : tI (tAdd t d l dir size seed) (tN t) = idb l dir := by
      unfold tI
      show idb (upA (tM t) (tN t) l (tN t)) (upA (tD t) (tN t) dir (tN t)) = _
      rw [upA_e, upA_e]
    have hp' : upA (tP t) (tN t) d i = upA (tP t) (tN t) d j := hp
    rcases hlt i hi2 hi3 with z | ⟨z1, z2⟩
    · rcases hlt j hj2 hj3 with w | ⟨w1, w2⟩
      · omega
      · rw [z, upA_e, upA_n (ne j w1)] at hp'
        rw [z, ida, idn j w1]
        intro y
        exact nmd' j hj1 w1 w2 hp'.symm (idb_inj hl.2.2 (e j hj1 w1 w2).2.1.2.2 y).symm
    · rcases hlt j hj2 hj3 with w | ⟨w1, w2⟩
      · rw [w, upA_e, upA_n (ne i z1)] at hp'
        rw [w, ida, idn i z1]
        intro y
        exact nmd' i hi1 z1 z2 hp' (idb_inj (e i hi1 z1 z2).2.1.2.2 hl.2.2 y)
      · rw [upA_n (ne i z1), upA_n (ne j w1)] at hp'
        rw [idn i z1, idn j w1]
        exact f i j hi1 z1 z2 hj1 w1 w2 hne hp'
theorem tRep_ok (ok : TOK n t) {k size seed : Nat} (hk : k ∈ tL t) (hd : tD t k = 0) (hsz : size ≤ 6000) (hse : seed ≤ 255) : TOK n (tRep t k size seed) := by
  obtain ⟨m1, m2⟩ := mem_tL.mp hk
  obtain ⟨a, b, c, e, f⟩ := id ok
  have k0 : k ≠ 0 := fun z => by rw [z, b.2.1] at hd; cases hd
  refine ⟨a, ?_, c, fun i i0 iN iT => ?_, f⟩
  · show tT t 0 = true ∧ tD t 0 = 1 ∧ tP t 0 = 4294967295 ∧ tM t 0 = [] ∧ upA (tS t) k size 0 = 0 ∧ upA (tE t) k seed 0 = 0 ∧ upA (tX t) k 0 0 = 0
    rw [upA_n (fun z => k0 z.symm), upA_n (fun z => k0 z.symm), upA_n (fun z => k0 z.symm)]
    exact b
  · show tD t i ≤ 1 ∧ NM (tM t i) ∧ (tD t i = 1 → upA (tS t) k size i = 0 ∧ upA (tE t) k seed i = 0 ∧ upA (tX t) k 0 i = 0) ∧ upA (tS t) k size i ≤ 409600 ∧ upA (tX t) k 0 i ≤ 200 ∧ (upA (tE t) k seed i ≤ 255 ∨ upA (tE t) k seed i = 4294967295) ∧ (upA (tS t) k size i = 0 → upA (tX t) k 0 i = 0) ∧ (tD t i = 0 → upA (tW t) k false i = true → upA (tX t) k 0 i + (upA (tS t) k size i + 2047) / 2048 ≤ n) ∧ (tD t i = 0 → upA (tW t) k false i = false → upA (tS t) k size i ≤ 6000 ∧ upA (tE t) k seed i ≤ 255 ∧ upA (tX t) k 0 i = 0)
    obtain ⟨d1, d2, d3, d4, d5, d6, d7, d8, d9⟩ := e i i0 iN iT
    by_cases q : i = k
    · subst q
      rw [upA_e, upA_e, upA_e, upA_e]
      exact ⟨d1, d2, fun y => by omega, by omega, by omega, Or.inl hse, fun _ => rfl, fun _ y => (by cases y), fun _ _ => ⟨hsz, hse, rfl⟩⟩
    · rw [upA_n q, upA_n q, upA_n q, upA_n q]
      exact ⟨d1, d2, d3, d4, d5, d6, d7, d8, d9⟩
theorem tRem_ok (ok : TOK n t) {k : Nat} (k0 : k ≠ 0) (hc : ¬ ∃ q ∈ tL t, 0 < q ∧ tP t q = k) : TOK n (tRem t k) := by
  obtain ⟨a, b, _, e, f⟩ := id ok
  have old : ∀ i, upA (tT t) k false i = true → i ≠ k ∧ tT t i = true := fun i h => by
    by_cases z : i = k
    · rw [z, upA_e] at h; cases h
    · rw [upA_n z] at h; exact ⟨z, h⟩
  refine ⟨⟨a.1, a.2.1, ?_⟩, ⟨by show upA (tT t) k false 0 = true; rw [upA_n (fun z => k0 z.symm)]; exact b.1, b.2⟩, ⟨dep t, dep_0, fun i i0 iN iT => ?_⟩, fun i i0 iN iT => e i i0 iN (old i iT).2, fun i j a1 a2 a3 b1 b2' b3 => f i j a1 a2 (old i a3).2 b1 b2' (old j b3).2⟩
  · rw [tL_rem]
    exact Nat.le_trans (List.length_eraseIdx_le ..) a.2.2
  · obtain ⟨q1, q2, q3, q4, q5, q6⟩ := dep_s ok i0 iN (old i iT).2
    refine ⟨q1, ?_, q3, q4, q5, q6⟩
    show upA (tT t) k false (tP t i) = true
    rw [upA_n (fun z => hc ⟨i, mem_tL.mpr ⟨iN, (old i iT).2⟩, i0, z⟩)]
    exact q2
theorem tRen_ok (ok : TOK n t) {k d : Nat} {l : List Nat} (hk : k ∈ tL t) (k0 : k ≠ 0) (hd : d ∈ tL t) (hdd : tD t d = 1) (hl : NM l) (hnl : ¬ lies t d k) (hh : ¬ ∃ q ∈ tL t, 0 < q ∧ tD t q = 1 ∧ lies t q k ∧ 6 + dep t k < dep t q + dep t d + 1) (hn : ¬ nmd t d l k) : TOK n (tRen t k d l) := by
  obtain ⟨m1, m2⟩ := mem_tL.mp hk
  obtain ⟨p1, p2⟩ := mem_tL.mp hd
  have d6 := dep_6 ok p1 p2 hdd
  obtain ⟨a, b, _, e, f⟩ := id ok
  have lk : lies t k k := by rw [lies_s ok m1 m2]; exact Or.inl rfl
  refine ⟨a, ?_, ⟨fun i => ic (lies t i k) (dep t i + (dep t d + 1) - dep t k) (dep t i), ?_, fun i i0 iN iT => ?_⟩, fun i i0 iN iT => ?_, fun i j a1 a2 a3 b1 b2' b3 hne hp => ?_⟩
  · show tT t 0 = true ∧ tD t 0 = 1 ∧ upA (tP t) k d 0 = 4294967295 ∧ upA (tM t) k l 0 = [] ∧ tS t 0 = 0 ∧ tE t 0 = 0 ∧ tX t 0 = 0
    rw [upA_n (fun z => k0 z.symm), upA_n (fun z => k0 z.symm)]
    exact b
  · have : ¬ lies t 0 k := by
      rw [lies_s ok (by omega) b.1]
      rintro (z | z)
      · exact k0 z.symm
      · exact z.1 rfl
    exact (ic_f this).trans dep_0
  · show upA (tP t) k d i < tN t ∧ tT t (upA (tP t) k d i) = true ∧ tD t (upA (tP t) k d i) = 1 ∧ ic (lies t i k) (dep t i + (dep t d + 1) - dep t k) (dep t i) = ic (lies t (upA (tP t) k d i) k) (dep t (upA (tP t) k d i) + (dep t d + 1) - dep t k) (dep t (upA (tP t) k d i)) + 1 ∧ ic (lies t i k) (dep t i + (dep t d + 1) - dep t k) (dep t i) ≤ 7 ∧ (tD t i = 1 → ic (lies t i k) (dep t i + (dep t d + 1) - dep t k) (dep t i) ≤ 6)
    obtain ⟨q1, q2, q3, q4, q5, q6⟩ := dep_s ok i0 iN iT
    by_cases z : i = k
    · subst z
      rw [upA_e, ic_t lk, ic_f hnl]
      refine ⟨p1, p2, hdd, by omega, by omega, fun y => ?_⟩
      rcases Nat.lt_or_ge 6 (dep t i + (dep t d + 1) - dep t i) with w | w
      · exact absurd ⟨i, hk, i0, y, lk, by omega⟩ hh
      · exact w
    · rw [upA_n z]
      have ls : lies t i k ↔ lies t (tP t i) k := by
        rw [lies_s ok iN iT]
        exact ⟨fun y => by rcases y with y | y; exact absurd y z; exact y.2, fun y => Or.inr ⟨by omega, y⟩⟩
      by_cases w : lies t i k
      · have w' := ls.mp w
        have hge := lies_dep ok _ (mem_tL.mpr ⟨q1, q2⟩) rfl w'
        rw [ic_t w, ic_t w']
        have bd : ∀ q, q ∈ tL t → 0 < q → tD t q = 1 → lies t q k → dep t q + dep t d + 1 ≤ 6 + dep t k := fun q u1 u2 u3 u4 => by
          rcases Nat.lt_or_ge (6 + dep t k) (dep t q + dep t d + 1) with y | y
          · exact absurd ⟨q, u1, u2, u3, u4, y⟩ hh
          · exact y
        have pp : 0 < tP t i := by
          rcases Nat.eq_zero_or_pos (tP t i) with y | y
          · exfalso
            rw [y, lies_s ok (by omega) b.1] at w'
            rcases w' with u | u
            · exact k0 u.symm
            · exact u.1 rfl
          · exact y
        have := bd (tP t i) (mem_tL.mpr ⟨q1, q2⟩) pp q3 w'
        refine ⟨q1, q2, q3, by omega, by omega, fun y => ?_⟩
        have := bd i (mem_tL.mpr ⟨iN, iT⟩) i0 y w
        omega
      · rw [ic_f w, ic_f (fun y => w (ls.mpr y))]
        exact ⟨q1, q2, q3, q4, q5, q6⟩
  · show tD t i ≤ 1 ∧ NM (upA (tM t) k l i) ∧ _
    obtain ⟨d1, d2, d3⟩ := e i i0 iN iT
    refine ⟨d1, ?_, d3⟩
    by_cases z : i = k
    · rw [z, upA_e]; exact hl
    · rw [upA_n z]; exact d2
  · have nm' : ∀ i, 0 < i → i < tN t → tT t i = true → i ≠ k → tP t i = d → tM t i ≠ l := fun i a1 a2 a3 a4 a5 a6 => hn ⟨i, mem_tL.mpr ⟨a2, a3⟩, a1, a4, a5, a6⟩
    have idn : ∀ i, i ≠ k → tI (tRen t k d l) i = tI t i := fun i h => by
      unfold tI
      show idb (upA (tM t) k l i) (tD t i) = _
      rw [upA_n h]
    have ida : tI (tRen t k d l) k = idb l (tD t k) := by
      unfold tI
      show idb (upA (tM t) k l k) (tD t k) = _
      rw [upA_e]
    have hp' : upA (tP t) k d i = upA (tP t) k d j := hp
    by_cases z : i = k
    · by_cases w : j = k
      · omega
      · rw [z, upA_e, upA_n w] at hp'
        rw [z, ida, idn j w]
        intro y
        exact nm' j b1 b2' b3 w hp'.symm (idb_inj hl.2.2 (e j b1 b2' b3).2.1.2.2 y).symm
    · by_cases w : j = k
      · rw [w, upA_e, upA_n z] at hp'
        rw [w, ida, idn i z]
        intro y
        exact nm' i a1 a2 a3 z hp' (idb_inj (e i a1 a2 a3).2.1.2.2 hl.2.2 y)
      · rw [upA_n z, upA_n w] at hp'
        rw [idn i z, idn j w]
        exact f i j a1 a2 a3 b1 b2' b3 hne hp'
end
