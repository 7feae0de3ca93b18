/-! the burner: files, then a session -/
section
variable {S : Prop} {W : Nat → Prop} {D n : Nat} {σ0 σ σ' τ : Hp} {x md od q : Nat} {t : TT} {rf : Nat → Nat} {c : Nat} {R : List Nat} {ct : Nat} {f : Nat → Nat} {b : BS} {Df : Nat → Bool} {Bo : Nat → Nat} {P : Nat → Prop} {num : Nat}
theorem sameT_r (t : TT) : sameT t t := ⟨rfl, rfl, rfl, rfl, rfl⟩
theorem sameT_l {t t' : TT} (h : sameT t t') : tL t' = tL t := by unfold tL; rw [h.1, h.2.1]
theorem sameT_y {t t' : TT} (h : sameT t t') {k s : Nat} : sameT t (tLay t' k s) := h
theorem c_files (F : BF D σ0 σ x n md od q t rf c R ct f b Df Bo P) (hlo : bLo b = false) (hnum : num < 2 ^ 32) (hBo : ∀ q, Bo q < 256) {all : Bool} (hall : all = decide (md ≠ od)) (hP : ∀ k ∈ tL t, P (rf k)) (h1 : 5244 ≤ bc_ σ) (h2 : 34500 ≤ bs_ σ) {post : Int32 → Hp → Prop}
    (k : ∀ σ' t' b' cc f' R' ct', BF D σ0 σ' x n md od q t' rf c R' ct' f' b' Df Bo P → cmA n Df Bo all t num b = (cc, t', b') → sameT t t' → post (if cc = 0 then nI num else cod cc) σ') : wX3_commit_L18 post (x + 2) (nI num) 0 σ := by
  have ok := F.1.2.2.2.2.2.2.2.2.2.2.1
  have l30 := ok.1.2.2
  obtain ⟨Z, hZ⟩ : ∃ Z, cmF n Df Bo all (tL t) t b = Z := ⟨_, rfl⟩
  unfold wX3_commit_L18
  refine lpG2 (B := fun R' y s => wX3_commit_B18 post R' (x + 2) (nI num) y s) (fun j y s => ∃ i t' b' f', i + j = (tL t).length ∧ y = nI i ∧ cmF n Df Bo all ((tL t).drop i) t' b' = Z ∧ sameT t t' ∧ BF D σ0 s x n md od q t' rf c R ct f' b' Df Bo P ∧ bLo b' = false ∧ bc_ s = bc_ σ ∧ bs_ s = bs_ σ) (tL t).length ⟨0, t, b, f, by omega, rfl, hZ, sameT_r t, F, hlo, rfl, rfl⟩ ?_
  rintro j y s R' ⟨i, t1, b1, f1, g1, rfl, g3, g4, g5, g6, g7, g8⟩ hR
  have E := g5.1
  have ok1 := E.2.2.2.2.2.2.2.2.2.2.1
  have hb := E.2.2.1
  have htr := E.2.2.2.2.2.2.2.1
  have hL : tL t1 = tL t := sameT_l g4
  have hl := htr.2.2.1
  rw [hL] at hl
  unfold wX3_commit_B18
  rw [hb.2.2.2.2.1]
  refine ⟨hb.1, htr.1, hl.1, l_size hl ?_⟩
  rw [List.length_map, nI_leI (by omega) (by omega)]
  refine ⟨fun z => ?_, fun z => l_get hl (by rw [List.length_map]; omega) (fun tg => ?_)⟩
  · have hi : (tL t).drop i = [] := List.drop_eq_nil_iff.mpr (by omega)
    rw [hi] at g3
    have g3' : (0, t1, b1) = Z := g3
    refine c_ses g5 g6 hnum (by omega) (by omega) (fun s' b' cc f' R' ct' F' hs => k s' t1 b' cc f' R' ct' F' ?_ g4)
    rw [dirT_same g4] at hs
    unfold cmA
    rw [hZ, ← g3', if_pos rfl, hs]
  · obtain ⟨j, rfl⟩ : ∃ q, j = q + 1 := ⟨j - 1, by omega⟩
    rw [gD_map (by omega)] at tg ⊢
    rw [drop_cons (by omega)] at g3
    obtain ⟨d, hd⟩ : ∃ d, d = (tL t).getD i 0 := ⟨_, rfl⟩
    rw [← hd] at tg g3 ⊢
    have hdt : d ∈ tL t := by rw [hd]; exact getD_mem (by omega)
    have hd1 : d ∈ tL t1 := by rw [hL]; exact hdt
    have nd := htr.2.2.2 d hd1
    have hdD := root_D ok1 (mem_tL.mp hd1).1 (mem_tL.mp hd1).2
    have hsz : tS t1 d ≤ 409600 := by
      rcases Nat.eq_zero_or_pos d with e | e
      · rw [e, ok1.2.1.2.2.2.2.1]; omega
      · exact (ok1.2.2.2.1 d e (mem_tL.mp hd1).1 (mem_tL.mp hd1).2).2.2.2.1
    unfold cmF at g3
    have skip : (tD t1 d = 1 ∨ tS t1 d = 0 ∨ (all = false ∧ tW t1 d = true)) → wX3_commit_L104 post R' (x + 2) (nI num) (nI i) s := by
      intro hs
      rw [if_pos hs] at g3
      unfold wX3_commit_L104
      intro y hy
      exact hR j y s (by omega) ⟨i + 1, t1, b1, f1, by omega, by rw [hy, li_1, nI_add], g3, g4, g5, g6, g7, g8⟩
    have lay : tD t1 d = 0 → tS t1 d ≠ 0 → (tW t1 d = true → md ≠ od) → wX3_commit_L88 post R' (x + 2) (nI num) (nI i) (rf d) s := by
      intro u1 u2 u3
      have d0 : 0 < d := by
        rcases Nat.eq_zero_or_pos d with e | e
        · rw [e, ok1.2.1.2.1] at u1; omega
        · exact e
      rw [if_neg (by
        rintro (v | v | ⟨v1, v2⟩)
        · omega
        · exact u2 v
        · rw [hall] at v1
          exact of_decide_eq_false v1 (u3 v2))] at g3
      unfold wX3_commit_L88
      refine ⟨hb.1, c_extent g5 g6 hBo hd1 d0 u1 (by omega) u3 (hP d hdt) (fun s28 e b2 f2 hlay lo2 F2 v1 v2 v3 s29 e29 => ⟨fun _ => ?_, fun v => absurd rfl v⟩) (fun s28 cc e b2 f2 hlay hcc F2 v1 v2 v3 s29 e29 => ?_)⟩
      · rw [hlay, if_pos rfl] at g3
        unfold wX3_commit_L104
        intro y hy
        refine hR j y s29 (by omega) ⟨i + 1, tLay t1 d e, b2, f2, by omega, by rw [hy, li_1, nI_add], g3, sameT_y g4, by rw [e29]; exact F2.bu, lo2, by rw [e29]; exact g7, by rw [e29]; exact g8⟩
      · rw [hlay] at g3
        have c0 : cc ≠ 0 := by omega
        rw [if_neg c0] at g3
        have hk := k s29 t1 b2 cc f2 R ct (by rw [e29]; exact F2.bu) (by unfold cmA; rw [hZ, ← g3, if_neg c0]) g4
        rw [if_neg c0] at hk
        refine ⟨fun v => absurd v ?_, fun _ => hk⟩
        unfold cod
        split <;> decide
    rw [nd.2.2.1, nd.2.2.2.2.1, nd.2.2.2.2.2.2.2.1, hb.2.1, hb.2.2.1, li_0, nI_eq (by omega) (by decide), nI_eq (by omega) (by decide)]
    have bw : b2 (tW t1 d) = nI 0 ↔ tW t1 d = false := b2_0
    rw [bw]
    refine ⟨Or.inr tg, tg, fun v => skip (Or.inl (by omega)), fun v => ⟨fun w => skip (Or.inr (Or.inl w)), fun w => ⟨fun u => lay v w (fun u' => by rw [u] at u'; cases u'), fun u => ⟨fun y => lay v w (fun _ => y), fun y => skip (Or.inr (Or.inr ⟨?_, ?_⟩))⟩⟩⟩⟩
    · rw [hall]; exact decide_eq_false (fun y' => y' y)
    · cases h : tW t1 d with
      | true => rfl
      | false => exact absurd h u
end
