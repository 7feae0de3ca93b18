/-! the burner: tries until a session is burnt -/
section
variable {S : Prop} {W : Nat → Prop} {D n : Nat} {σ0 σ σ' τ : Hp} {x md od q : Nat} {t : TT} {rf : Nat → Nat} {c : Nat} {R : List Nat} {ct : Nat} {f : Nat → Nat} {b : BS} {Df : Nat → Bool} {Bo : Nat → Nat} {P : Nat → Prop} {num : Nat}
theorem c_ses (F : BF D σ0 σ x n md od q t rf c R ct f b Df Bo P) (hlo : bLo b = false) (hnum : num < 2 ^ 32) (h1 : 5244 ≤ bc_ σ) (h2 : 34500 ≤ bs_ σ) {post : Int32 → Hp → Prop}
    (k : ∀ σ' b' cc f' R' ct', BF D σ0 σ' x n md od q t rf c R' ct' f' b' Df Bo P → sesB n Df t (dirT t) num 201 b = (cc, b') → post (if cc = 0 then nI num else cod cc) σ') : wX3_commit_L110 post (x + 2) (nI num) σ := by
  have ok := F.1.2.2.2.2.2.2.2.2.2.2.1
  have l30 := dirT_len ok
  have hn2 := F.1.2.2.2.2.2.1.med.2.1
  obtain ⟨Z, hZ⟩ : ∃ Z, sesB n Df t (dirT t) num 201 b = Z := ⟨_, rfl⟩
  rw [hZ] at k
  unfold wX3_commit_L110
  refine lpG1 (B := fun R s => wX3_commit_B110 post R (x + 2) (nI num) s) (fun j s => ∃ b' f' R' ct' a, sesB n Df t (dirT t) num j b' = Z ∧ n < j + frt (bSt b') n ∧ BF D σ0 s x n md od q t rf c R' ct' f' b' Df Bo P ∧ bLo b' = false ∧ 17 * a ≤ frt (bSt b') n ∧ bc_ σ ≤ bc_ s + 437 * a ∧ bs_ σ ≤ bs_ s + 2875 * a) 201 ⟨b, f, R, ct, 0, hZ, by omega, F, hlo, by omega, by omega, by omega⟩ ?_
  rintro j s R1 ⟨b1, f1, Rt, ct1, a, g1, g2, g3, g4, g5, g6, g7⟩ hR
  have hfle := frt_le (bSt b1) n
  obtain ⟨j, rfl⟩ : ∃ q, j = q + 1 := ⟨j - 1, by omega⟩
  obtain ⟨e, he⟩ : ∃ e, e = frt (bSt b1) n := ⟨_, rfl⟩
  unfold sesB at g1
  rw [← he] at g1 g2 g5 hfle
  have E3 := g3.1
  unfold wX3_commit_B110
  rw [E3.2.2.1.2.1]
  refine ⟨E3.2.2.1.1, E3.2.2.2.2.2.1.tag, c_front E3.2.2.2.2.2.1 ⟨63, 460, by omega, by omega, ?_⟩⟩
  rw [← he, li_20, nI_add]
  refine c_layOut (σ := bu_ s 63 460) g3.bu (by omega) (Nat.le_refl _) (Nat.le_refl _) (fun s9 ct9 F9 sc9 s10 e10 => ?_)
  have F10 := F9.bu (i := bc_ s - 63) (j := bs_ s - 460)
  rw [← e10] at F10
  have b10 : bc_ s10 = bc_ s - 63 ∧ bs_ s10 = bs_ s - 460 := by rw [e10]; exact ⟨rfl, rfl⟩
  have E10 := F10.1
  rw [E10.2.2.1.2.1, E10.2.2.2.2.2.1.1.2.1, nI_ltI (by omega) (by omega)]
  refine ⟨E10.2.2.1.1, E10.2.2.2.2.2.1.tag, fun z => ⟨374, 2415, by omega, by omega, c_burns (σ := bu_ s10 374 2415) F10.bu g4 (by omega) z hnum (fun j i => pgS_lt ok j i) (Nat.le_refl _) (Nat.le_refl _) (fun s19 b' cc f' ct' F19 hb hcc hlo' s20 e20 => ?_)⟩, fun z => ?_⟩
  · have F20 := F19.bu (i := bc_ s10 - 374) (j := bs_ s10 - 2415)
    rw [← e20] at F20
    have b20 : bc_ s20 = bc_ s10 - 374 ∧ bs_ s20 = bs_ s10 - 2415 := by rw [e20]; exact ⟨rfl, rfl⟩
    have E20 := F20.1
    rw [if_neg (by omega), hb] at g1
    have g1' : (if cc = 2 then (4, b') else if cc = 1 then sesB n Df t (dirT t) num j b' else (0, b')) = Z := g1
    by_cases c0 : cc = 0
    · rw [if_pos c0]
      refine ⟨fun v => absurd v (by decide), fun _ => ?_⟩
      rw [if_neg (by omega), if_neg (by omega)] at g1'
      have := k s20 b' 0 f' _ ct' F20 g1'.symm
      rw [if_pos rfl] at this; exact this
    · rw [if_neg c0, E20.2.2.1.2.2.2.1, E20.2.2.2.1.2.2.2, b2_0, hlo']
      refine ⟨fun _ => ⟨E20.2.2.1.1, E20.2.2.2.1.1, fun v => ?_, fun v => ?_⟩, fun v => absurd rfl v⟩
      · have c2 : cc ≠ 2 := of_decide_eq_false v
        have c1 : cc = 1 := by omega
        rw [if_neg c2, if_pos c1] at g1'
        obtain ⟨s', q1, q2, q3⟩ := (burnS_st Df (e + 16) (fun i => pz (pgS n t (dirT t) e num i)) (5 + (dirT t).length) 0 b1).2.1 (by rw [hb]; exact c1)
        rw [hb] at q3
        have := frt_ge (St := bSt b') (n := n) (s := s') (by rw [q3]; decide) (by omega)
        exact hR j s20 (by omega) ⟨b', f', _, ct', a + 1, g1', by omega, F20, by rw [hlo']; exact v, by omega, by omega, by omega⟩
      · have c2 : cc = 2 := by
          cases w : decide (cc = 2) with
          | true => exact of_decide_eq_true w
          | false => exact absurd w v
        rw [if_pos c2] at g1'
        exact k s20 b' 4 f' _ ct' F20 g1'.symm
  · rw [if_pos (by omega)] at g1
    exact k s10 b1 3 f1 _ ct9 F10 g1.symm
end
