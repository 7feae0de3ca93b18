/-! the reference: designing a session -/
theorem ov_mid {A Z C X : List Nat} (h : X.length = Z.length) : ov (pz (A ++ (Z ++ C))) A.length X = pz (A ++ (X ++ C)) := by
  funext i
  unfold pz ov
  simp only [getD_app]
  by_cases h1 : i < A.length
  · rw [if_neg (by omega), if_pos h1, if_pos h1]
  · rw [if_neg h1]
    by_cases h2 : i - A.length < X.length
    · rw [if_pos (by omega), if_neg h1, if_pos h2]
    · rw [if_neg (by omega), if_neg h1, if_neg (by omega), if_neg h2, h]
section
variable {n : Nat} {t : TT}
def D0L (n : Nat) (t : TT) (tb : List Nat) (base : Nat) : List Nat := [1, 67, 68, 48, 48, 49, 1] ++ (List.replicate 73 0 ++ (lowB 4 n ++ (highB 4 n ++ (List.replicate 40 0 ++ (lowB 2 2048 ++ (highB 2 2048 ++ (List.replicate 8 0 ++ (lowB 4 (base + 18) ++ (List.replicate 4 0 ++ (highB 4 (base + 19) ++ (List.replicate 4 0 ++ recS t tb base 0 0)))))))))))
theorem D0_des (tb : List Nat) (base : Nat) {v : Nat} (hv : v = (ptT t tb base true tb.length).length) : ov (pz (D0L n t tb base)) 132 (lowB 4 v ++ highB 4 v) = pz (desL n t tb base) := by
  obtain ⟨A, hA⟩ : ∃ A : List Nat, A = [1, 67, 68, 48, 48, 49, 1] ++ (List.replicate 73 0 ++ (lowB 4 n ++ (highB 4 n ++ (List.replicate 40 0 ++ (lowB 2 2048 ++ highB 2 2048))))) := ⟨_, rfl⟩
  obtain ⟨C, hC⟩ : ∃ C : List Nat, C = lowB 4 (base + 18) ++ (List.replicate 4 0 ++ (highB 4 (base + 19) ++ (List.replicate 4 0 ++ recS t tb base 0 0))) := ⟨_, rfl⟩
  have e1 : D0L n t tb base = A ++ (List.replicate 8 0 ++ C) := by rw [hA, hC]; unfold D0L; simp only [List.append_assoc]
  have e2 : desL n t tb base = A ++ ((lowB 4 v ++ highB 4 v) ++ C) := by rw [hA, hC, hv]; unfold desL; simp only [List.append_assoc]
  have e3 : A.length = 132 := by rw [hA]; simp [lowB_len, highB_len]
  rw [e1, e2, ← e3]
  exact ov_mid (by simp [lowB_len, highB_len])
theorem ptN_len (ok : TOK n t) {base : Nat} {lo : Bool} {i : Nat} (hi : i < (dirT t).length) : (ptN t (dirT t) base lo i).length = 8 + (if i = 0 then [0] else tM t ((dirT t).getD i 0)).length + (if i = 0 then [0] else tM t ((dirT t).getD i 0)).length % 2 ∧ (ptN t (dirT t) base lo i).length ≤ 16 := by
  have h1 : (if i = 0 then [0] else tM t ((dirT t).getD i 0)).length ≤ 8 := by
    split
    · simp
    · exact (nm_b ok (dirT_mem ok (getD_mem hi)).1.1 (dirT_mem ok (getD_mem hi)).1.2).1
  unfold ptN
  rw [ptE_len]
  exact ⟨rfl, by omega⟩
theorem ptT_len (ok : TOK n t) {base : Nat} : ∀ i, i ≤ (dirT t).length → (ptT t (dirT t) base true i).length = (ptT t (dirT t) base false i).length ∧ (ptT t (dirT t) base true i).length ≤ 16 * i
  | 0, _ => by simp [ptT]
  | i + 1, h => by
    obtain ⟨a, b⟩ := ptT_len ok (base := base) i (by omega)
    unfold ptT
    rw [List.length_append, List.length_append, a]
    obtain ⟨c, d⟩ := ptN_len ok (base := base) (lo := true) (i := i) (by omega)
    obtain ⟨c', d'⟩ := ptN_len ok (base := base) (lo := false) (i := i) (by omega)
    omega
theorem dirL_len (ok : TOK n t) (tb : List Nat) (base d : Nat) : (dirL t tb base d).length ≤ 1408 := by
  rw [← dLc_all]
  have := dLc_len ok tb base d _ (Nat.le_refl _)
  have := srt_len ok d
  omega
/-- i directories are laid out -/
def DI (n : Nat) (t : TT) (base i : Nat) (f : Nat → Nat) : Prop := (∀ q, q < 2048 → f q = pz (D0L n t (dirT t) base) q) ∧ (∀ q, q < 2048 → f (2048 + q) = pz [255, 67, 68, 48, 48, 49, 1] q) ∧ (∀ q, q < 2048 → f (4096 + q) = pz (ptT t (dirT t) base true i) q) ∧ (∀ q, q < 2048 → f (6144 + q) = pz (ptT t (dirT t) base false i) q) ∧
  (∀ i', i' < i → ∀ q, q < 2048 → f (8192 + 2048 * i' + q) = pz (dirL t (dirT t) base ((dirT t).getD i' 0)) q) ∧ (∀ q, 8192 + 2048 * i ≤ q → q < 2048 * (5 + (dirT t).length) → f q = 0)
theorem DI_step (ok : TOK n t) {base i : Nat} {f : Nat → Nat} (h : DI n t base i f) (hi : i < (dirT t).length) : DI n t base (i + 1) (ov (ov (ov f (4096 + (ptT t (dirT t) base true i).length) (ptN t (dirT t) base true i)) (4096 + (ptT t (dirT t) base true i).length + 2048) (ptN t (dirT t) base false i)) (8192 + 2048 * i) (dirL t (dirT t) base ((dirT t).getD i 0))) := by
  obtain ⟨h1, h2, h3, h4, h5, h6⟩ := h
  obtain ⟨a, b⟩ := ptT_len ok (base := base) i (by omega)
  have c := (ptN_len ok (base := base) (lo := true) hi).2
  have c' := (ptN_len ok (base := base) (lo := false) hi).2
  have hd := dirL_len ok (dirT t) base ((dirT t).getD i 0)
  have hl := dirT_len ok
  refine ⟨fun q hq => ?_, fun q hq => ?_, fun q hq => ?_, fun q hq => ?_, fun i' hi' q hq => ?_, fun q g1 g2 => ?_⟩
  · rw [ov_out (by omega), ov_out (by omega), ov_out (by omega)]; exact h1 q hq
  · rw [ov_out (by omega), ov_out (by omega), ov_out (by omega)]; exact h2 q hq
  · rw [ov_out (by omega), ov_out (by omega), ov_win (by omega)]
    have e : (fun q => f (4096 + q)) = fun q => if q < 2048 then pz (ptT t (dirT t) base true i) q else f (4096 + q) := by
      funext x
      by_cases z : x < 2048
      · rw [if_pos z]; exact h3 x z
      · rw [if_neg z]
    rw [show 4096 + (ptT t (dirT t) base true i).length - 4096 = (ptT t (dirT t) base true i).length by omega]
    show _ = pz (ptT t (dirT t) base true i ++ ptN t (dirT t) base true i) q
    rw [← pz_ov]
    unfold ov
    split
    · rfl
    · exact h3 q hq
  · rw [ov_out (by omega), ov_win (by omega), show 4096 + (ptT t (dirT t) base true i).length + 2048 - 6144 = (ptT t (dirT t) base false i).length by omega]
    show _ = pz (ptT t (dirT t) base false i ++ ptN t (dirT t) base false i) q
    rw [← pz_ov]
    unfold ov
    split
    · rfl
    · show ov f _ _ _ = _
      rw [ov_out (by omega)]
      exact h4 q hq
  · by_cases e : i' = i
    · subst e
      rw [ov_win (by omega), Nat.sub_self]
      unfold ov
      split
      · rename_i z
        show _ = (dirL t (dirT t) base ((dirT t).getD i' 0)).getD q 0
        rw [Nat.sub_zero]
      · rename_i z
        rw [pz_hi (by omega)]
        show ov (ov f _ _) _ _ _ = 0
        rw [ov_out (by omega), ov_out (by omega)]
        exact h6 _ (by omega) (by omega)
    · rw [ov_out (by omega), ov_out (by omega), ov_out (by omega)]
      exact h5 i' (by omega) q hq
  · rw [ov_out (by omega), ov_out (by omega), ov_out (by omega)]
    exact h6 q (by omega) g2
/-- the tables' size and the mark at the end -/
theorem DI_end (ok : TOK n t) {base num : Nat} {f : Nat → Nat} (h : DI n t base (dirT t).length f) {v : Nat} (hv : v = (ptT t (dirT t) base true (dirT t).length).length) : ∀ j, j < 5 + (dirT t).length → ∀ q, q < 2048 →
    ov (ov (ov (ov f 132 (lowB 4 v ++ highB 4 v)) (2048 * (4 + (dirT t).length)) [77, 65, 82, 75]) (2048 * (4 + (dirT t).length) + 4) (lowB 4 base)) (2048 * (4 + (dirT t).length) + 8) (lowB 4 num) (2048 * j + q) = pz (pgS n t (dirT t) base num j) q := by
  obtain ⟨h1, h2, h3, h4, h5, h6⟩ := h
  intro j hj q hq
  have hl8 : (lowB 4 v ++ highB 4 v).length = 8 := by simp [lowB_len, highB_len]
  have hlb : (lowB 4 base).length = 4 := lowB_len _ _
  have hln : (lowB 4 num).length = 4 := lowB_len _ _
  have hm4 : ([77, 65, 82, 75] : List Nat).length = 4 := rfl
  by_cases e4 : j < 4 + (dirT t).length
  · rw [ov_out (by omega), ov_out (by omega), ov_out (by omega)]
    unfold pgS
    by_cases j0 : j = 0
    · subst j0
      rw [if_pos rfl, Nat.mul_zero, Nat.zero_add, ← D0_des (dirT t) base hv]
      unfold ov
      split
      · rfl
      · exact h1 q hq
    · rw [ov_out (by omega), if_neg j0]
      by_cases j1 : j = 1
      · subst j1
        rw [if_pos rfl]
        exact h2 q hq
      · rw [if_neg j1]
        by_cases j2 : j = 2
        · subst j2
          rw [if_pos rfl]
          exact h3 q hq
        · rw [if_neg j2]
          by_cases j3 : j = 3
          · subst j3
            rw [if_pos rfl]
            exact h4 q hq
          · rw [if_neg j3, if_pos e4, show 2048 * j + q = 8192 + 2048 * (j - 4) + q by omega]
            exact h5 (j - 4) (by omega) q hq
  · have ej : j = 4 + (dirT t).length := by omega
    subst ej
    unfold pgS
    rw [if_neg (by omega), if_neg (by omega), if_neg (by omega), if_neg (by omega), if_neg (by omega)]
    rw [ov_app (f := ov f 132 (lowB 4 v ++ highB 4 v)) (p := 2048 * (4 + (dirT t).length)) (q := 2048 * (4 + (dirT t).length) + 4) (a := [77, 65, 82, 75]) (b := lowB 4 base) rfl]
    rw [ov_app (f := ov f 132 (lowB 4 v ++ highB 4 v)) (p := 2048 * (4 + (dirT t).length)) (q := 2048 * (4 + (dirT t).length) + 8) (a := [77, 65, 82, 75] ++ lowB 4 base) (b := lowB 4 num) (by simp [lowB_len])]
    rw [ov_win (Nat.le_refl _), Nat.sub_self, List.append_assoc]
    unfold ov
    split
    · rw [Nat.sub_zero]; rfl
    · rename_i z
      rw [pz_hi (by omega)]
      show ov f _ _ _ = 0
      rw [ov_out (by omega)]
      exact h6 _ (by omega) (by omega)
end
