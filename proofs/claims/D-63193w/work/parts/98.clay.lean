/-! the burner: directories get their places -/
def ocC (t : TT) (l : List Nat) : Nat := (l.map (fun d => 1 + (chl t d).length)).sum
def ocS (t : TT) (l : List Nat) : Nat := (l.map (fun d => 3 + 10 * (chl t d).length)).sum
def ocL (t : TT) (l : List Nat) : Nat := (l.map (fun d => (chl t d).length)).sum
/-- a session's places, as the nodes hold them -/
def SCn (σ : Hp) (rf : Nat → Nat) (tb : List Nat) (fr : Nat) : Prop := ∀ j, j < tb.length → fI_ σ 5 9 (rf (tb.getD j 0)) = nI (fr + j) ∧ fI_ σ 5 10 (rf (tb.getD j 0)) = nI 1 ∧ fI_ σ 5 11 (rf (tb.getD j 0)) = nI (j + 1)
section
variable {S : Prop} {W : Nat → Prop} {D n : Nat} {σ0 σ σ' τ : Hp} {x md od q : Nat} {t : TT} {rf : Nat → Nat} {c : Nat} {R : List Nat} {ct : Nat} {f : Nat → Nat} {b : BS} {Df : Nat → Bool} {Bo : Nat → Nat} {P : Nat → Prop}
theorem oc_eq : ∀ l : List Nat, ocC t l = l.length + ocL t l ∧ ocS t l = 3 * l.length + 10 * ocL t l
  | [] => ⟨rfl, rfl⟩
  | d :: l => by
    have h := oc_eq l
    unfold ocC ocS ocL at h ⊢
    simp only [List.map_cons, List.sum_cons, List.length_cons]
    omega
theorem ocL_le (ok : TOK n t) {l : List Nat} (h : l.Nodup) : ocL t l ≤ 29 := by
  have e : ocL t l = ((l.map (chl t)).flatten).length := by
    unfold ocL
    rw [List.length_flatten, List.map_map]; rfl
  have h0 : 0 ∈ tL t := mem_tL.mpr ⟨by have := ok.1.1; omega, ok.2.1.1⟩
  have hm : ∀ y, y ∈ (l.map (chl t)).flatten → y ∈ tL t ∧ 0 < y := by
    intro y hy
    obtain ⟨a, ha, hb⟩ := List.mem_flatten.mp hy
    obtain ⟨d, hd, rfl⟩ := List.mem_map.mp ha
    have := mem_chl.mp hb
    exact ⟨mem_tL.mpr this.1, this.2.1⟩
  have nd : ((l.map (chl t)).flatten).Nodup := by
    unfold List.Nodup
    rw [List.pairwise_flatten]
    refine ⟨fun a ha => ?_, ?_⟩
    · obtain ⟨d, hd, rfl⟩ := List.mem_map.mp ha
      exact (tL_nodup t).sublist (List.filter_sublist ..)
    · rw [List.pairwise_map]
      refine h.imp (fun {a b} hab y hy z hz e => hab ?_)
      have h1 := (mem_chl.mp hy).2.2
      have h2 := (mem_chl.mp hz).2.2
      rw [← h1, ← h2, e]
  have := len_sub (0 :: (l.map (chl t)).flatten) (tL t) (List.nodup_cons.mpr ⟨fun z => by have := (hm 0 z).2; omega, nd⟩) (fun y hy => by
    rcases List.mem_cons.mp hy with z | z
    · rw [z]; exact h0
    · exact (hm y z).1)
  have h30 := ok.1.2.2
  simp only [List.length_cons] at this
  omega
theorem oc_snoc (l : List Nat) (d : Nat) : ocC t (l ++ [d]) = ocC t l + (1 + (chl t d).length) ∧ ocS t (l ++ [d]) = ocS t l + (3 + 10 * (chl t d).length) := by
  unfold ocC ocS
  simp
theorem rf_inj (h : TrA D σ q t rf c) (ok : TOK n t) {i k : Nat} (hi : i ∈ tL t) (hk : k ∈ tL t) (e : rf i = rf k) : i = k := by
  have a1 := (h.2.2.2 i hi).2.1
  have a2 := (h.2.2.2 k hk).2.1
  rw [e, a2, nI_eq (by have := tL_lt ok hk; omega) (by have := tL_lt ok hi; omega)] at a1
  exact a1.symm
theorem SCn.kp {tb : List Nat} {fr : Nat} (h : SCn σ rf tb fr) (k : Kp False W σ τ) (hl : ∀ i ∈ tb, rf i < nx_ σ ∧ ¬ W (rf i)) : SCn τ rf tb fr := by
  intro j hj
  obtain ⟨l1, l2⟩ := hl _ (getD_mem hj)
  have e : ∀ c k', fI_ τ c k' (rf (tb.getD j 0)) = fI_ σ c k' (rf (tb.getD j 0)) := fun c k' => (k.2.2.2 _ l1 l2).1 c k' (fun z => z.elim)
  rw [e, e, e]; exact h j hj
theorem SCn.sI {tb : List Nat} {fr k' r : Nat} {v : Int32} (h : SCn σ rf tb fr) (hl : ∀ i ∈ tb, rf i ≠ r) : SCn (sI_ σ 5 k' r v) rf tb fr := by
  intro j hj
  have l1 := hl _ (getD_mem (d := 0) hj)
  rw [afI_sI, u3_r l1, u3_r l1, u3_r l1]; exact h j hj
theorem c_recSize {r : Nat} {l : List Nat} (hs : Str D σ r l) (hl : l.length ≤ 11) {post : Int32 → Prop} (k : post (nI (ev (33 + l.length)))) : wX3_recordSize r σ post := by
  unfold wX3_recordSize
  refine ⟨hs.1, s_length hs ?_⟩
  have key : ∀ m, m < 12 → (33 + nI m + 1) &&& (-2 : Int32) = nI (ev (33 + m)) := by decide
  rw [key _ (by omega)]; exact k
theorem c_fit {a s : Nat} (h1 : 1 ≤ s) (h : a + s ≤ 2048) {post : Int32 → Prop} (k : post (nI a)) : wX3_fit (nI a) (nI s) σ post := by
  unfold wX3_fit
  rw [li_2048, li_1, nI_add, pk_sub (by omega), pk_div (by omega) (by decide) (by decide), pk_div (by omega) (by decide) (by decide), Nat.div_eq_of_lt (by omega), Nat.div_eq_of_lt (by omega)]
  exact ⟨fun z => absurd rfl z, fun _ => k⟩
theorem tI_len (ok : TOK n t) {k : Nat} (hk : k ∈ tL t) : (tI t k).length ≤ 11 := by
  have h := (nm_b ok (mem_tL.mp hk).1 (mem_tL.mp hk).2).1
  unfold tI idb
  split
  · omega
  · simp; omega
theorem spC_le (h : capOK ct) : spC ct ≤ 4 ∧ spS ct ≤ 80 ∧ (ct < 33 → spC ct ≤ 3 ∧ spS ct + capN ct ≤ 80) := by
  unfold capOK at h
  rcases h with e | e | e | e | e <;> subst e <;> decide
/-- one more goes into the table -/
theorem c_tbAdd (F : BF D σ0 σ x n md od q t rf c R ct f b Df Bo P) {k' : Nat} (hk : k' ∈ tL t) (hlen : R.length < 33) (h2 : ct < 33 → R.length = ct → 1 ≤ bc_ σ ∧ capN ct ≤ bs_ σ) {post : Int32 → Hp → Prop}
    (k : ∀ σ' ct', BF D σ0 σ' x n md od q t rf c (R ++ [rf k']) ct' f b Df Bo P → Kp False (WL σ (x + 3)) σ σ' → bc_ σ' + spC ct' = bc_ σ + spC ct → bs_ σ' + spS ct' = bs_ σ + spS ct → post 1 σ') :
    ∃ mc ms : Nat, mc ≤ bc_ σ ∧ ms ≤ bs_ σ ∧ wJ2_add (x + 3) (rf k') (bu_ σ mc ms) (fun r' σ' => ∀ σ'', σ'' = bu_ σ' (bc_ σ - mc) (bs_ σ - ms) → post r' σ'') := by
  obtain ⟨hf, hx, hb, hp, hpg, hmd, hod, htr, htz, htb, ok, hD⟩ := id F.1
  have cok := htb.1.2.2.2.2.1
  have hcl : R.length ≤ ct := htb.1.2.2.2.2.2.2.1
  have gg : g1A R ct ≤ bc_ σ ∧ g2A R ct ≤ bs_ σ ∧ bc_ σ - g1A R ct + spC (capA R ct) = bc_ σ + spC ct ∧ bs_ σ - g2A R ct + spS (capA R ct) = bs_ σ + spS ct := by
    unfold g1A g2A capA
    by_cases ec : R.length = ct
    · rw [if_pos ec, if_pos ec, if_pos ec]
      obtain ⟨u1, u2, u3, u4⟩ := sp_grow cok (by omega)
      have := h2 (by omega) ec
      omega
    · rw [if_neg ec, if_neg ec, if_neg ec]
      omega
  refine l_addC htb.1 hf (htr.2.2.2 k' hk).1 (Or.inl rfl) hlen gg.1 gg.2.1 (fun s1 hA v1 v2 => k s1 (capA R ct) (F.tb hA.1 hA.2.1 hA.2.2.1 hA.2.2.2.1) hA.2.1 (by omega) (by omega))
end
