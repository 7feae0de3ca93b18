/-! nodes and trees are made -/
/-- a node made since σ -/
def NewN (D : Nat) (σ σ' : Hp) (r : Nat) (num par : Int32) (d : Nat) (l : List Nat) : Prop := WF D σ' ∧ Kp False (fun _ => False) σ σ' ∧ tg_ σ' r = 6 ∧ nx_ σ ≤ r ∧ fI_ σ' 5 0 r = num ∧ fI_ σ' 5 1 r = nI d ∧ fI_ σ' 5 2 r = par ∧ (∀ k, 3 ≤ k → fI_ σ' 5 k r = 0) ∧ Str D σ' (fR_ σ' 5 6 r) l ∧ Str D σ' (fR_ σ' 5 7 r) (idb l d)
section
variable {S : Prop} {W : Nat → Prop} {D n : Nat} {σ0 σ σ' τ : Hp} {q c tk r : Nat} {t t' : TT} {rf : Nat → Nat} {R : List Nat}
theorem WF.bu (hf : WF D σ) {a b : Nat} : WF D (bu_ σ a b) := hf
theorem c_nnew (hf : WF D σ) {d s : Nat} {l : List Nat} (hd : d ≤ 1) (hD : d = 1 ∨ D < nx_ σ) (hs : Str D σ s l) (hl : l.length ≤ 8) (num par : Int32) {σ14 : Hp} (e14 : σ14 = mO_ σ 5 12) (h1 : 5 ≤ bc_ σ) (h2 : 47 ≤ bs_ σ) {P : Hp → Prop} (k : ∀ σ', NewN D σ σ' (nx_ σ) num par d l → bc_ σ' = bc_ σ - 5 → bs_ σ' = bs_ σ - 47 → P σ') :
    ∃ mc18 ms19 : Nat, (mc18 ≤ bc_ σ14 ∧ (ms19 ≤ bs_ σ14 ∧ (wX6_init (nx_ σ) num par (nI d) s (bu_ σ14 mc18 ms19) (fun σ22 => (∀ σ23, σ23 = bu_ σ22 (bc_ σ14 - mc18) (bs_ σ14 - ms19) → P σ23))))) := by
  have hlo := hf.2.1
  have b14 : bc_ σ14 = bc_ σ - 1 ∧ bs_ σ14 = bs_ σ - 12 := by rw [e14]; exact ⟨rfl, rfl⟩
  refine ⟨4, 35, by omega, by omega, ?_⟩
  unfold wX6_init
  have t14 : tg_ σ14 (nx_ σ) = 6 := by rw [e14, atg_mO, u1_e]
  have k14 : Kp False (fun _ => False) σ σ14 := by rw [e14]; exact Kp.mO' Kp.refl
  have f14 : WF D σ14 := by rw [e14]; exact hf.mO
  refine ⟨t14, fun s2 e2 s3 e3 => ⟨?_, fun s5 e5 => ⟨4, 35, by rw [e5, e3, e2]; exact Nat.le_refl _, by rw [e5, e3, e2]; exact Nat.le_refl _, ?_⟩⟩⟩
  · have : d = 0 ∨ d = 1 := by omega
    rcases this with z | z <;> rw [z] <;> exact ⟨rfl, rfl⟩
  have k5 : Kp False (fun _ => False) σ s5 := by
    rw [e5, e3, e2]
    exact Kp.sI' (Kp.sI' (Kp.sI' (Kp.bu' k14) (Or.inr (Or.inl (Nat.le_refl _)))) (Or.inr (Or.inl (Nat.le_refl _)))) (Or.inr (Or.inl (Nat.le_refl _)))
  have f5 : WF D s5 := by
    rw [e5, e3, e2]
    exact WF.sI (WF.sI (WF.sI (WF.bu f14) (by decide)) (by decide)) (by decide)
  have i5 : ∀ k, fI_ s5 5 k (nx_ σ) = if k = 1 then nI d else if k = 2 then par else if k = 0 then num else 0 := by
    intro k
    rw [e5, afI_sI]
    by_cases z : k = 1
    · rw [z, u3_e, if_pos rfl]
    · rw [u3_k z, if_neg z, e3, afI_sI]
      by_cases z2 : k = 2
      · rw [z2, u3_e, if_pos rfl]
      · rw [u3_k z2, if_neg z2, e2, afI_sI]
        by_cases z0 : k = 0
        · rw [z0, u3_e, if_pos rfl]
        · rw [u3_k z0, if_neg z0, afI_bu, e14, afI_mO, z3_e]
  have n5 : nx_ s5 = nx_ σ + 1 := by rw [e5, e3, e2, e14]; rfl
  have t5 : tg_ s5 (nx_ σ) = 6 := by rw [e5, e3, e2]; exact t14
  refine c_call (σ := bu_ s5 4 35) f5 (by show d = 1 ∨ D < nx_ s5; omega) t5 (d := d) (by show fI_ s5 5 1 _ = _; rw [i5]; rfl) hd (hs.kp hf k5 WS0) hl (Nat.le_refl _) (Nat.le_refl _) (fun s6 f6 k6 r6 g6 i6 s7 e7 s8 e8 => k s8 ?_ (by rw [e8]; show bc_ σ14 - 4 = _; omega) (by rw [e8]; show bs_ σ14 - 35 = _; omega))
  have k6' : Kp False (fun q => q = nx_ σ) s5 s6 := k6
  have kk : Kp False (fun _ => False) σ s6 := k5.trans k6' (fun q hq z => by omega)
  have i6' : ∀ k, fI_ s6 5 k (nx_ σ) = if k = 1 then nI d else if k = 2 then par else if k = 0 then num else 0 := fun k => (i6 5 k).trans (i5 k)
  rw [e8, e7]
  refine ⟨f6, kk, by show tg_ s6 _ = 6; rw [k6'.t (by omega)]; exact t5, Nat.le_refl _, by show fI_ s6 5 0 _ = _; rw [i6']; rfl, by show fI_ s6 5 1 _ = _; rw [i6']; rfl, by show fI_ s6 5 2 _ = _; rw [i6']; rfl, fun k hk => ?_, ?_, g6⟩
  · show fI_ s6 5 k _ = _
    rw [i6', if_neg (by omega), if_neg (by omega), if_neg (by omega)]
  · show Str D s6 (fR_ s6 5 6 (nx_ σ)) l
    rw [r6]; exact hs.kp hf kk WS0
/-- two trees say the same of node k -/
def sameN (t t' : TT) (k : Nat) : Prop := tD t' k = tD t k ∧ tP t' k = tP t k ∧ tM t' k = tM t k ∧ tS t' k = tS t k ∧ tE t' k = tE t k ∧ tX t' k = tX t k ∧ tW t' k = tW t k
theorem NdA.same {k : Nat} (h : NdA D σ r t k) (hs : sameN t t' k) : NdA D σ r t' k := by
  obtain ⟨b1, b2, b3, b4, b5, b6, b7⟩ := hs
  unfold NdA tI at h ⊢
  rw [b1, b2, b3, b4, b5, b6, b7]; exact h
/-- what adding to a tree may change -/
def WT (σ : Hp) (q : Nat) : Nat → Prop := fun p => p = q ∨ WL σ (fR_ σ 4 0 q) p
theorem WT_WS (h : TrA D σ q t rf c) (hf : WF D σ) : WS D σ (WT σ q) := by
  intro p hp
  rcases hp with e | e
  · subst e
    refine ⟨by rw [h.1]; decide, fun z => by rw [h.1] at z; omega, fun z => ?_⟩
    have := h.1
    rw [z, hf.2.2.1] at this; cases this
  · exact WL_WS h.2.2.1 hf p e
theorem WT_nd (h : TrA D σ q t rf c) {x : Nat} (hx : tg_ σ x = 6) : ¬ WT σ q x := by
  rintro (e | e | ⟨e, _⟩)
  · rw [e, h.1] at hx; cases hx
  · rw [e, h.2.2.1.1] at hx; cases hx
  · rw [e, h.2.2.1.2.2.1] at hx; cases hx
theorem c_tadd (hf : WF D σ) (h : TrA D σ q t rf c) {x k' : Nat} (hx : NdA D σ x t' k') (hL : tL t' = tL t ++ [k']) (hN : tN t' = k' + 1) (hs : ∀ k ∈ tL t, sameN t t' k) (hlen : (tL t).length < 33) (h1 : g1A ((tL t).map rf) c ≤ bc_ σ) (h2 : g2A ((tL t).map rf) c ≤ bs_ σ) {post : Hp → Prop}
    (k : ∀ σ', WF D σ' → Kp False (WT σ q) σ σ' → TrA D σ' q t' (upA rf k' x) (capA ((tL t).map rf) c) → fR_ σ' 4 0 q = fR_ σ 4 0 q → (fR_ σ' 10 1 (fR_ σ 4 0 q) = fR_ σ 10 1 (fR_ σ 4 0 q) ∨ nx_ σ ≤ fR_ σ' 10 1 (fR_ σ 4 0 q)) → post σ') : wX5_add q x σ post := by
  have hws := WT_WS h hf
  have hnx := WT_nd h hx.1
  obtain ⟨a1, a2, a3, a4⟩ := id h
  have hqn := hf.lt a1
  have hxn := hf.lt hx.1
  unfold wX5_add
  refine ⟨a1, a3.1, l_addC a3 hf hx.1 (Or.inl rfl) (by rw [List.length_map]; exact hlen) h1 h2 (fun s9 hA _ _ => ?_)⟩
  obtain ⟨b1, b2, b3, b4, b5⟩ := hA
  have q1 : ¬ WL σ (fR_ σ 4 0 q) q := by
    rintro (e | ⟨e, _⟩)
    · have := a3.1
      rw [← e, a1] at this; cases this
    · have := a3.2.2.1
      rw [← e, a1] at this; cases this
  have x1 : ¬ WL σ (fR_ σ 4 0 q) x := fun z => hnx (Or.inr z)
  refine ⟨by rw [b2.t hxn]; exact hx.1, by rw [b2.t hqn]; exact a1, fun s12 e12 => ?_⟩
  have k9 : Kp False (WT σ q) σ s9 := b2.mono (fun z => z) (fun _ _ z => Or.inr z)
  have kk : Kp False (WT σ q) σ s12 := by rw [e12]; exact Kp.sI' k9 (Or.inl (Or.inl rfl))
  have hnk : k' ∉ tL t := by
    have := tL_nodup t'
    rw [hL, List.nodup_append] at this
    intro z
    exact this.2.2 k' z k' (by simp) rfl
  have r12 : fR_ s12 = fR_ s9 := by rw [e12]; rfl
  have t12 : tg_ s12 = tg_ s9 := by rw [e12]; rfl
  have fq : fR_ s9 4 0 q = fR_ σ 4 0 q := b2.r hqn q1
  have i9 : fI_ s9 5 0 x = nI k' := by rw [b2.i hxn x1 (by omega)]; exact hx.2.1
  refine k s12 (by rw [e12]; exact b1.sI (by decide)) kk ⟨by rw [t12, b2.t hqn]; exact a1, ?_, ?_, fun k hk => ?_⟩ (by rw [r12]; exact fq) (by rw [r12]; exact b4)
  · rw [e12, afI_sI, u3_e, i9, li_1, nI_add, hN]
  · have hmap : (tL t').map (upA rf k' x) = (tL t).map rf ++ [x] := by
      rw [hL, List.map_append, List.map_cons, List.map_nil, upA_e]
      congr 1
      apply List.map_congr_left
      intro k hk
      exact upA_n (fun z => hnk (by rw [← z]; exact hk))
    rw [hmap, r12, fq]
    obtain ⟨c1, c2, c3, c4, c5, c6, c7, c8, c9, c10⟩ := b3
    rw [e12]
    refine ⟨c1, c2, c3, c4, c5, by rw [afI_sI, u3_c (by decide)]; exact c6, c7, c8, c9, c10⟩
  · rw [hL] at hk
    rcases List.mem_append.mp hk with z | z
    · have hne : k ≠ k' := fun e => hnk (by rw [← e]; exact z)
      rw [upA_n hne]
      exact ((a4 k z).kp hf kk hws (WT_nd h (a4 k z).1)).same (hs k z)
    · simp at z
      rw [z, upA_e]
      exact hx.kp hf kk hws hnx
end
