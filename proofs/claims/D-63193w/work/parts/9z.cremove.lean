/-! the class: a node is removed -/
theorem map_er {f : Nat → Nat} : ∀ (l : List Nat) (i : Nat), (l.map f).eraseIdx i = (l.eraseIdx i).map f
  | [], _ => by simp
  | a :: l, 0 => by simp
  | a :: l, i + 1 => by simp [map_er l i]
theorem tL_rem {t : TT} {k : Nat} : tL (tRem t k) = (tL t).eraseIdx ((tL t).idxOf k) := by
  rw [← List.erase_eq_eraseIdx_of_idxOf rfl, (tL_nodup t).erase_eq_filter]
  show (List.range (tN t)).filter (upA (tT t) k false) = ((List.range (tN t)).filter (tT t)).filter (fun x => x != k)
  rw [List.filter_filter]
  apply List.filter_congr
  intro i _
  by_cases e : i = k
  · rw [e, upA_e]; simp
  · rw [upA_n e]; simp [e]
theorem tL_0 {n : Nat} {t : TT} (ok : TOK n t) : (tL t).getD 0 0 = 0 := by
  have h1 := ok.1.1
  have h2 := ok.2.1.1
  unfold tL
  obtain ⟨m, hm⟩ : ∃ m, tN t = m + 1 := ⟨tN t - 1, by omega⟩
  rw [hm, List.range_succ_eq_map, List.filter_cons, if_pos h2]
  rfl
section
variable {S' : Prop} {W : Nat → Prop} {D n : Nat} {σ σ' τ υ : Hp} {x md od q la r r' m c c' : Nat} {t t' : TT} {rf : Nat → Nat} {O F F' : List FT} {S S2 : AS}
theorem C_remove (h : CI D σ x S) (ok : AOK S) {v : Int32} {post : Int32 → Hp → Prop} (k : ∀ σ', CI D σ' x (opRemove S v).2 → Cf D x σ σ' → post (opRemove S v).1 σ') : wX1_remove x v σ post := by
  obtain ⟨md, od, q, hj⟩ := id h
  obtain ⟨hf, hz, hx, hb, hp, hmd, hod, ⟨rf, c, ht, htz⟩, hr⟩ := id hj
  have hT := ok.2.1
  unfold opRemove at k
  unfold wX1_remove
  rw [hx.2.1, hx.2.2.2.2.2.1, hp.2.2.2]
  have e0 : b2 (bLo (sBS S)) = 0 ↔ sLo S = false := b2_0
  rw [e0]
  refine ⟨hx.1, hp.1, fun lo => ⟨ht.1, ?_⟩, fun lo => ?_⟩
  rotate_left
  · have : sLo S = true := by cases hh : sLo S with | true => rfl | false => exact absurd hh lo
    rw [if_pos this] at k; exact k σ h Cf.refl
  rw [if_neg (by rw [lo]; decide)] at k
  rcases nodeOf_cases hT v with ⟨kk, hk, ev, en⟩ | ⟨hno, en⟩
  rotate_left
  · rw [en] at k
    exact c_find ht v (fun d hd e _ => absurd e.symm (hno d hd)) (fun _ => ⟨fun _ => k σ h Cf.refl, fun w => absurd rfl w⟩)
  rw [en] at k
  subst ev
  have lk := tL_lt hT hk
  refine c_findK ht hT hk (fun tg => ⟨fun w => ?_, fun _ => ?_⟩)
  · rw [w, hf.2.2.1] at tg; cases tg
  rw [li_0, nI_eq (by omega) (by decide)]
  refine ⟨fun w => ?_, fun w => c_empty ht hT (by omega) (fun hne => ⟨fun u => absurd rfl u, fun _ => ?_⟩) (fun hne => ⟨fun _ => ?_, fun u => absurd u (by decide)⟩)⟩
  · simp only [ic_t (show kk = 0 ∨ ∃ q ∈ tL (sT S), 0 < q ∧ tP (sT S) q = kk from Or.inl w)] at k
    exact k σ h Cf.refl
  · obtain ⟨p, hp1, hp2⟩ := hne
    have p0 : 0 < p := by
      rcases Nat.eq_zero_or_pos p with e | e
      · rw [e, hT.2.1.2.2.1] at hp2; omega
      · exact e
    simp only [ic_t (show kk = 0 ∨ ∃ q ∈ tL (sT S), 0 < q ∧ tP (sT S) q = kk from Or.inr ⟨p, hp1, p0, hp2⟩)] at k
    exact k σ h Cf.refl
  · have hc : ¬ (kk = 0 ∨ ∃ q ∈ tL (sT S), 0 < q ∧ tP (sT S) q = kk) := by
      rintro (e | ⟨p, hp1, _, hp2⟩)
      · exact w e
      · exact hne ⟨p, hp1, hp2⟩
    simp only [ic_f hc] at k
    have hls := ht.2.2.1
    have l30 := hT.1.2.2
    obtain ⟨i0, hi0⟩ : ∃ i0, i0 = (tL (sT S)).idxOf kk := ⟨_, rfl⟩
    have hi0L : i0 < (tL (sT S)).length := by rw [hi0]; exact List.idxOf_lt_length_of_mem hk
    have hi0e : (tL (sT S)).getD i0 0 = kk := by
      rw [List.getD_eq_getElem?_getD, List.getElem?_eq_getElem hi0L]
      subst hi0
      simp
    have hi0p : 0 < i0 := by
      rcases Nat.eq_zero_or_pos i0 with e | e
      · rw [e, tL_0 hT] at hi0e; exact absurd hi0e.symm w
      · exact e
    refine ⟨hls.1, l_size hls (fun y23 h23 => ?_)⟩
    rw [List.length_map, li_1, pk_sub (by omega)] at h23
    subst h23
    unfold wX1_remove_L57
    refine lpG2 (B := fun R y s => wX1_remove_B57 post R x (nI kk) y s) (fun j y s => y = nI j ∧ ((i0 ≤ j ∧ j < (tL (sT S)).length ∧ s = σ) ∨ (j < i0 ∧ CJ D s x md od q (wT S (tRem (sT S) kk)) ∧ TrA D s q (tRem (sT S) kk) rf c ∧ Cf D x σ s))) ((tL (sT S)).length - 1) ⟨rfl, Or.inl ⟨by omega, by omega, rfl⟩⟩ ?_
    rintro j y s R ⟨rfl, hs⟩ hR
    have hj30 : j < 31 := by rcases hs with z | z <;> omega
    unfold wX1_remove_B57 wX1_remove_L94
    rw [li_0, nI_leI (by omega) (by decide)]
    have nxt : ∀ y1 : Int32, y1 = nI j + (-1) → 0 < j → y1 = nI (j - 1) := fun y1 h1 h0 => by rw [h1, nI_dec h0]
    refine ⟨fun z => ?_, fun z => ?_⟩
    · rcases hs with u | ⟨u1, u2, u3, u4⟩
      · omega
      · exact k s ⟨md, od, q, u2⟩ u4
    rcases hs with ⟨u1, u2, rfl⟩ | ⟨u1, u2, u3, u4⟩
    · rw [hx.2.2.2.2.2.1]
      refine ⟨hx.1, ht.1, hls.1, l_get hls (by rw [List.length_map]; exact u2) (fun tg => ?_)⟩
      rw [gD_map u2] at tg ⊢
      have hm := ht.mem u2
      have lm := tL_lt hT hm
      rw [(ht.2.2.2 _ hm).2.1, nI_eq (by omega) (by omega)]
      refine ⟨Or.inr tg, tg, fun e y1 h1 => ?_, fun e => ?_⟩
      · have : i0 ≠ j := fun e2 => e (by rw [← e2]; exact hi0e)
        exact hR (j - 1) y1 s (by omega) ⟨nxt y1 h1 (by omega), Or.inl ⟨by omega, by omega, rfl⟩⟩
      · have ej : j = i0 := getD_inj (tL_nodup _) u2 hi0L (by rw [e, hi0e])
        subst ej
        refine l_remove hls hf (by rw [List.length_map]; exact u2) (Or.inl rfl) (fun _ s11 f11 k11 l11 r11 t11 n11 _ _ y1 h1 => ?_)
        have lq := hf.lt ht.1
        have q1 : ¬ WL s (fR_ s 4 0 q) q := by
          rintro (e | ⟨e, _⟩)
          · have := hls.1
            rw [← e, ht.1] at this; cases this
          · have := hls.2.2.1
            rw [← e, ht.1] at this; cases this
        have tr11 : TrA D s11 q (tRem (sT S) kk) rf c := by
          refine ⟨by rw [t11]; exact ht.1, by rw [k11.i lq q1 (by omega)]; exact ht.2.1, ?_, fun i hi => ?_⟩
          · rw [r11, tL_rem, ← hi0, ← map_er]; exact l11
          · have hi' : i ∈ tL (sT S) := by
              rw [tL_rem] at hi
              exact List.mem_of_mem_eraseIdx hi
            have nd := (ht.2.2.2 i hi').kp hf k11 (WL_WS hls hf) (fun z => ?_)
            · exact nd
            · have t6 := (ht.2.2.2 i hi').1
              rcases z with e | ⟨e, _⟩
              · rw [e, hls.1] at t6; cases t6
              · rw [e, hls.2.2.1] at t6; cases t6
        have tz11 : TZ D x s11 q (tRem (sT S) kk) rf := by
          obtain ⟨y1, y2, y3, y4⟩ := htz
          refine ⟨y1, by rw [r11]; exact y2, by rw [r11]; exact y3, fun i hi => y4 i ?_⟩
          rw [tL_rem] at hi
          exact List.mem_of_mem_eraseIdx hi
        obtain ⟨g1, g2⟩ := hj.tree ht htz (k11.mono (fun z => z) (fun z _ e => Or.inr (Or.inl e))) f11 ⟨rf, c, tr11, tz11⟩
        exact hR (j - 1) y1 s11 (by omega) ⟨nxt y1 h1 (by omega), Or.inr ⟨by omega, g1, tr11, g2⟩⟩
    · have x2 := u2.2.2.1
      have hl2 := u3.2.2.1
      have L2 : (tL (tRem (sT S) kk)).length = (tL (sT S)).length - 1 := by rw [tL_rem, ← hi0, List.length_eraseIdx, if_pos hi0L]
      rw [x2.2.2.2.2.2.1]
      refine ⟨x2.1, u3.1, hl2.1, l_get hl2 (by rw [List.length_map]; omega) (fun tg => ?_)⟩
      rw [gD_map (by omega)] at tg ⊢
      have hm := u3.mem (show j < (tL (tRem (sT S) kk)).length by omega)
      have eg : (tL (tRem (sT S) kk)).getD j 0 = (tL (sT S)).getD j 0 := by rw [tL_rem, ← hi0, getD_erase, if_pos u1]
      have hm' := ht.mem (show j < (tL (sT S)).length by omega)
      have lm := tL_lt hT hm'
      rw [(u3.2.2.2 _ hm).2.1, eg, nI_eq (by omega) (by omega)]
      rw [eg] at tg
      refine ⟨Or.inr tg, tg, fun e y1 h1 => hR (j - 1) y1 s (by omega) ⟨nxt y1 h1 (by omega), Or.inr ⟨by omega, u2, u3, u4⟩⟩, fun e => ?_⟩
      have : j = i0 := getD_inj (tL_nodup (sT S)) (by omega) hi0L (e.trans hi0e.symm)
      omega
end
