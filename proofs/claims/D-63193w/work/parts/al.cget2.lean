/-! the class: tree and marks, answered or thrown -/
section
variable {S' : Prop} {W : Nat → Prop} {D n : Nat} {σ σ0 σ' τ υ : Hp} {x md od q la r r' m c c' : Nat} {t t' : TT} {rf : Nat → Nat} {O F F0 F' : List FT} {S S2 : AS} {B St : Nat → Nat} {Df : Nat → Bool}
theorem C_treeR (hj : CJ D σ x md od q S) (ok : AOK S) {v w : Int32} {o : Int32} (e : opTree S v w = some o) {post : Int32 → Prop} (k : post o) : wX1_tree x v w σ post := by
  obtain ⟨hf, hz, hx, hb, hp, hmd, hod, ⟨rf, c, ht, htz⟩, hr⟩ := id hj
  have hT := ok.2.1
  unfold opTree at e
  unfold wX1_tree wX1_tree_L26 wX1_tree_L27
  rw [hx.2.2.2.2.2.1]
  refine ⟨hx.1, ht.1, ?_⟩
  rcases nodeOf_cases hT v with ⟨d, hd, ev, en⟩ | ⟨hno, en⟩
  · subst ev
    rw [en] at e
    simp only at e
    refine c_findK ht hT hd (fun tg => ⟨fun w => absurd tg (by rw [w, hf.2.2.1]; decide), fun _ => ?_⟩)
    rw [i5]
    obtain ⟨n0, n1, n2, n3, n4, n5, n6, -⟩ := ht.2.2.2 d hd
    have dm := mem_tL.mp hd
    have dd := root_D hT dm.1 dm.2
    have hs : tS (sT S) d ≤ 409600 ∧ (tS (sT S) d = 0 → tX (sT S) d = 0) := by
      rcases Nat.eq_zero_or_pos d with e0 | e0
      · rw [e0, hT.2.1.2.2.2.2.1, hT.2.1.2.2.2.2.2.2]; exact ⟨by omega, fun _ => rfl⟩
      · have := hT.2.2.2.1 d e0 dm.1 dm.2
        exact ⟨this.2.2.2.1, this.2.2.2.2.2.2.1⟩
    refine c_in (by omega) (fun j hj' ev ej => ⟨fun y => absurd y (by decide), fun _ => c_needR ?_⟩) (fun ej => by rw [ej] at e; cases e)
    rw [ej] at e
    cases e
    rw [ev, n2, n3, n4, n5, n6]
    simp (disch := omega) only [li_0, li_1, nI_eq, nI_eq32, show (2 : Int32) = nI 2 from rfl, show (3 : Int32) = nI 3 from rfl] at k ⊢
    refine ⟨fun a => ⟨fun b => ⟨fun c => ⟨fun d => ⟨n0, fun z => ?_, fun z => ?_⟩, fun d => ⟨n0, ?_⟩⟩, fun c => ⟨n0, ?_⟩⟩, fun b => ⟨n0, fun d => ?_, fun d => ?_⟩⟩, fun a => ⟨n0, ?_⟩⟩
    · rw [nI_leI (by omega) (by omega)] at z
      rw [if_neg a, if_neg b, if_neg c, if_neg d, hs.2 (by omega)] at k; exact k
    · rw [if_neg a, if_neg b, if_neg c, if_neg d] at k; exact k
    · rw [if_neg a, if_neg b, if_neg c, if_pos d] at k; exact k
    · rw [if_neg a, if_neg b, if_pos c] at k; exact k
    · rw [if_neg a, if_pos b, if_neg (by omega)] at k; exact k
    · rw [if_neg a, if_pos b, if_pos (by omega)] at k; exact k
    · rw [if_pos a] at k; exact k
  · rw [en] at e; cases e
theorem C_treeT (hj : CJ D σ x md od q S) (ok : AOK S) {v w : Int32} (e : opTree S v w = none) (h1 : 1 ≤ bc_ σ) (h2 : 6 ≤ bs_ σ) {post : Hp → Prop} (k : ∀ σ', ET σ σ' → post σ') : wTX1_tree x v w σ post := by
  obtain ⟨hf, hz, hx, hb, hp, hmd, hod, ⟨rf, c, ht, htz⟩, hr⟩ := id hj
  have hT := ok.2.1
  unfold opTree at e
  unfold wTX1_tree wTX1_tree_L26 wTX1_tree_L27
  rw [hx.2.2.2.2.2.1]
  refine ⟨hx.1, ht.1, ?_⟩
  rcases nodeOf_cases hT v with ⟨d, hd, ev, en⟩ | ⟨hno, en⟩
  · subst ev
    rw [en] at e
    simp only at e
    refine c_findK ht hT hd (fun tg => ⟨fun w => absurd tg (by rw [w, hf.2.2.1]; decide), fun _ => ?_⟩)
    rw [i5]
    exact c_in (by omega) (fun j hj' ev ej => by rw [ej] at e; cases e) (fun ej => ⟨fun _ => Or.inl (t_need h1 h2 k), fun y => absurd rfl y⟩)
  · exact c_find ht v (fun d hd e _ => absurd e.symm (hno d hd)) (fun _ => ⟨fun _ => Or.inl (t_need h1 h2 k), fun w => absurd rfl w⟩)
theorem C_markT (hj : CJ D σ x md od q S) {v w : Int32} (e : opMark S v w = none) (h1 : 1 ≤ bc_ σ) (h2 : 6 ≤ bs_ σ) {post : Hp → Prop} (k : ∀ σ1 σ', CJ D σ1 x md od q S → Cf D x σ σ1 → ET σ1 σ' → post σ') : wTX1_mark x v w σ post := by
  unfold opMark at e
  unfold wTX1_mark wTX1_mark_L32 wTX1_mark_L33
  refine ⟨hj.2.2.1.1, c_marks hj (fun s3 j3 c3 m3 l3 s4 e4 => ?_)⟩
  have j4 : CJ D s4 x md od q S := by rw [e4]; exact j3.bu
  have c4 : Cf D x σ s4 := by rw [e4]; exact c3.bu
  have m4 : MkR s4 x (sM S) := by rw [e4]; exact m3
  have bc4 : bc_ s4 = bc_ σ := by rw [e4]; rfl
  have bs4 : bs_ s4 = bs_ σ := by rw [e4]; rfl
  have hn := j4.2.2.2.2.2.1.med.2.1
  have kk : ∀ σ', ET s4 σ' → post σ' := fun σ' h => k s4 σ' j4 c4 h
  rw [m4.1]
  refine ⟨j4.2.2.1.1, c_in (by omega) (fun i hi ev ei => ⟨fun y => absurd y (by decide), fun _ => ?_⟩) (fun ei => ⟨fun _ => Or.inl (t_need (by omega) (by omega) kk), fun y => absurd rfl y⟩)⟩
  rw [ei] at e
  simp only at e
  rw [i4]
  exact c_in (by omega) (fun j hj' ev ej => by rw [ej] at e; cases e) (fun ej => ⟨fun _ => Or.inl (t_need (by omega) (by omega) kk), fun y => absurd rfl y⟩)
theorem C_markR (hj : CJ D σ x md od q S) {v w : Int32} {o : Int32} (e : opMark S v w = some o) (h1 : 35 ≤ bc_ σ) (h2 : 266 ≤ bs_ σ) {post : Int32 → Hp → Prop} (k : ∀ σ', CJ D σ' x md od q S → Cf D x σ σ' → post o σ') : wX1_mark x v w σ post := by
  unfold opMark at e
  unfold wX1_mark wX1_mark_L32 wX1_mark_L33
  refine ⟨hj.2.2.1.1, c_marks hj (fun s3 j3 c3 m3 l3 s4 e4 => ?_)⟩
  have j4 : CJ D s4 x md od q S := by rw [e4]; exact j3.bu
  have c4 : Cf D x σ s4 := by rw [e4]; exact c3.bu
  have m4 : MkR s4 x (sM S) := by rw [e4]; exact m3
  have bc4 : bc_ s4 = bc_ σ := by rw [e4]; rfl
  have bs4 : bs_ s4 = bs_ σ := by rw [e4]; rfl
  obtain ⟨hf, hz, hx, hb, hp, hmd, hod, ht, hr⟩ := id j4
  have hn := hmd.med.2.1
  rw [m4.1]
  refine ⟨hx.1, c_in (by omega) (fun i hi ev ei => ⟨fun y => absurd y (by decide), fun _ => ?_⟩) (fun ei => by rw [ei] at e; cases e)⟩
  rw [ei] at e
  simp only at e
  rw [i4]
  refine c_in (by omega) (fun j hj' ev' ej => ⟨fun y => absurd y (by decide), fun _ => c_needR ⟨hz.2.2.1, ?_, fun y3 h3 => ?_⟩⟩) (fun ej => by rw [ej] at e; cases e)
  · rw [ev, hz.2.2.2]; exact (vin_ (by omega)).mpr (by omega)
  rw [ej] at e
  cases e
  have hmk := mk_at hi
  have hs := hmk.1.1
  have hbs := hmk.2.2.2.2.2.1
  rw [ev, nI_clamp (by omega), m4.2 i hi] at h3
  subst h3
  generalize hgs : (sM S).getD i 0 = s at *
  rw [ev']
  simp (disch := omega) only [li_0, nI_eq, nI_leI, show nI 4 - 1 = nI 3 from by decide]
  refine ⟨fun a => ?_, fun a => ⟨fun b => ?_, fun b => ?_⟩⟩
  · rw [if_neg (by omega), if_neg (by omega), if_neg (by omega)] at k
    obtain ⟨hc18, ⟨m2, F2, c2, hS2⟩, _⟩ := id hr
    have hmr : md + 3 < x + 22 := by have := hz.2.1; omega
    rw [hx.2.2.2.2.2.2.2.1, hx.2.2.2.1]
    refine ⟨hx.1, hS2.1.1, c_begin hf hS2 hmd hmr hz.1.2.2 (fun s7 H7 b7 b7' s8 e8 => ?_)⟩
    have H8 : BR D s4 s8 (x + 22) md (sN S) (sB S) (sSt S) (sDf S) [] c2 := by rw [e8]; exact H7.bu
    obtain ⟨j8', cf8⟩ := j4.rd (Or.inr (Or.inl rfl)) hS2 H8.2 H8.1.1 (hr.rd22 hf hS2 H8.2 H8.1.2.1)
    have j8 : CJ D s8 x md od q S := j8'
    have x8 := j8.2.2.1
    refine ⟨x8.1, c_base j8 hs ⟨35, 266, by rw [e8]; show 35 ≤ bc_ s4; omega, by rw [e8]; show 266 ≤ bs_ s4; omega, ?_⟩⟩
    rw [x8.2.2.2.2.2.2.2.1]
    have fin : ∀ (F : List FT) (c' : Nat) (s16 s17 : Hp), BR D s8 s16 (x + 22) md (sN S) (sB S) (sSt S) (sDf S) F c' → s17 = bu_ s16 (bc_ s8 - 35) (bs_ s8 - 266) → CJ D s17 x md od q S ∧ Cf D x σ s17 := by
      intro F c' s16 s17 H16 e17
      have H17 : BR D s8 s17 (x + 22) md (sN S) (sB S) (sSt S) (sDf S) F c' := by rw [e17]; exact H16.bu
      obtain ⟨g1, g2⟩ := j8.rd (Or.inr (Or.inl rfl)) H8.1.2.1 H17.2 H17.1.1 ((j8.2.2.2.2.2.2.2.2).rd22 j8.1 H8.1.2.1 H17.2 H17.1.2.1)
      exact ⟨g1, c4.trans (cf8.trans g2)⟩
    refine c_says1 (σ := bu_ s8 35 266) H8.1 (by omega) (Nat.le_refl _) (Nat.le_refl _) (fun F c' s16 e16 H16 ok16 s17 e17 => ?_) (fun w F c' s16 e16 w16 H16 s17 e17 => ?_)
    · have hrd : sRd S s = .inr F := e16
      rw [hrd] at k
      obtain ⟨g1, g2⟩ := fin F c' s16 s17 H16 e17
      exact k s17 g1 g2
    · have hrd : sRd S s = .inl w := e16
      rw [hrd] at k
      obtain ⟨g1, g2⟩ := fin F c' s16 s17 H16 e17
      exact k s17 g1 g2
  · rw [hx.2.2.2.1, nI_l (by omega), nI_l (by omega), show (2048 : Int64) = lN 2048 from rfl, lN_mul, show (4 : Int64) = lN 4 from rfl, lN_mul, lN_add, Nat.mul_comm]
    refine ⟨hx.1, hmd.tag, c_mlow hmd (k := 4) (by decide) (by omega) ?_⟩
    have : j = 1 ∨ j = 2 := by omega
    rcases this with rfl | rfl
    · rw [if_neg (by omega), if_pos rfl] at k; exact k s4 j4 c4
    · rw [if_neg (by omega), if_neg (by omega), if_pos rfl] at k; exact k s4 j4 c4
  · rw [if_pos b] at k; exact k s4 j4 c4
end
