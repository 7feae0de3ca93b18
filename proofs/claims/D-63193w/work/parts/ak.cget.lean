/-! the class: what may be asked of what is open, of the tree; where it throws -/
/-- an exception was made, nothing else -/
def ET (σ σ' : Hp) : Prop := ∃ a b, σ' = bu_ (eT_ σ) a b
section
variable {S' : Prop} {W : Nat → Prop} {D n : Nat} {σ σ0 σ' τ υ : Hp} {x md od q la r r' m c c' : Nat} {t t' : TT} {rf : Nat → Nat} {O F F0 F' : List FT} {S S2 : AS} {B St : Nat → Nat} {Df : Nat → Bool}
theorem ET.bu {a b : Nat} (h : ET (bu_ σ a b) τ) : ET σ τ := by
  obtain ⟨u, v, e⟩ := h
  exact ⟨u, v, e⟩
theorem ET.bu2 {a b : Nat} (h : ET σ τ) : ET σ (bu_ τ a b) := by
  obtain ⟨u, v, e⟩ := h
  exact ⟨a, b, by rw [e]; rfl⟩
theorem ET.kp (h : ET σ τ) : Kp False (fun _ => False) σ τ := by
  obtain ⟨u, v, rfl⟩ := h
  exact ⟨rfl, Nat.le_succ _, fun _ _ => ⟨rfl, rfl⟩, fun _ _ _ => ⟨fun _ _ _ => rfl, fun _ _ => rfl, fun _ _ => rfl, fun _ => rfl, fun _ => rfl, fun _ => rfl⟩⟩
theorem ET.wf (h : ET σ τ) (hf : WF D σ) : WF D τ := by
  obtain ⟨u, v, rfl⟩ := h
  obtain ⟨h1, h2, h3, h4, h5, h6, h7, h8⟩ := hf
  exact ⟨fun r hr => Nat.lt_succ_of_lt (h1 r hr), Nat.lt_succ_of_lt h2, h3, h4, h5, h6, fun r hr => Nat.lt_succ_of_lt (h7 r hr), h8⟩
theorem t_need (h1 : 1 ≤ bc_ σ) (h2 : 6 ≤ bs_ σ) {post : Hp → Prop} (k : ∀ σ', ET σ σ' → post σ') : ∃ mc ms : Nat, mc ≤ bc_ σ ∧ ms ≤ bs_ σ ∧ wTX1_need 0 (bu_ σ mc ms) (fun τ => ∀ τ₂, τ₂ = bu_ τ (bc_ σ - mc) (bs_ σ - ms) → post τ₂) :=
  ⟨1, 6, h1, h2, rfl, Nat.le_refl _, Nat.le_refl _, fun τ₂ e => k τ₂ ⟨bc_ σ - 1, bs_ σ - 6, e⟩⟩
theorem c_needR {post : Prop} (k : post) : wX1_need 1 σ post := ⟨fun _ => k, fun h => absurd h (by decide)⟩
theorem c_openR (hj : CJ D σ x md od q S) {v : Int32} {i : Nat} (e : ixN v (sO S).length = some i) {post : Nat → Prop} (k : ∀ f, FoA σ f (gF (sO S) i) → i < (sO S).length → post f) : wX1_openNode x v σ post := by
  obtain ⟨hf, hz, hx, hb, hp, hmd, hod, ht, ⟨⟨c, h1⟩, _⟩⟩ := id hj
  have hl := h1.2.2.2.1
  have hlen := h1.2.2.2.2.2.2.2
  unfold wX1_openNode
  rw [hx.2.2.2.2.2.2.1, h1.1.2.1]
  refine ⟨hx.1, h1.1.1, hl.1, l_size hl ?_⟩
  rw [rfs_len]
  refine c_in (by omega) (fun j hj' ev ej => c_needR ?_) (fun ej => by rw [e] at ej; cases ej)
  rw [e] at ej
  cases ej
  rw [ev]
  refine l_get hl (by rw [rfs_len]; exact hj') (fun ht => ⟨Or.inr ht, ?_⟩)
  have hg : (rfs σ (x + 18) (sO S).length).getD i 0 = aR_ σ (x + 18 + 2) i := by
    unfold rfs
    rw [List.getD_eq_getElem?_getD, List.getElem?_map, List.getElem?_range hj']
    rfl
  rw [hg]
  exact k _ (h1.2.2.2.2.2.1 i hj') hj'
theorem c_openT (hj : CJ D σ x md od q S) {v : Int32} (e : ixN v (sO S).length = none) (h1 : 1 ≤ bc_ σ) (h2 : 6 ≤ bs_ σ) {post : Hp → Prop} (k : ∀ σ', ET σ σ' → post σ') : wTX1_openNode x v σ post := by
  obtain ⟨hf, hz, hx, hb, hp, hmd, hod, ht, ⟨⟨c, g1⟩, _⟩⟩ := id hj
  have hl := g1.2.2.2.1
  have hlen := g1.2.2.2.2.2.2.2
  unfold wTX1_openNode
  rw [hx.2.2.2.2.2.2.1, g1.1.2.1]
  refine ⟨hx.1, g1.1.1, hl.1, l_size hl ?_⟩
  rw [rfs_len]
  exact c_in (by omega) (fun j hj' ev ej => by rw [e] at ej; cases ej) (fun ej => Or.inl (t_need h1 h2 k))
theorem t_open (hj : CJ D σ x md od q S) {v : Int32} (e : ixN v (sO S).length = none) (h1 : 1 ≤ bc_ σ) (h2 : 6 ≤ bs_ σ) {post : Hp → Prop} (k : ∀ σ', ET σ σ' → post σ') : ∃ mc ms : Nat, mc ≤ bc_ σ ∧ ms ≤ bs_ σ ∧ wTX1_openNode x v (bu_ σ mc ms) (fun τ => ∀ τ₂, τ₂ = bu_ τ (bc_ σ - mc) (bs_ σ - ms) → post τ₂) :=
  ⟨1, 6, h1, h2, c_openT (hj.bu (a := 1) (b := 6)) e (Nat.le_refl _) (Nat.le_refl _) (fun σ' g τ₂ e2 => k τ₂ (by rw [e2]; exact g.bu.bu2))⟩
theorem i4 : (3 : Int32) = nI 4 - 1 := by decide
theorem i5 : (4 : Int32) = nI 5 - 1 := by decide
theorem C_nodeR (hj : CJ D σ x md od q S) (ok : AOK S) {v w : Int32} {o : Int32} (e : opNode S v w = some o) {post : Int32 → Prop} (k : post o) : wX1_node x v w σ post := by
  have hx0 := hj.2.2.1.1
  unfold opNode at e
  unfold wX1_node
  cases ei : ixN v (sO S).length with
  | none => rw [ei] at e; cases e
  | some i =>
    rw [ei] at e
    refine ⟨hx0, c_openR hj ei (fun f hf hi => ?_)⟩
    rw [i4]
    obtain ⟨f0, f1, f2, f3, f4, f5, f6⟩ := hf
    have od := (ok.2.2.2.2 i hi).1
    refine c_in (by omega) (fun j hj' ev ej => c_needR ?_) (fun ej => by simp only [ej] at e; cases e)
    simp only [ej] at e
    cases e
    rw [ev, f1, f3, f4, f5]
    simp (disch := omega) only [li_0, li_1, nI_eq, nI_eq32, show (2 : Int32) = nI 2 from rfl] at k ⊢
    refine ⟨fun a => ⟨fun b => ⟨fun c => ⟨f0, ?_⟩, fun c => ⟨f0, ?_⟩⟩, fun b => ⟨f0, fun d => ?_, fun d => ?_⟩⟩, fun a => ⟨f0, ?_⟩⟩
    · rw [if_neg a, if_neg b, if_neg c] at k; exact k
    · rw [if_neg a, if_neg b, if_pos c] at k; exact k
    · rw [if_neg a, if_pos b, if_neg (by omega)] at k; exact k
    · rw [if_neg a, if_pos b, if_pos (by omega)] at k; exact k
    · rw [if_pos a] at k; exact k
theorem C_nodeT (hj : CJ D σ x md od q S) {v w : Int32} (e : opNode S v w = none) (h1 : 1 ≤ bc_ σ) (h2 : 6 ≤ bs_ σ) {post : Hp → Prop} (k : ∀ σ', ET σ σ' → post σ') : wTX1_node x v w σ post := by
  have hx0 := hj.2.2.1.1
  unfold opNode at e
  unfold wTX1_node
  cases ei : ixN v (sO S).length with
  | none => exact ⟨hx0, Or.inl (t_open hj ei h1 h2 k)⟩
  | some i =>
    rw [ei] at e
    refine ⟨hx0, Or.inr (c_openR hj ei (fun f hf hi => ?_))⟩
    rw [i4]
    exact c_in (by omega) (fun j hj' ev ej => by simp only [ej] at e; cases e) (fun ej => Or.inl (t_need h1 h2 k))
theorem C_nameR (hj : CJ D σ x md od q S) {v : Int32} {o : Int64} (e : opName S v = some o) {post : Int64 → Prop} (k : post o) : wX1_name x v σ post := by
  have hx0 := hj.2.2.1.1
  unfold opName at e
  unfold wX1_name
  cases ei : ixN v (sO S).length with
  | none => rw [ei] at e; cases e
  | some i =>
    rw [ei] at e
    cases e
    refine ⟨hx0, c_openR hj ei (fun f hf hi => ⟨hf.1, ?_⟩)⟩
    rw [hf.2.2.2.2.2.2]
    exact k
theorem C_nameT (hj : CJ D σ x md od q S) {v : Int32} (e : opName S v = none) (h1 : 1 ≤ bc_ σ) (h2 : 6 ≤ bs_ σ) {post : Hp → Prop} (k : ∀ σ', ET σ σ' → post σ') : wTX1_name x v σ post := by
  have hx0 := hj.2.2.1.1
  unfold opName at e
  unfold wTX1_name
  cases ei : ixN v (sO S).length with
  | none => exact ⟨hx0, Or.inl (t_open hj ei h1 h2 k)⟩
  | some i => rw [ei] at e; cases e
theorem C_readR (hj : CJ D σ x md od q S) (ok : AOK S) {v w : Int32} {o : Int32} (e : opRead S v w = some o) {post : Int32 → Prop} (k : post o) : wX1_read x v w σ post := by
  obtain ⟨hf, hz, hx, hb, hp, hmd, hod, ht, hr⟩ := id hj
  have hn := hmd.med.2.1
  unfold opRead at e
  unfold wX1_read wX1_read_L31 wX1_read_L32
  cases ei : ixN v (sO S).length with
  | none => rw [ei] at e; cases e
  | some i =>
    rw [ei] at e
    simp only at e
    refine ⟨hx.1, c_openR hj ei (fun f hf hi => ?_)⟩
    obtain ⟨f0, f1, f2, f3, f4, f5, f6⟩ := hf
    have oo := ok.2.2.2.2 i hi
    obtain ⟨z1, z2, z3⟩ := FO_sz oo hn
    have od := oo.1
    rw [f5, f4, f3]
    simp (disch := omega) only [li_0, nI_eq, nI_eq32]
    refine ⟨f0, fun a => ?_, fun a => ?_⟩
    · rw [if_pos (by omega)] at e; cases e
    · rw [if_neg (by omega)] at e
      refine c_in (by omega) (fun j hj' ev ej => ⟨fun y => absurd y (by decide), fun _ => c_needR ⟨hx.1, f0, ?_⟩⟩) (fun ej => by rw [ej] at e; cases e)
      rw [ej] at e
      cases e
      rw [hx.2.2.2.1, ev, nI_l (by omega), nI_l (by omega), show (2048 : Int64) = lN 2048 from rfl, lN_mul, lN_add, Nat.mul_comm]
      exact ⟨hmd.tag, c_at hmd (by omega) k⟩
theorem C_readT (hj : CJ D σ x md od q S) (ok : AOK S) {v w : Int32} (e : opRead S v w = none) (h1 : 1 ≤ bc_ σ) (h2 : 6 ≤ bs_ σ) {post : Hp → Prop} (k : ∀ σ', ET σ σ' → post σ') : wTX1_read x v w σ post := by
  obtain ⟨hf, hz, hx, hb, hp, hmd, hod, ht, hr⟩ := id hj
  have hn := hmd.med.2.1
  unfold opRead at e
  unfold wTX1_read wTX1_read_L31 wTX1_read_L32
  cases ei : ixN v (sO S).length with
  | none => exact ⟨hx.1, Or.inl (t_open hj ei h1 h2 k)⟩
  | some i =>
    rw [ei] at e
    simp only at e
    refine ⟨hx.1, Or.inr (c_openR hj ei (fun f hf hi => ?_))⟩
    obtain ⟨f0, f1, f2, f3, f4, f5, f6⟩ := hf
    have oo := ok.2.2.2.2 i hi
    obtain ⟨z1, z2, z3⟩ := FO_sz oo hn
    have od := oo.1
    rw [f5, f4]
    simp (disch := omega) only [li_0, nI_eq, nI_eq32]
    refine ⟨f0, fun a => Or.inl (t_need h1 h2 k), fun a => ?_⟩
    rw [if_neg (by omega)] at e
    exact c_in (by omega) (fun j hj' ev ej => by rw [ej] at e; cases e) (fun ej => ⟨fun _ => Or.inl (t_need h1 h2 k), fun y => absurd rfl y⟩)
end
