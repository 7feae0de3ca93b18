/-! ROWS over the picture -/
/-- what a walk has at hand -/
def CX_ (G : GG_) (p : Program) (s : State) (m : MethodId) (args : Array Value) (c : Code) (cc : ByteArray) (nL : Nat) (own : String) : Prop := CallFix p m c cc nL s args lw_all own ∧ G.1.WarmedH s.vm ∧ GOK_ G
/-- the purse -/
def BU_ (R : Room) (σ : Hp) (cells slots : Nat) : Prop := cells + bc_ σ ≤ R.cells ∧ slots + bs_ σ ≤ R.slots
def dv_ (ty : FieldType) : Value := match kd_ ty with
  | 0 => .int 0
  | 1 => .long 0
  | _ => .null
section
variable {p : Program} {l : Launch} {e : Env} {R : Room} {s : State} {m : MethodId} {args : Array Value} {below : List Frame} {meth : Method} {c : Code} {H : Heap} {locs : List Loc} {cells slots : Nat} {Q : State → Prop}
variable {cc : ByteArray} {pc : Nat} {ls : Array Slot} {rest : List Value} {G : GG_} {σ : Hp} {nL : Nat} {own : String}
theorem p_g (X : CX_ G p s m args c cc nL own) {ci N k r : Nat} {C : String} {T : u_T} {ty : Nat → FieldType} (cf : CF_ ci C T N ty) (hk : k < N) (hP : Pic_ G σ H) (ht : tg_ σ r = ci + 1) {ref : String} {index : Nat}
    (hl : Cond.fieldLink own index ref (T k).2.1 (T k).2.2.1 ∈ lw_all) (hsame : ∀ x, s.fieldFound? (T k).1 (T k).2.1 (T k).2.2.1 = some x → s.fieldFound? ref (T k).2.1 (T k).2.2.1 = some x) (hdg : decode cc pc = .ok (.getfield index, 3))
    (kk : W p l e R s m args below meth c H locs cells slots Q (F0 m (pc + 3) ls (fv_ σ ci k r (kd_ (ty k)) :: rest))) : W p l e R s m args below meth c H locs cells slots Q (F0 m pc ls (rv_ r :: rest)) := by
  obtain ⟨⟨hx, hb, -, hown, hts⟩, hW, hG⟩ := X
  obtain ⟨q, rfl⟩ := Pic_tag hP ht
  obtain ⟨hc, hin, hty, hnm⟩ := cf
  obtain ⟨cell, q1, q2, q3, q4⟩ := hP.2.2.2.2.2.1 q ci _ hc ht
  obtain ⟨hS, hfc, kC, hkC, hkind⟩ := u_Kn_moved hW.alike (hG.2.1 ci _ hc)
  obtain ⟨cf', kf, fi, f, hi, hsl⟩ := hS k hk
  refine W.getf hx hb hown (hts _ hl) (hsame _ hi) (u_facts hfc hkC (u_lays hts hin hk) hi).1 q1 q3.1 (v := fv_ σ ci k (q + 1) (kd_ (ty k))) ?_ rfl rfl hdg kk
  rw [hsl]
  exact q4 k hk
theorem p_gI (X : CX_ G p s m args c cc nL own) {ci N k r : Nat} {C : String} {T : u_T} {ty : Nat → FieldType} (cf : CF_ ci C T N ty) (hk : k < N) (hkd : kd_ (ty k) = 0) (hP : Pic_ G σ H) (ht : tg_ σ r = ci + 1) {ref : String} {index : Nat}
    (hl : Cond.fieldLink own index ref (T k).2.1 (T k).2.2.1 ∈ lw_all) (hsame : ∀ x, s.fieldFound? (T k).1 (T k).2.1 (T k).2.2.1 = some x → s.fieldFound? ref (T k).2.1 (T k).2.2.1 = some x) (hdg : decode cc pc = .ok (.getfield index, 3))
    (kk : W p l e R s m args below meth c H locs cells slots Q (F0 m (pc + 3) ls (.int (fI_ σ ci k r) :: rest))) : W p l e R s m args below meth c H locs cells slots Q (F0 m pc ls (rv_ r :: rest)) :=
  p_g X cf hk hP ht hl hsame hdg (by rw [hkd]; exact kk)
theorem p_gL (X : CX_ G p s m args c cc nL own) {ci N k r : Nat} {C : String} {T : u_T} {ty : Nat → FieldType} (cf : CF_ ci C T N ty) (hk : k < N) (hkd : kd_ (ty k) = 1) (hP : Pic_ G σ H) (ht : tg_ σ r = ci + 1) {ref : String} {index : Nat}
    (hl : Cond.fieldLink own index ref (T k).2.1 (T k).2.2.1 ∈ lw_all) (hsame : ∀ x, s.fieldFound? (T k).1 (T k).2.1 (T k).2.2.1 = some x → s.fieldFound? ref (T k).2.1 (T k).2.2.1 = some x) (hdg : decode cc pc = .ok (.getfield index, 3))
    (kk : W p l e R s m args below meth c H locs cells slots Q (F0 m (pc + 3) ls (.long (fL_ σ ci k r) :: rest))) : W p l e R s m args below meth c H locs cells slots Q (F0 m pc ls (rv_ r :: rest)) :=
  p_g X cf hk hP ht hl hsame hdg (by rw [hkd]; exact kk)
theorem p_gR (X : CX_ G p s m args c cc nL own) {ci N k r : Nat} {C : String} {T : u_T} {ty : Nat → FieldType} (cf : CF_ ci C T N ty) (hk : k < N) (hkd : kd_ (ty k) = 2) (hP : Pic_ G σ H) (ht : tg_ σ r = ci + 1) {ref : String} {index : Nat}
    (hl : Cond.fieldLink own index ref (T k).2.1 (T k).2.2.1 ∈ lw_all) (hsame : ∀ x, s.fieldFound? (T k).1 (T k).2.1 (T k).2.2.1 = some x → s.fieldFound? ref (T k).2.1 (T k).2.2.1 = some x) (hdg : decode cc pc = .ok (.getfield index, 3))
    (kk : W p l e R s m args below meth c H locs cells slots Q (F0 m (pc + 3) ls (rv_ (fR_ σ ci k r) :: rest))) : W p l e R s m args below meth c H locs cells slots Q (F0 m pc ls (rv_ r :: rest)) :=
  p_g X cf hk hP ht hl hsame hdg (by rw [hkd]; exact kk)
theorem p_ow (hP : Pic_ G σ H) {r t : Nat} (ht : tg_ σ r = t) (ho : ow_ t = true) : lo_ σ < r := hP.2.2.2.2.2.2.2.2.1 r (by rw [ht]; exact ho)
/-- putfield, any kind -/
theorem p_p (X : CX_ G p s m args c cc nL own) {ci N k r : Nat} {C : String} {T : u_T} {ty : Nat → FieldType} (cf : CF_ ci C T N ty) (hk : k < N) (hP : Pic_ G σ H) (ht : tg_ σ r = ci + 1) (hlo : lo_ σ < r) {ref : String} {index : Nat} {v : Value} {σ' : Hp}
    (hl : Cond.fieldLink own index ref (T k).2.1 (T k).2.2.1 ∈ lw_all) (hsame : ∀ x, s.fieldFound? (T k).1 (T k).2.1 (T k).2.2.1 = some x → s.fieldFound? ref (T k).2.1 (T k).2.2.1 = some x)
    (hfin : (T k).2.2.2 = false ∨ ((T k).2.2.2 = true ∧ meth.name = "<init>" ∧ (T k).1 = own)) (hn : narrow (ty k) v = v) (hfit : fits (ty k) v = true)
    (e1 : tg_ σ' = tg_ σ) (e2 : ln_ σ' = ln_ σ) (e3 : aI_ σ' = aI_ σ) (e4 : aL_ σ' = aL_ σ) (e5 : aR_ σ' = aR_ σ) (e6 : nx_ σ' = nx_ σ) (e7 : lo_ σ' = lo_ σ) (hne : ∀ c' k' r' kd, r' ≠ r → fv_ σ' c' k' r' kd = fv_ σ c' k' r' kd)
    (hv : ∀ j, j < N → fv_ σ' ci j r (kd_ (ty j)) = updV (fun j => fv_ σ ci j r (kd_ (ty j))) k v j) (hdg : decode cc pc = .ok (.putfield index, 3))
    (kk : ∀ (H1 : Heap) (locs1 : List Loc), Pic_ G σ' H1 → LO_ G locs1 → W p l e R s m args below meth c H1 locs1 cells slots Q (F0 m (pc + 3) ls rest)) (hL : LO_ G locs) : W p l e R s m args below meth c H locs cells slots Q (F0 m pc ls (v :: rv_ r :: rest)) := by
  obtain ⟨⟨hx, hb, -, hown, hts⟩, hW, hG⟩ := X
  obtain ⟨q, rfl⟩ := Pic_tag hP ht
  obtain ⟨hc, hin, hty, hnm⟩ := cf
  obtain ⟨cell, q1, q2, q3, q4⟩ := hP.2.2.2.2.2.1 q ci _ hc ht
  have hKn := u_Kn_moved hW.alike (hG.2.1 ci _ hc)
  obtain ⟨hS, hfc, kC, hkC, hkind⟩ := hKn
  obtain ⟨cf', kf, fi, f, hi, hsl⟩ := hS k hk
  have hap : ∀ x y, x < N → y < N → x ≠ y → (G.2.2.2.1 ci) x ≠ (G.2.2.2.1 ci) y := by
    intro x y hx' hy hne'
    obtain ⟨_, _, _, fa, hia, ea⟩ := hS x hx'
    obtain ⟨_, _, _, fb, hib, eb⟩ := hS y hy
    rw [← ea, ← eb]
    refine u_apart (u_lays hts hin hx') (u_lays hts hin hy) hia hib ?_
    rw [(State.fieldFound?_type hia (hty x hx')).1, (State.fieldFound?_type hib (hty y hy)).1]
    exact hnm x hx' y hy hne'
  have hlo' : G.1.heap.size ≤ q := by
    have h3 := hP.2.2.1
    rw [h3] at hlo
    exact Nat.le_of_lt_succ hlo
  have hst := (u_facts hfc hkC (u_lays hts hin hk) hi).1
  have hlay := hts _ (hin _ (u_in_lay hk))
  unfold u_lay at hlay
  have fin : ∀ H' : Heap, H'[q]? = some (cell.setSlot f.slot v) → H'.size = H.size → (∀ p, p ≠ q → H'[p]? = H[p]?) → Pic_ G σ' H' := by
    intro H' g1 g2 g3
    rw [hsl] at g1
    refine Pic_put hP hc ht hlo' e1 e2 e3 e4 e5 e6 e7 g2 g3 (fun c' k' r' kd h => hne c' k' r' kd h) ?_
    exact OB_.to (V := updV (fun j => fv_ σ ci j (q + 1) (kd_ (ty j))) k v) ⟨_, g1, q2, q3, t_set q4 hap hk v⟩ (fun j hj => (hv j hj).symm)
  rcases hfin with hf | ⟨hf, hnm', hdecl⟩
  · rw [if_neg (by rw [hf]; decide)] at hlay
    have h6 := u_store hfc hkC hkind hlay hi (hty k hk) hn hfit
    refine W.putK hx hb (f := f) ⟨hown, hts _ hl, ⟨_, _, _, hsame _ hi⟩, hst⟩ (by rw [q2]; exact h6) q1 (q3.2.2 hlo') (by rw [hsl]; exact k2_hasslot (q4 k hk)) rfl rfl hdg fun H' g1 g2 g3 => ?_
    exact kk H' _ (fin H' g1 g2 g3) (LO_add hL hlo')
  · rw [if_pos hf] at hlay
    have hcf : m.cls = cf' := by
      obtain ⟨_, _, c', _, _, _, -, -, hf', -, -, -, hown2, -⟩ := Cond.laysFinal_spec hlay
      have e1 : c' = cf' := by have := hi.symm.trans hf'; simp at this; exact this.1.symm
      rw [hdecl] at hown2
      rw [← e1]; exact Option.some.inj (hown.symm.trans hown2)
    have h6 := u_fits hfc hkC hkind (Or.inr hlay) hi (hty k hk) hn hfit
    refine W.putFinK hx hb hown (hts _ hl) (hsame _ hi) hst hcf hnm' (by rw [q2]; exact h6) q1 (q3.2.2 hlo') (by rw [hsl]; exact k2_hasslot (q4 k hk)) rfl rfl hdg fun H' g1 g2 g3 => ?_
    exact kk H' _ (fin H' g1 g2 g3) (LO_add hL hlo')
theorem p_pI (X : CX_ G p s m args c cc nL own) {ci N k r : Nat} {C : String} {T : u_T} {ty : Nat → FieldType} (cf : CF_ ci C T N ty) (hk : k < N) (hkd : kd_ (ty k) = 0) (hP : Pic_ G σ H) (hL : LO_ G locs) (ht : tg_ σ r = ci + 1) (hlo : lo_ σ < r) {ref : String} {index : Nat} {v : Int32}
    (hl : Cond.fieldLink own index ref (T k).2.1 (T k).2.2.1 ∈ lw_all) (hsame : ∀ x, s.fieldFound? (T k).1 (T k).2.1 (T k).2.2.1 = some x → s.fieldFound? ref (T k).2.1 (T k).2.2.1 = some x)
    (hfin : (T k).2.2.2 = false ∨ ((T k).2.2.2 = true ∧ meth.name = "<init>" ∧ (T k).1 = own)) (hn : narrow (ty k) (.int v) = .int v) (hfit : fits (ty k) (.int v) = true) (hdg : decode cc pc = .ok (.putfield index, 3))
    (kk : ∀ (H1 : Heap) (locs1 : List Loc), Pic_ G (sI_ σ ci k r v) H1 → LO_ G locs1 → W p l e R s m args below meth c H1 locs1 cells slots Q (F0 m (pc + 3) ls rest)) : W p l e R s m args below meth c H locs cells slots Q (F0 m pc ls (.int v :: rv_ r :: rest)) := by
  refine p_p X cf hk hP ht hlo (v := .int v) (σ' := sI_ σ ci k r v) hl hsame hfin hn hfit rfl rfl rfl rfl rfl rfl rfl ?_ ?_ hdg kk hL
  · intro c' k' r' kd h
    match kd with
    | 0 => show Value.int (u3_ _ _ _ _ _ _ _ _) = _; rw [u3_ne h]; rfl
    | 1 => rfl
    | _ + 2 => rfl
  · intro j hj
    by_cases hjk : j = k
    · subst hjk
      rw [hkd]
      show Value.int (u3_ _ _ _ _ _ _ _ _) = _
      simp [u3_, updV]
    · simp only [updV, hjk, if_false]
      match kd_ (ty j) with
      | 0 => show Value.int (u3_ _ _ _ _ _ _ _ _) = Value.int _; simp [u3_, hjk, fI_]
      | 1 => rfl
      | _ + 2 => rfl
theorem p_pL (X : CX_ G p s m args c cc nL own) {ci N k r : Nat} {C : String} {T : u_T} {ty : Nat → FieldType} (cf : CF_ ci C T N ty) (hk : k < N) (hkd : kd_ (ty k) = 1) (hP : Pic_ G σ H) (hL : LO_ G locs) (ht : tg_ σ r = ci + 1) (hlo : lo_ σ < r) {ref : String} {index : Nat} {v : Int64}
    (hl : Cond.fieldLink own index ref (T k).2.1 (T k).2.2.1 ∈ lw_all) (hsame : ∀ x, s.fieldFound? (T k).1 (T k).2.1 (T k).2.2.1 = some x → s.fieldFound? ref (T k).2.1 (T k).2.2.1 = some x)
    (hfin : (T k).2.2.2 = false ∨ ((T k).2.2.2 = true ∧ meth.name = "<init>" ∧ (T k).1 = own)) (hn : narrow (ty k) (.long v) = .long v) (hfit : fits (ty k) (.long v) = true) (hdg : decode cc pc = .ok (.putfield index, 3))
    (kk : ∀ (H1 : Heap) (locs1 : List Loc), Pic_ G (sL_ σ ci k r v) H1 → LO_ G locs1 → W p l e R s m args below meth c H1 locs1 cells slots Q (F0 m (pc + 3) ls rest)) : W p l e R s m args below meth c H locs cells slots Q (F0 m pc ls (.long v :: rv_ r :: rest)) := by
  refine p_p X cf hk hP ht hlo (v := .long v) (σ' := sL_ σ ci k r v) hl hsame hfin hn hfit rfl rfl rfl rfl rfl rfl rfl ?_ ?_ hdg kk hL
  · intro c' k' r' kd h
    match kd with
    | 0 => rfl
    | 1 => show Value.long (u3_ _ _ _ _ _ _ _ _) = _; rw [u3_ne h]; rfl
    | _ + 2 => rfl
  · intro j hj
    by_cases hjk : j = k
    · subst hjk
      rw [hkd]
      show Value.long (u3_ _ _ _ _ _ _ _ _) = _
      simp [u3_, updV]
    · simp only [updV, hjk, if_false]
      match kd_ (ty j) with
      | 0 => rfl
      | 1 => show Value.long (u3_ _ _ _ _ _ _ _ _) = Value.long _; simp [u3_, hjk, fL_]
      | _ + 2 => rfl
theorem p_pR (X : CX_ G p s m args c cc nL own) {ci N k r : Nat} {C : String} {T : u_T} {ty : Nat → FieldType} (cf : CF_ ci C T N ty) (hk : k < N) (hkd : kd_ (ty k) = 2) (hP : Pic_ G σ H) (hL : LO_ G locs) (ht : tg_ σ r = ci + 1) (hlo : lo_ σ < r) {ref : String} {index : Nat} {v : Nat}
    (hl : Cond.fieldLink own index ref (T k).2.1 (T k).2.2.1 ∈ lw_all) (hsame : ∀ x, s.fieldFound? (T k).1 (T k).2.1 (T k).2.2.1 = some x → s.fieldFound? ref (T k).2.1 (T k).2.2.1 = some x)
    (hfin : (T k).2.2.2 = false ∨ ((T k).2.2.2 = true ∧ meth.name = "<init>" ∧ (T k).1 = own)) (hdg : decode cc pc = .ok (.putfield index, 3))
    (kk : ∀ (H1 : Heap) (locs1 : List Loc), Pic_ G (sR_ σ ci k r v) H1 → LO_ G locs1 → W p l e R s m args below meth c H1 locs1 cells slots Q (F0 m (pc + 3) ls rest)) : W p l e R s m args below meth c H locs cells slots Q (F0 m pc ls (rv_ v :: rv_ r :: rest)) := by
  have hn : narrow (ty k) (rv_ v) = rv_ v ∧ fits (ty k) (rv_ v) = true := by
    cases hty : ty k with
    | object C => cases v <;> exact ⟨rfl, rfl⟩
    | array t => cases v <;> exact ⟨rfl, rfl⟩
    | _ => rw [hty] at hkd; simp [kd_] at hkd
  refine p_p X cf hk hP ht hlo (v := rv_ v) (σ' := sR_ σ ci k r v) hl hsame hfin hn.1 hn.2 rfl rfl rfl rfl rfl rfl rfl ?_ ?_ hdg kk hL
  · intro c' k' r' kd h
    match kd with
    | 0 => rfl
    | 1 => rfl
    | _ + 2 => show rv_ (u3_ _ _ _ _ _ _ _ _) = _; rw [u3_ne h]; rfl
  · intro j hj
    by_cases hjk : j = k
    · subst hjk
      rw [hkd]
      show rv_ (u3_ _ _ _ _ _ _ _ _) = _
      simp [u3_, updV]
    · simp only [updV, hjk, if_false]
      match kd_ (ty j) with
      | 0 => rfl
      | 1 => rfl
      | _ + 2 => show rv_ (u3_ _ _ _ _ _ _ _ _) = rv_ _; simp [u3_, hjk, fR_]
/-! arrays -/
theorem p_arr (hP : Pic_ G σ H) {r t : Nat} (ht : tg_ σ r = t) (h1 : 100 ≤ t) (h2 : t ≤ 105) : ∃ q, r = q + 1 ∧ AR_ G H q t (ln_ σ r) (av_ σ t r) := by
  obtain ⟨q, rfl⟩ := Pic_tag (t := t - 1) hP (r := r) (by omega)
  exact ⟨q, rfl, hP.2.2.2.2.2.2.1 q t h1 h2 ht⟩
theorem p_lt {i : Int32} {n : Nat} (h : vp_in i n) : i.toNatClampNeg < n := Nat.not_le.mp fun q => h (Or.inr q)
theorem p_iald (X : CX_ G p s m args c cc nL own) (hP : Pic_ G σ H) {r : Nat} {i : Int32} (ht : tg_ σ r = 102) (hin : vp_in i (ln_ σ r)) (hdg : decode cc pc = .ok (.iaload, 1))
    (kk : W p l e R s m args below meth c H locs cells slots Q (F0 m (pc + 1) ls (.int (aI_ σ r i.toNatClampNeg) :: rest))) : W p l e R s m args below meth c H locs cells slots Q (F0 m pc ls (.int i :: rv_ r :: rest)) := by
  obtain ⟨⟨hx, hb, -⟩, hW, -⟩ := X
  obtain ⟨q, rfl, cell, g1, g2, g3, g4, g5, -⟩ := p_arr hP ht (by decide) (by decide)
  exact W.iald (v := .int (aI_ σ (q + 1) i.toNatClampNeg)) hx hb g1 (State.isArrayOf_alike hW.alike g2) g3 (g4.inn hin) (g5 _ (p_lt hin)) rfl rfl hdg kk
theorem p_bald (X : CX_ G p s m args c cc nL own) (hP : Pic_ G σ H) {r : Nat} {i : Int32} (ht : tg_ σ r = 100) (hin : vp_in i (ln_ σ r)) (hdg : decode cc pc = .ok (.baload, 1))
    (kk : W p l e R s m args below meth c H locs cells slots Q (F0 m (pc + 1) ls (.int (aI_ σ r i.toNatClampNeg) :: rest))) : W p l e R s m args below meth c H locs cells slots Q (F0 m pc ls (.int i :: rv_ r :: rest)) := by
  obtain ⟨⟨hx, hb, -⟩, hW, -⟩ := X
  obtain ⟨q, rfl, cell, g1, g2, g3, g4, g5, -⟩ := p_arr hP ht (by decide) (by decide)
  exact W.bald (v := .int (aI_ σ (q + 1) i.toNatClampNeg)) hx hb g1 (State.isArrayOf_alike hW.alike g2) g3 (g4.inn hin) (g5 _ (p_lt hin)) rfl rfl hdg kk
theorem p_zald (X : CX_ G p s m args c cc nL own) (hP : Pic_ G σ H) {r : Nat} {i : Int32} (ht : tg_ σ r = 101) (hin : vp_in i (ln_ σ r)) (hdg : decode cc pc = .ok (.baload, 1))
    (kk : W p l e R s m args below meth c H locs cells slots Q (F0 m (pc + 1) ls (.int (aI_ σ r i.toNatClampNeg) :: rest))) : W p l e R s m args below meth c H locs cells slots Q (F0 m pc ls (.int i :: rv_ r :: rest)) := by
  obtain ⟨⟨hx, hb, -⟩, hW, -⟩ := X
  obtain ⟨q, rfl, cell, g1, g2, g3, g4, g5, -⟩ := p_arr hP ht (by decide) (by decide)
  exact W.zald (v := .int (aI_ σ (q + 1) i.toNatClampNeg)) hx hb g1 (State.isArrayOf_alike hW.alike g2) g3 (g4.inn hin) (g5 _ (p_lt hin)) rfl rfl hdg kk
theorem p_lald (X : CX_ G p s m args c cc nL own) (hP : Pic_ G σ H) {r : Nat} {i : Int32} (ht : tg_ σ r = 103) (hin : vp_in i (ln_ σ r)) (hdg : decode cc pc = .ok (.laload, 1))
    (kk : W p l e R s m args below meth c H locs cells slots Q (F0 m (pc + 1) ls (.long (aL_ σ r i.toNatClampNeg) :: rest))) : W p l e R s m args below meth c H locs cells slots Q (F0 m pc ls (.int i :: rv_ r :: rest)) := by
  obtain ⟨⟨hx, hb, -⟩, hW, -⟩ := X
  obtain ⟨q, rfl, cell, g1, g2, g3, g4, g5, -⟩ := p_arr hP ht (by decide) (by decide)
  exact W.lald (v := .long (aL_ σ (q + 1) i.toNatClampNeg)) hx hb g1 (State.isArrayOf_alike hW.alike g2) g3 (g4.inn hin) (g5 _ (p_lt hin)) rfl rfl hdg kk
theorem p_alen (X : CX_ G p s m args c cc nL own) (hP : Pic_ G σ H) {r t : Nat} (ht : tg_ σ r = t) (h1 : 100 ≤ t) (h2 : t ≤ 105) (hdg : decode cc pc = .ok (.arraylength, 1))
    (kk : W p l e R s m args below meth c H locs cells slots Q (F0 m (pc + 1) ls (.int (nI (ln_ σ r)) :: rest))) : W p l e R s m args below meth c H locs cells slots Q (F0 m pc ls (rv_ r :: rest)) := by
  obtain ⟨⟨hx, hb, -⟩, hW, -⟩ := X
  obtain ⟨q, rfl, cell, g1, g2, g3, g4, g5, -⟩ := p_arr hP ht h1 h2
  exact W.alen (n := nI (ln_ σ (q + 1))) hx hb g1 (State.isArrayOf_alike hW.alike g2) g4.2 rfl rfl hdg kk
/-- a cell's slot set: the array's description -/
theorem p_set {q t n i : Nat} {cell : Cell} {v : Value} {f f' : Nat → Value} {H1 : Heap} (g2 : G.1.isArrayOf cell (aty_ t)) (g3 : cell.vm ≠ .unknown) (g4 : SZ_ cell.slots.size n) (g5 : ∀ j, j < n → cell.slots[j]? = some (f j))
    (g6 : 104 ≤ t → G.1.vm.findClass ("[" ++ (aty_ t).toString) = some cell.cls ∧ ∃ (k : Class) (comp : ClassId), G.1.vm.classes[cell.cls]? = some k ∧ k.kind = .array comp (aty_ t) ∧ G.1.vm.findClass (aen_ t) = some comp)
    (h1 : H1[q]? = some (cell.setSlot i v)) (hf : f' i = v) (hfn : ∀ j, j ≠ i → f' j = f j) : AR_ G H1 q t n f' := by
  refine ⟨_, h1, g2, g3, ?_, fun j hj => ?_, g6⟩
  · show SZ_ (cell.slots.setIfInBounds i v).size n
    rw [Array.size_setIfInBounds]; exact g4
  · show (cell.slots.setIfInBounds i v)[j]? = some (f' j)
    by_cases hji : j = i
    · subst hji
      rw [hf, Array.getElem?_setIfInBounds_self, if_pos (Nat.lt_of_lt_of_le hj g4.1)]
    · rw [Array.getElem?_setIfInBounds_ne (fun h => hji h.symm), hfn j hji]
      exact g5 j hj
theorem p_iast (X : CX_ G p s m args c cc nL own) (hP : Pic_ G σ H) (hL : LO_ G locs) {r : Nat} {i x : Int32} (ht : tg_ σ r = 102) (hlo : lo_ σ < r) (hin : vp_in i (ln_ σ r)) (hdg : decode cc pc = .ok (.iastore, 1))
    (kk : ∀ (H1 : Heap) (locs1 : List Loc), Pic_ G (wI_ σ r i.toNatClampNeg x) H1 → LO_ G locs1 → W p l e R s m args below meth c H1 locs1 cells slots Q (F0 m (pc + 1) ls rest)) : W p l e R s m args below meth c H locs cells slots Q (F0 m pc ls (.int x :: .int i :: rv_ r :: rest)) := by
  obtain ⟨⟨hx, hb, -⟩, hW, -⟩ := X
  obtain ⟨q, rfl, cell, g1, g2, g3, g4, g5, g6⟩ := p_arr hP ht (by decide) (by decide)
  have hlo' : G.1.heap.size ≤ q := by rw [hP.2.2.1] at hlo; exact Nat.le_of_lt_succ hlo
  refine W.iast hx hb g1 (State.isArrayOf_alike hW.alike g2) g3 (g4.inn hin) rfl rfl hdg fun H1 e1 z oq => ?_
  refine kk H1 _ (Pic_ast hP (by decide) ht hlo' rfl rfl rfl rfl rfl rfl rfl z oq (fun t' r' j h => ?_) (p_set g2 g3 g4 g5 g6 e1 ?_ (fun j hj => ?_))) (LO_add hL hlo')
  · show (if t' ≤ 102 then Value.int (u2_ _ _ _ _ _ _) else _) = _; rw [u2_ne h]; rfl
  · show Value.int (u2_ _ _ _ _ _ _) = _; simp [u2_]
  · show Value.int (u2_ _ _ _ _ _ _) = Value.int _; simp [u2_, hj, aI_]
theorem p_bast (X : CX_ G p s m args c cc nL own) (hP : Pic_ G σ H) (hL : LO_ G locs) {r : Nat} {i x : Int32} (ht : tg_ σ r = 100) (hlo : lo_ σ < r) (hin : vp_in i (ln_ σ r)) (hdg : decode cc pc = .ok (.bastore, 1))
    (kk : ∀ (H1 : Heap) (locs1 : List Loc), Pic_ G (wI_ σ r i.toNatClampNeg (vp_nar .byte x)) H1 → LO_ G locs1 → W p l e R s m args below meth c H1 locs1 cells slots Q (F0 m (pc + 1) ls rest)) : W p l e R s m args below meth c H locs cells slots Q (F0 m pc ls (.int x :: .int i :: rv_ r :: rest)) := by
  obtain ⟨⟨hx, hb, -⟩, hW, -⟩ := X
  obtain ⟨q, rfl, cell, g1, g2, g3, g4, g5, g6⟩ := p_arr hP ht (by decide) (by decide)
  have hlo' : G.1.heap.size ≤ q := by rw [hP.2.2.1] at hlo; exact Nat.le_of_lt_succ hlo
  refine W.bast hx hb g1 (State.isArrayOf_alike hW.alike g2) g3 (g4.inn hin) rfl rfl hdg fun H1 e1 z oq => ?_
  refine kk H1 _ (Pic_ast hP (by decide) ht hlo' rfl rfl rfl rfl rfl rfl rfl z oq (fun t' r' j h => ?_) (p_set g2 g3 g4 g5 g6 e1 ?_ (fun j hj => ?_))) (LO_add hL hlo')
  · show (if t' ≤ 102 then Value.int (u2_ _ _ _ _ _ _) else _) = _; rw [u2_ne h]; rfl
  · show Value.int (u2_ _ _ _ _ _ _) = _; simp [u2_, vp_nar]; rfl
  · show Value.int (u2_ _ _ _ _ _ _) = Value.int _; simp [u2_, hj, aI_]
theorem p_zast (X : CX_ G p s m args c cc nL own) (hP : Pic_ G σ H) (hL : LO_ G locs) {r : Nat} {i x : Int32} (ht : tg_ σ r = 101) (hlo : lo_ σ < r) (hin : vp_in i (ln_ σ r)) (hdg : decode cc pc = .ok (.bastore, 1))
    (kk : ∀ (H1 : Heap) (locs1 : List Loc), Pic_ G (wI_ σ r i.toNatClampNeg (vp_nar .boolean x)) H1 → LO_ G locs1 → W p l e R s m args below meth c H1 locs1 cells slots Q (F0 m (pc + 1) ls rest)) : W p l e R s m args below meth c H locs cells slots Q (F0 m pc ls (.int x :: .int i :: rv_ r :: rest)) := by
  obtain ⟨⟨hx, hb, -⟩, hW, -⟩ := X
  obtain ⟨q, rfl, cell, g1, g2, g3, g4, g5, g6⟩ := p_arr hP ht (by decide) (by decide)
  have hlo' : G.1.heap.size ≤ q := by rw [hP.2.2.1] at hlo; exact Nat.le_of_lt_succ hlo
  refine W.zast hx hb g1 (State.isArrayOf_alike hW.alike g2) g3 (g4.inn hin) rfl rfl hdg fun H1 e1 z oq => ?_
  refine kk H1 _ (Pic_ast hP (by decide) ht hlo' rfl rfl rfl rfl rfl rfl rfl z oq (fun t' r' j h => ?_) (p_set g2 g3 g4 g5 g6 e1 ?_ (fun j hj => ?_))) (LO_add hL hlo')
  · show (if t' ≤ 102 then Value.int (u2_ _ _ _ _ _ _) else _) = _; rw [u2_ne h]; rfl
  · show Value.int (u2_ _ _ _ _ _ _) = _; simp [u2_, vp_nar]; rfl
  · show Value.int (u2_ _ _ _ _ _ _) = Value.int _; simp [u2_, hj, aI_]
theorem p_last (X : CX_ G p s m args c cc nL own) (hP : Pic_ G σ H) (hL : LO_ G locs) {r : Nat} {i : Int32} {x : Int64} (ht : tg_ σ r = 103) (hlo : lo_ σ < r) (hin : vp_in i (ln_ σ r)) (hdg : decode cc pc = .ok (.lastore, 1))
    (kk : ∀ (H1 : Heap) (locs1 : List Loc), Pic_ G (wL_ σ r i.toNatClampNeg x) H1 → LO_ G locs1 → W p l e R s m args below meth c H1 locs1 cells slots Q (F0 m (pc + 1) ls rest)) : W p l e R s m args below meth c H locs cells slots Q (F0 m pc ls (.long x :: .int i :: rv_ r :: rest)) := by
  obtain ⟨⟨hx, hb, -⟩, hW, -⟩ := X
  obtain ⟨q, rfl, cell, g1, g2, g3, g4, g5, g6⟩ := p_arr hP ht (by decide) (by decide)
  have hlo' : G.1.heap.size ≤ q := by rw [hP.2.2.1] at hlo; exact Nat.le_of_lt_succ hlo
  refine W.last hx hb g1 (State.isArrayOf_alike hW.alike g2) g3 (g4.inn hin) rfl rfl hdg fun H1 e1 z oq => ?_
  refine kk H1 _ (Pic_ast hP (by decide) ht hlo' rfl rfl rfl rfl rfl rfl rfl z oq (fun t' r' j h => ?_) (p_set g2 g3 g4 g5 g6 e1 ?_ (fun j hj => ?_))) (LO_add hL hlo')
  · show (if t' ≤ 102 then _ else if t' = 103 then Value.long (u2_ _ _ _ _ _ _) else _) = _; rw [u2_ne h]; rfl
  · show Value.long (u2_ _ _ _ _ _ _) = _; simp [u2_]
  · show Value.long (u2_ _ _ _ _ _ _) = Value.long _; simp [u2_, hj, aL_]
end
