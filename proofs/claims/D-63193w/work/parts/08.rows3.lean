/-! ROWS, third: arrays of references, casts, constants, statics, arraycopy, class objects, calls of nest mates, of superclasses -/
/-- what may be stored in an array of kind t -/
def st_ (σ : Hp) (t v : Nat) : Prop := v = 0 ∨ ∃ ci, ci < 14 ∧ tg_ σ v = ci + 1 ∧ (t = 105 → ci = 9)
theorem st_0 {σ : Hp} {t : Nat} : st_ σ t 0 := Or.inl rfl
theorem st_o {σ : Hp} {v ci : Nat} (hc : ci < 14) (h : tg_ σ v = ci + 1) : st_ σ 104 v := Or.inr ⟨ci, hc, h, fun q => by cases q⟩
theorem cobj_ : ∀ (ci : Nat) (x : kC_), kcl[ci]? = some x → Cond.castable x.1 "java/lang/Object" ∈ lw_tbl
  | 0, _, h => by cases h; exact q1716
  | 1, _, h => by cases h; exact q1717
  | 2, _, h => by cases h; exact q1718
  | 3, _, h => by cases h; exact q1720
  | 4, _, h => by cases h; exact q1721
  | 5, _, h => by cases h; exact q1722
  | 6, _, h => by cases h; exact q1725
  | 7, _, h => by cases h; exact q1726
  | 8, _, h => by cases h; exact q1727
  | 9, _, h => by cases h; exact q1712
  | 10, _, h => by cases h; exact q1719
  | 11, _, h => by cases h; exact q1723
  | 12, _, h => by cases h; exact q1724
  | 13, _, h => by cases h; exact q1728
  | _ + 14, _, h => by cases h
theorem kcl_at : ∀ ci, ci < 14 → ∃ x, kcl[ci]? = some x := fun ci h => ⟨_, List.getElem?_eq_getElem (show ci < kcl.length from h)⟩
section
variable {p : Program} {l : Launch} {e : Env} {R : Room} {s : State} {m : MethodId} {args : Array Value} {below : List Frame} {meth : Method} {c : Code} {H : Heap} {locs : List Loc} {cells slots : Nat} {Q : State → Prop}
variable {cc : ByteArray} {pc : Nat} {ls : Array Slot} {rest : List Value} {G : GG_} {σ : Hp} {nL : Nat} {own : String}
theorem av_r {t r j : Nat} (h : 104 ≤ t) : av_ σ t r j = rv_ (aR_ σ r j) := by
  unfold av_
  rw [if_neg (by omega), if_neg (by omega)]
theorem aty_o {t : Nat} (h : 104 ≤ t) (h2 : t ≤ 105) : aty_ t = .object (aen_ t) := by
  have : t = 104 ∨ t = 105 := by omega
  rcases this with rfl | rfl <;> rfl
theorem p_aald (X : CX_ G p s m args c cc nL own) (hP : Pic_ G σ H) {r t : Nat} {i : Int32} (ht : tg_ σ r = t) (h1 : 104 ≤ t) (h2 : t ≤ 105) (hin : vp_in i (ln_ σ r)) (hdg : decode cc pc = .ok (.aaload, 1))
    (kk : W p l e R s m args below meth c H locs cells slots Q (F0 m (pc + 1) ls (rv_ (aR_ σ r i.toNatClampNeg) :: rest))) : W p l e R s m args below meth c H locs cells slots Q (F0 m pc ls (.int i :: rv_ r :: rest)) := by
  obtain ⟨⟨hx, hb, -⟩, hW, -⟩ := X
  obtain ⟨q, rfl, cell, g1, g2, g3, g4, g5, -⟩ := p_arr hP ht (by omega) h2
  rw [aty_o h1 h2] at g2
  exact W.aald (v := rv_ (aR_ σ (q + 1) i.toNatClampNeg)) hx hb g1 (State.isArrayOf_alike hW.alike g2) rfl g3 (g4.inn hin) (by rw [g5 _ (p_lt hin), av_r h1]) rfl rfl hdg kk
theorem p_asg (hG : GOK_ G) (hW : G.1.WarmedH s.vm) {ci t : Nat} {x : kC_} (hc : kcl[ci]? = some x) {comp : ClassId} (h1 : 104 ≤ t) (h2 : t ≤ 105) (hcomp : G.1.vm.findClass (aen_ t) = some comp) (h9 : t = 105 → ci = 9) : s.vm.assignable (G.2.2.1 ci) comp = true := by
  have hfc := (hG.2.1 ci x hc).2.1
  rw [hW.alike.assignable]
  by_cases h : t = 105
  · subst h
    have := h9 rfl
    subst this
    cases hc
    have e : G.1.vm.findClass (aen_ 105) = G.1.vm.findClass RX10 := rfl
    rw [e, hfc] at hcomp
    cases hcomp
    exact va_asg _ _
  · have h4 : t = 104 := by omega
    subst h4
    obtain ⟨c0, t0, f1, f2, f3⟩ := Cond.castable_spec (hG.1 _ (cobj_ ci x hc))
    rw [hfc] at f1
    cases f1
    have e : G.1.vm.findClass (aen_ 104) = G.1.vm.findClass "java/lang/Object" := rfl
    rw [e, f2] at hcomp
    cases hcomp
    exact f3
theorem p_aast (X : CX_ G p s m args c cc nL own) (hP : Pic_ G σ H) (hL : LO_ G locs) {r t v : Nat} {i : Int32} (ht : tg_ σ r = t) (h1 : 104 ≤ t) (h2 : t ≤ 105) (hlo : lo_ σ < r) (hin : vp_in i (ln_ σ r)) (hv : st_ σ t v) (hdg : decode cc pc = .ok (.aastore, 1))
    (kk : ∀ (H1 : Heap) (locs1 : List Loc), Pic_ G (wR_ σ r i.toNatClampNeg v) H1 → LO_ G locs1 → W p l e R s m args below meth c H1 locs1 cells slots Q (F0 m (pc + 1) ls rest)) : W p l e R s m args below meth c H locs cells slots Q (F0 m pc ls (rv_ v :: .int i :: rv_ r :: rest)) := by
  obtain ⟨⟨hx, hb, -⟩, hW, hG⟩ := X
  obtain ⟨q, rfl, cell, g1, g2, g3, g4, g5, g6⟩ := p_arr hP ht (by omega) h2
  have hlo' : G.1.heap.size ≤ q := by rw [hP.2.2.1] at hlo; exact Nat.le_of_lt_succ hlo
  have fin : ∀ H1 : Heap, H1[q]? = some (cell.setSlot i.toNatClampNeg (rv_ v)) → H1.size = H.size → (∀ p, p ≠ q → H1[p]? = H[p]?) → Pic_ G (wR_ σ (q + 1) i.toNatClampNeg v) H1 := by
    intro H1 e1 z oq
    refine Pic_ast hP (by omega) ht hlo' rfl rfl rfl rfl rfl rfl rfl z oq (fun t' r' j h => ?_) (p_set g2 g3 g4 g5 g6 e1 ?_ (fun j hj => ?_))
    · show (if t' ≤ 102 then _ else if t' = 103 then _ else rv_ (u2_ _ _ _ _ _ _)) = _; rw [u2_ne h]; rfl
    · rw [av_r h1]; show rv_ (u2_ _ _ _ _ _ _) = _; simp [u2_]
    · rw [av_r h1, av_r h1]; show rv_ (u2_ _ _ _ _ _ _) = rv_ _; simp [u2_, hj, aR_]
  have g2' := g2
  rw [aty_o h1 h2] at g2'
  rcases hv with rfl | ⟨ci, hci, htv, h9⟩
  · refine va_WaastN hx hb g1 (State.isArrayOf_alike hW.alike g2') g3 (g4.inn hin) rfl rfl hdg fun H1 e1 z oq => ?_
    exact kk H1 _ (fin H1 e1 z oq) (LO_add hL hlo')
  · obtain ⟨y, rfl⟩ := Pic_tag hP htv
    obtain ⟨x, hc⟩ := kcl_at ci hci
    obtain ⟨cv, k1, k2, k3, -⟩ := hP.2.2.2.2.2.1 y ci x hc htv
    obtain ⟨-, k, comp, f1, f2, f3⟩ := g6 h1
    obtain ⟨k', hk', he⟩ := hW.alike.2.2 _ _ f1
    obtain ⟨-, kC, hkC, -⟩ := u_Kn_moved hW.alike (hG.2.1 ci x hc)
    obtain ⟨kcomp, hkcomp, -⟩ := Vm.findClass_spec f3
    obtain ⟨kcomp', hkcomp', -⟩ := hW.alike.2.2 _ _ hkcomp
    have hin' : ¬ i < 0 ∧ i.toNatClampNeg < cell.slots.size := ⟨fun q => hin (Or.inl q), Nat.lt_of_lt_of_le (p_lt hin) g4.1⟩
    have kC2 := u_Kn_moved hW.alike (hG.2.1 ci x hc)
    obtain ⟨kC', hkC', -⟩ := kC2.2.2
    refine W.aast hx hb g1 g2.1 g3 hk' (by rw [he]; exact f2) (by rw [aty_o h1 h2]; rfl) hkcomp' hin' k1 (VmData.ne_statics_of k3.2.1) (by rw [k2]; exact hkC') (by rw [k2]; exact p_asg hG hW hc h1 h2 f3 h9) rfl rfl hdg fun H1 e1 z oq => ?_
    exact kk H1 _ (fin H1 e1 z oq) (LO_add hL hlo')
/-- a new array of references -/
theorem p_anew (X : CX_ G p s m args c cc nL own) {t index : Nat} {C : String} (h104 : 104 ≤ t) (h105 : t ≤ 105) (hC : aen_ t = C) (hclink : Cond.classLink own index C ∈ lw_all) (hover : Cond.arrayOver (.object C) ∈ lw_tbl) (hP : Pic_ G σ H) (hB : BU_ R σ cells slots) {n : Int32}
    (hn : ¬ n < 0) (hbig : n.toNatClampNeg ≤ 1000000) (h1 : 1 ≤ bc_ σ) (h2 : n.toNatClampNeg ≤ bs_ σ) (hdg : decode cc pc = .ok (.anewarray index, 3))
    (kk : ∀ (H1 : Heap), Pic_ G (mA_ σ t n.toNatClampNeg) H1 → BU_ R (mA_ σ t n.toNatClampNeg) (cells + 1) (slots + n.toNatClampNeg) → W p l e R s m args below meth c H1 locs (cells + 1) (slots + n.toNatClampNeg) Q (F0 m (pc + 3) ls (rv_ (nx_ σ) :: rest))) : W p l e R s m args below meth c H locs cells slots Q (F0 m pc ls (.int n :: rest)) := by
  obtain ⟨⟨hx, hb, -, hown, hts⟩, hW, hG⟩ := X
  have hnx := Pic_nx hP
  have hb1 : cells + 1 ≤ R.cells := by have := hB.1; omega
  have hb2 : slots + n.toNatClampNeg ≤ R.slots := by have := hB.2; omega
  have hov : (Cond.arrayOver (.object C)).before args s = true := va_AO.use (va_AO.moved hW.alike (va_AO.of (hG.1 _ hover)))
  refine W.anew hx hb hown (hts _ hclink) hov rfl hdg rfl hn (by omega) hb1 hb2 fun cA kA comp f1 f2 f3 f4 => ?_
  rw [show (Value.ref H.size :: rest) = (rv_ (nx_ σ) :: rest) by rw [hnx]; rfl]
  refine kk _ ?_ ⟨by show cells + 1 + (bc_ σ - 1) ≤ _; have := hB.1; omega, by show slots + n.toNatClampNeg + (bs_ σ - n.toNatClampNeg) ≤ _; have := hB.2; omega⟩
  generalize hH1 : H.push { cls := cA, slots := Array.replicate n.toNatClampNeg Value.null, vm := .none } = H1
  have z1 : H1.size = H.size + 1 := by rw [← hH1, Array.size_push]
  have e1 : H1[H.size]? = some { cls := cA, slots := Array.replicate n.toNatClampNeg Value.null, vm := .none } := by rw [← hH1, Array.getElem?_push_size]
  have o1 : ∀ q : Nat, q < H.size → H1[q]? = H[q]? := fun q hq => by rw [← hH1, Array.getElem?_push, if_neg (Nat.ne_of_lt hq)]
  obtain ⟨g1, g2, g3, g4, g5, g6, g7, g8, g9, g10⟩ := hP
  have tgn : ∀ r, r ≠ nx_ σ → tg_ (mA_ σ t n.toNatClampNeg) r = tg_ σ r := fun r h => by show u1_ _ _ _ _ = _; simp [u1_, h]
  have tgs : tg_ (mA_ σ t n.toNatClampNeg) (nx_ σ) = t := by show u1_ _ _ _ _ = _; simp [u1_]
  have lnn : ∀ r, r ≠ nx_ σ → ln_ (mA_ σ t n.toNatClampNeg) r = ln_ σ r := fun r h => by show u1_ _ _ _ _ = _; simp [u1_, h]
  have lns : ln_ (mA_ σ t n.toNatClampNeg) (nx_ σ) = n.toNatClampNeg := by show u1_ _ _ _ _ = _; simp [u1_]
  refine ⟨by rw [tgn 0 (by omega)]; exact g1, by show H1.size + 1 = nx_ σ + 1; omega, g3, by omega, fun q hq => (o1 q (by omega)).trans (g5 q hq), fun q => ?_, fun q => ?_, fun r hr => ?_, fun r hr => ?_, CS_to g10 (fun c' k => rfl)⟩
  · intro c' x' hc' ht'
    have := kcl_lt hc'
    by_cases hq : q + 1 = nx_ σ
    · rw [hq, tgs] at ht'
      omega
    · rw [tgn _ hq] at ht'
      have hlt : q < H.size := by have := g8 (q + 1) (by omega); omega
      exact (g6 q c' x' hc' ht').kept (o1 q hlt)
  · intro t' ht1 ht2 ht3
    by_cases hq : q + 1 = nx_ σ
    · rw [hq, tgs] at ht3
      subst ht3
      rw [hq, lns]
      have hqs : q = H.size := by omega
      subst hqs
      have hal := hW.alike.symm
      obtain ⟨kA', hkA', heA⟩ := hal.2.2 _ _ f2
      have fA : G.1.vm.findClass ("[" ++ (FieldType.object C).toString) = some cA := by rw [hal.findClass]; exact f1
      have fC : G.1.vm.findClass C = some comp := by rw [hal.findClass]; exact f4
      have ety : aty_ t = .object C := by rw [aty_o h104 h105, hC]
      refine ⟨_, e1, ?_, (fun h => by cases h), SZ_.eq (by simp), fun j hj => ?_, fun _ => ⟨by rw [ety]; exact fA, kA', comp, hkA', by rw [ety, heA]; exact f3, by rw [hC]; exact fC⟩⟩
      · rw [ety]
        exact ⟨(fun k h => by cases h), kA', hkA', comp, by rw [heA]; exact f3⟩
      · rw [av_r h104]
        show (Array.replicate n.toNatClampNeg Value.null)[j]? = some (rv_ (z2_ _ _ _ _ _))
        simp [z2_, hj, rv_]
    · rw [tgn _ hq] at ht3
      have hlt : q < H.size := by have := g8 (q + 1) (by omega); omega
      obtain ⟨cell, k1, k2, k3, k4, k5, k6⟩ := g7 q t' ht1 ht2 ht3
      refine ⟨cell, (o1 q hlt).trans k1, k2, k3, by rw [lnn _ hq]; exact k4, fun j hj => ?_, k6⟩
      rw [lnn _ hq] at hj
      rw [k5 j hj]
      show _ = some (if t' ≤ 102 then Value.int (z2_ _ _ _ _ _) else if t' = 103 then Value.long (z2_ _ _ _ _ _) else rv_ (z2_ _ _ _ _ _))
      simp [z2_, hq, av_]
  · show r < nx_ σ + 1
    by_cases hq : r = nx_ σ
    · omega
    · rw [tgn _ hq] at hr
      have := g8 r hr
      omega
  · show lo_ σ < r
    by_cases hq : r = nx_ σ
    · omega
    · rw [tgn _ hq] at hr
      exact g9 r hr
/-- checkcast to the class itself -/
theorem p_cast (X : CX_ G p s m args c cc nL own) {ci N : Nat} {C : String} {T : u_T} {ty : Nat → FieldType} (cf : CF_ ci C T N ty) (hP : Pic_ G σ H) {r index : Nat} (ht : r = 0 ∨ tg_ σ r = ci + 1) (hl : Cond.classLink own index C ∈ lw_all) (hdg : decode cc pc = .ok (.checkcast index, 3))
    (kk : W p l e R s m args below meth c H locs cells slots Q (F0 m (pc + 3) ls (rv_ r :: rest))) : W p l e R s m args below meth c H locs cells slots Q (F0 m pc ls (rv_ r :: rest)) := by
  rcases ht with rfl | ht
  · exact lv_castN X.1.1 X.1.2.1 hdg kk
  · obtain ⟨q, rfl⟩ := Pic_tag hP ht
    exact va_castS X.1.1 X.1.2.1 X.1.2.2.2.1 (X.1.2.2.2.2 _ hl) (u_Kn_moved X.2.1.alike (X.2.2.2.1 ci _ cf.1)).2 (p_recv hP X.2.1 X.2.2 cf ht) hdg kk
theorem p_inst (X : CX_ G p s m args c cc nL own) {ci N : Nat} {C : String} {T : u_T} {ty : Nat → FieldType} (cf : CF_ ci C T N ty) (hP : Pic_ G σ H) {r index : Nat} (ht : tg_ σ r = ci + 1) (hl : Cond.classLink own index C ∈ lw_all) (hdg : decode cc pc = .ok (.instanceof index, 3))
    (kk : W p l e R s m args below meth c H locs cells slots Q (F0 m (pc + 3) ls (.int 1 :: rest))) : W p l e R s m args below meth c H locs cells slots Q (F0 m pc ls (rv_ r :: rest)) := by
  obtain ⟨q, rfl⟩ := Pic_tag hP ht
  exact va_instS X.1.1 X.1.2.1 X.1.2.2.2.1 (X.1.2.2.2.2 _ hl) (u_Kn_moved X.2.1.alike (X.2.2.2.1 ci _ cf.1)).2 (p_recv hP X.2.1 X.2.2 cf ht) hdg kk
/-- a text constant -/
theorem p_ldcS (X : CX_ G p s m args c cc nL own) (hP : Pic_ G σ H) {j index : Nat} {tx : String} (hj : kst_[j]? = some (own, index, tx)) (hdg : decode cc pc = .ok (.ldc index, 2))
    (kk : W p l e R s m args below meth c H locs cells slots Q (F0 m (pc + 2) ls (rv_ (fR_ σ 101 j 0) :: rest))) : W p l e R s m args below meth c H locs cells slots Q (F0 m pc ls rest) := by
  have hlt : j < 9 := (List.getElem?_eq_some_iff.mp hj).1
  rw [hP.2.2.2.2.2.2.2.2.2.1 j hlt] at kk
  exact va_ldcS X.1.1 X.1.2.1 X.1.2.2.2.1 (vk_R.warm X.2.1 (X.2.2.2.2.2.1 j _ hj)) hdg kk
/-- a static, by what the law's start says of it -/
theorem p_gs (X : CX_ G p s m args c cc nL own) (hP : Pic_ G σ H) {C n d : String} {v : Value} {index : Nat} (hZ : va_Z C n d v (fun q => G.1.heap.size ≤ q) G.1 G.1.heap) (hl : Cond.fieldLink own index C n d ∈ lw_all) (hdg : decode cc pc = .ok (.getstatic index, 3))
    (kk : W p l e R s m args below meth c H locs cells slots Q (F0 m (pc + 3) ls (v :: rest))) : W p l e R s m args below meth c H locs cells slots Q (F0 m pc ls rest) := by
  obtain ⟨cf, kf, fi, f, a, cell, h1, h2, h3, h4, h5, h6, h7, h8⟩ := va_Z.moved X.2.1.alike hZ
  exact W.gets X.1.1 X.1.2.1 X.1.2.2.2.1 (X.1.2.2.2.2 _ hl) h1 h2 h3 h4 (by rw [hP.2.2.2.2.1 a (Nat.not_le.mp h8)]; exact h5) (fun e => by rw [e] at h6; cases h6) h7 rfl hdg kk
theorem p_gsC (X : CX_ G p s m args c cc nL own) (hP : Pic_ G σ H) {index : Nat} (hl : Cond.fieldLink own index "java/lang/String" "COMPACT_STRINGS" "Z" ∈ lw_all) (hdg : decode cc pc = .ok (.getstatic index, 3))
    (kk : W p l e R s m args below meth c H locs cells slots Q (F0 m (pc + 3) ls (.int 1 :: rest))) : W p l e R s m args below meth c H locs cells slots Q (F0 m pc ls rest) := p_gs X hP X.2.2.2.2.2.2.1 hl hdg kk
theorem p_gsE (X : CX_ G p s m args c cc nL own) (hP : Pic_ G σ H) {index : Nat} (hl : Cond.fieldLink own index "java/util/ArrayList" "DEFAULTCAPACITY_EMPTY_ELEMENTDATA" "[Ljava/lang/Object;" ∈ lw_all) (hdg : decode cc pc = .ok (.getstatic index, 3))
    (kk : W p l e R s m args below meth c H locs cells slots Q (F0 m (pc + 3) ls (rv_ (fR_ σ 100 1 0) :: rest))) : W p l e R s m args below meth c H locs cells slots Q (F0 m pc ls rest) := by
  rw [hP.2.2.2.2.2.2.2.2.2.2.2] at kk
  exact p_gs X hP X.2.2.2.2.2.2.2.1 hl hdg kk
theorem p_gsQ (X : CX_ G p s m args c cc nL own) (hP : Pic_ G σ H) {C n d : String} {index : Nat} (hZ : va_Zq C n d (fun q => G.1.heap.size ≤ q) G.1 G.1.heap) (hl : Cond.fieldLink own index C n d ∈ lw_all) (hdg : decode cc pc = .ok (.getstatic index, 3))
    (kk : ∀ r : Nat, W p l e R s m args below meth c H locs cells slots Q (F0 m (pc + 3) ls (rv_ r :: rest))) : W p l e R s m args below meth c H locs cells slots Q (F0 m pc ls rest) := by
  rcases hZ with h | ⟨t, h⟩
  · exact p_gs X hP h hl hdg (kk 0)
  · exact p_gs X hP h hl hdg (kk (t + 1))
/-- the class object of Object[] -/
theorem p_ldcM (X : CX_ G p s m args c cc nL own) (hP : Pic_ G σ H) {index : Nat} (hl : Cond.classLink own index "[Ljava/lang/Object;" ∈ lw_all) (hdg : decode cc pc = .ok (.ldc index, 2))
    (kk : W p l e R s m args below meth c H locs cells slots Q (F0 m (pc + 2) ls (rv_ (fR_ σ 100 0 0) :: rest))) : W p l e R s m args below meth c H locs cells slots Q (F0 m pc ls rest) := by
  rw [hP.2.2.2.2.2.2.2.2.2.2.1] at kk
  exact va_ldcM X.1.1 X.1.2.1 X.1.2.2.2.1 (X.1.2.2.2.2 _ hl) (va_Mi.moved X.2.1.alike X.2.2.2.2.2.2.2.2.1) hdg kk
theorem p_getC (X : CX_ G p s m args c cc nL own) (hP : Pic_ G σ H) {index r : Nat} (ht : tg_ σ r = 104) (hlink : Cond.methodLink own index ⟨"java/lang/Object", "getClass", "()Ljava/lang/Class;"⟩ ∈ lw_all) (hdecl : Cond.declares ⟨"java/lang/Object", "getClass", "()Ljava/lang/Class;"⟩ ∈ lw_tbl)
    (hsel : Cond.selects "[Ljava/lang/Object;" ⟨"java/lang/Object", "getClass", "()Ljava/lang/Class;"⟩ ⟨"java/lang/Object", "getClass", "()Ljava/lang/Class;"⟩ ∈ lw_all) (hinst : Cond.instanceMethod ⟨"java/lang/Object", "getClass", "()Ljava/lang/Class;"⟩ ∈ lw_all) (hnat : Cond.native ⟨"java/lang/Object", "getClass", "()Ljava/lang/Class;"⟩ ∈ lw_all) (hsize : ls.size = nL)
    (hframes : 1 ≤ R.frames) (hW8 : (rest.map fun v => v.category).sum ≤ 8) (hlocals : 22 ≤ R.locals) (hdg : decode cc pc = .ok (.invokevirtual index, 3))
    (kk : W p l e R s m args below meth c H locs cells slots Q (F0 m (pc + 3) ls (rv_ (fR_ σ 100 0 0) :: rest))) : W p l e R s m args below meth c H locs cells slots Q (F0 m pc ls (rv_ r :: rest)) := by
  obtain ⟨⟨hx, hb, hml, hown, hts⟩, hW, hG⟩ := X
  rw [hP.2.2.2.2.2.2.2.2.2.2.1] at kk
  obtain ⟨q, rfl, cell, g1, g2, g3, g4, g5, g6⟩ := p_arr hP ht (by decide) (by decide)
  have hcls : s.vm.findClass "[Ljava/lang/Object;" = some cell.cls := by
    rw [hW.alike.findClass]
    have h := (g6 (by decide)).1
    have e : "[" ++ (aty_ 104).toString = "[Ljava/lang/Object;" := by decide +kernel
    rw [e] at h
    exact h
  have hst : cell.vm.isStatics = false := by
    cases hv : cell.vm with
    | statics k => exact absurd hv (g2.1 k)
    | _ => rfl
  exact va_getC hx hb (by rw [hml, hsize]) hown (hts _ hlink) (va_Dc.use (va_Dc.moved hW.alike (va_Dc.of (hG.1 _ hdecl)))) (hts _ hsel) (hts _ hinst) (hts _ hnat) (va_Mi.moved hW.alike hG.2.2.2.2.2.2.1) ⟨cell, g1, hst, hcls⟩ hframes (by omega) hdg kk
end
/-- arraycopy: the cell behind it -/
theorem p_cpd {G : GG_} {q t n0 n1 sp dp n : Nat} {cs cd : Cell} {f g : Nat → Value} {H1 : Heap} (hs : ∀ j, j < n0 → cs.slots[j]? = some (f j)) (h4 : sp + n ≤ n0) (g2 : G.1.isArrayOf cd (aty_ t)) (g3 : cd.vm ≠ .unknown) (g4 : SZ_ cd.slots.size n1) (g5 : ∀ j, j < n1 → cd.slots[j]? = some (g j))
    (g6 : 104 ≤ t → G.1.vm.findClass ("[" ++ (aty_ t).toString) = some cd.cls ∧ ∃ (k : Class) (comp : ClassId), G.1.vm.classes[cd.cls]? = some k ∧ k.kind = .array comp (aty_ t) ∧ G.1.vm.findClass (aen_ t) = some comp)
    (h5 : dp + n ≤ n1) (e1 : H1[q]? = some (cd.storeRun dp (cs.stretch sp n))) : AR_ G H1 q t n1 (fun j => if dp ≤ j ∧ j < dp + n then f (sp + (j - dp)) else g j) := by
  obtain ⟨k1, k2, k3, -, -⟩ := Cell.storeRun_facts cd dp (cs.stretch sp n)
  have hlen : (cs.stretch sp n).length = n := by simp [Cell.stretch]
  refine ⟨_, e1, ?_, by rw [k2]; exact g3, by rw [k3]; exact g4, fun j hj => ?_, by rw [k1]; exact g6⟩
  · obtain ⟨a1, a2⟩ := g2
    exact ⟨by rw [k2]; exact a1, by rw [k1]; exact a2⟩
  · rw [Cell.storeRun_get cd dp _ j (by rw [hlen]; exact Nat.le_trans h5 g4.1), hlen]
    by_cases h : dp ≤ j ∧ j < dp + n
    · rw [if_pos h]
      simp only [h, and_self, if_true]
      unfold Cell.stretch
      rw [List.getElem?_map, List.getElem?_range (by omega)]
      show some (cs.slots.getD (sp + (j - dp)) .null) = _
      rw [Array.getD_eq_getD_getElem?, hs _ (by omega)]
      rfl
    · rw [if_neg h]
      simp only [h, if_false]
      exact g5 j hj
theorem nn_ (z : Int32) (hz : ¬ z < 0) : z.toInt = (z.toNatClampNeg : Int) := by
  have hz0 : (0 : Int) ≤ z.toInt := by
    have := Int32.not_lt.mp hz
    simpa using Int32.le_iff_toInt_le.mp this
  show z.toInt = ((z.toInt.toNat : Nat) : Int)
  omega
section
variable {p : Program} {l : Launch} {e : Env} {R : Room} {s : State} {m : MethodId} {args : Array Value} {below : List Frame} {meth : Method} {c : Code} {H : Heap} {locs : List Loc} {cells slots : Nat} {Q : State → Prop}
variable {cc : ByteArray} {pc : Nat} {ls : Array Slot} {rest : List Value} {G : GG_} {σ : Hp} {nL : Nat} {own : String}
/-- arraycopy of arrays of one kind, any values -/
theorem p_acp (X : CX_ G p s m args c cc nL own) (hP : Pic_ G σ H) (hL : LO_ G locs) {t a b index : Nat} {sp dp n : Int32} {σ' : Hp} (h100 : 100 ≤ t) (h105 : t ≤ 105) (hta : tg_ σ a = t) (htb : tg_ σ b = t) (hlo : lo_ σ < b) (h1 : ¬ sp < 0) (h2 : ¬ dp < 0) (h3 : ¬ n < 0) (h4 : sp.toNatClampNeg + n.toNatClampNeg ≤ ln_ σ a) (h5 : dp.toNatClampNeg + n.toNatClampNeg ≤ ln_ σ b)
    (hlink : Cond.methodLink own index arraycopyName ∈ lw_all) (hnat : Cond.native arraycopyName ∈ lw_all) (hstat : Cond.static arraycopyName ∈ lw_all) (hini : Cond.initialized "java/lang/System" ∈ lw_all) (hsize : ls.size = nL)
    (hvals : ∀ (T : State), T.heap = H → ∀ (compD : ClassId) (k : Class) (cd : Cell), H[b - 1]? = some cd → s.vm.classes[cd.cls]? = some k → k.kind = .array compD (aty_ t) → ∀ vm', s.vm.Alike vm' → ∀ i, i < n.toNatClampNeg → fits (aty_ t) (av_ σ t a (sp.toNatClampNeg + i)) = true ∧ (T.setVm vm').takes compD (av_ σ t a (sp.toNatClampNeg + i)))
    (e1 : tg_ σ' = tg_ σ) (e2 : ln_ σ' = ln_ σ) (e3 : fI_ σ' = fI_ σ) (e4 : fL_ σ' = fL_ σ) (e5 : fR_ σ' = fR_ σ) (e6 : nx_ σ' = nx_ σ) (e7 : lo_ σ' = lo_ σ) (hn : ∀ t' r j, r ≠ b → av_ σ' t' r j = av_ σ t' r j) (hq : ∀ j, av_ σ' t b j = if dp.toNatClampNeg ≤ j ∧ j < dp.toNatClampNeg + n.toNatClampNeg then av_ σ t a (sp.toNatClampNeg + (j - dp.toNatClampNeg)) else av_ σ t b j)
    (hframes : 1 ≤ R.frames) (hW8 : (rest.map fun v => v.category).sum ≤ 8) (hlocals : 40 ≤ R.locals) (hdg : decode cc pc = .ok (.invokestatic index, 3))
    (kk : ∀ (H1 : Heap) (locs1 : List Loc), Pic_ G σ' H1 → LO_ G locs1 → W p l e R s m args below meth c H1 locs1 cells slots Q (F0 m (pc + 3) ls rest)) : W p l e R s m args below meth c H locs cells slots Q (F0 m pc ls (.int n :: .int dp :: rv_ b :: .int sp :: rv_ a :: rest)) := by
  obtain ⟨⟨hx, hb, hml, hown, hts⟩, hW, hG⟩ := X
  obtain ⟨qa, rfl, cs, a1, a2, a3, a4, a5, a6⟩ := p_arr hP hta h100 h105
  obtain ⟨qb, rfl, cd, b1, b2, b3, b4, b5, b6⟩ := p_arr hP htb h100 h105
  have hlo' : G.1.heap.size ≤ qb := by rw [hP.2.2.1] at hlo; exact Nat.le_of_lt_succ hlo
  obtain ⟨-, ks, hks, cS, hsk⟩ := State.isArrayOf_alike hW.alike a2
  obtain ⟨-, kd, hkd, cD, hdk⟩ := State.isArrayOf_alike hW.alike b2
  intro T hT X
  have hw : nativeFrameWords "java/lang/System" "arraycopy" 5 + 11 ≤ 30 := by decide
  obtain ⟨vm', X', step⟩ := X.arraycopy hx hown (hts _ hlink) (hts _ hnat) (hts _ hstat) (hts _ hini) (src := qa) (dst := qb) (cs := cs) (cd := cd) (srcPos := sp) (destPos := dp) (n := n) (by rw [hT]; exact a1) (by rw [hT]; exact b1)
    a2.1 b2.1 a3 b3 hks hkd hsk hdk (by simp) h1 h2 h3 (by rw [nn_ sp h1, nn_ n h3]; have := a4.1; omega) (by rw [nn_ dp h2, nn_ n h3]; have := b4.1; omega)
    (fun vm₁ hal i hi => by
      have e : cs.slots.getD (sp.toNatClampNeg + i) .null = av_ σ t (qa + 1) (sp.toNatClampNeg + i) := by
        rw [Array.getD_eq_getD_getElem?, a5 _ (by omega)]
        rfl
      rw [e]
      exact hvals T hT cD kd cd b1 hkd hdk vm₁ hal i hi)
    (g := F0 m pc ls (.int n :: .int dp :: .ref qb :: .int sp :: .ref qa :: rest)) rfl (by rw [hml]; exact hsize) (rest := rest) rfl (by rw [hb]; exact hdg) hframes (by show 2 * 0 + _ + _ ≤ _; omega)
  have hl : qb < H.size := (Array.getElem?_eq_some_iff.mp b1).1
  have hheap : ((T.setVm vm').setCell qb (copied cs cd sp dp n)).heap = H.setIfInBounds qb (copied cs cd sp dp n) := by rw [← hT]; rfl
  have oq : ∀ q : Nat, q ≠ qb → (H.setIfInBounds qb (copied cs cd sp dp n))[q]? = H[q]? := fun q hq => by simp [Array.getElem?_setIfInBounds, Ne.symm hq]
  have hnew : (H.setIfInBounds qb (copied cs cd sp dp n))[qb]? = some (copied cs cd sp dp n) := by simp [Array.getElem?_setIfInBounds, hl]
  have hAR := p_cpd a5 h4 b2 b3 b4 b5 b6 h5 hnew
  have hAR' : AR_ G (H.setIfInBounds qb (copied cs cd sp dp n)) qb t (ln_ σ (qb + 1)) (av_ σ' t (qb + 1)) := by
    obtain ⟨cell, k1, k2, k3, k4, k5, k6⟩ := hAR
    exact ⟨cell, k1, k2, k3, k4, fun j hj => by rw [k5 j hj, hq j], k6⟩
  have hPn : Pic_ G σ' (H.setIfInBounds qb (copied cs cd sp dp n)) := Pic_ast hP h100 htb hlo' e1 e2 e3 e4 e5 e6 e7 (by simp) oq hn hAR'
  obtain ⟨t2, c1, d1⟩ := kk _ _ hPn (by
    intro q hq
    rcases List.mem_append.mp hq with h | h
    · exact hL q h
    · obtain ⟨z, -, hz⟩ := List.mem_map.mp h
      rw [← hz]
      exact hlo') _ hheap X'
  exact ⟨t2, step t2 c1, d1⟩
theorem p_acpB (X : CX_ G p s m args c cc nL own) (hP : Pic_ G σ H) (hL : LO_ G locs) {a b index : Nat} {sp dp n : Int32} (hta : tg_ σ a = 100) (htb : tg_ σ b = 100) (hlo : lo_ σ < b) (h1 : ¬ sp < 0) (h2 : ¬ dp < 0) (h3 : ¬ n < 0) (h4 : sp.toNatClampNeg + n.toNatClampNeg ≤ ln_ σ a) (h5 : dp.toNatClampNeg + n.toNatClampNeg ≤ ln_ σ b)
    (hfit : ∀ i, i < n.toNatClampNeg → fits .byte (.int (aI_ σ a (sp.toNatClampNeg + i))) = true)
    (hlink : Cond.methodLink own index arraycopyName ∈ lw_all) (hnat : Cond.native arraycopyName ∈ lw_all) (hstat : Cond.static arraycopyName ∈ lw_all) (hini : Cond.initialized "java/lang/System" ∈ lw_all) (hsize : ls.size = nL)
    (hframes : 1 ≤ R.frames) (hW8 : (rest.map fun v => v.category).sum ≤ 8) (hlocals : 40 ≤ R.locals) (hdg : decode cc pc = .ok (.invokestatic index, 3))
    (kk : ∀ (H1 : Heap) (locs1 : List Loc), Pic_ G (cI_ σ a sp.toNatClampNeg b dp.toNatClampNeg n.toNatClampNeg) H1 → LO_ G locs1 → W p l e R s m args below meth c H1 locs1 cells slots Q (F0 m (pc + 3) ls rest)) : W p l e R s m args below meth c H locs cells slots Q (F0 m pc ls (.int n :: .int dp :: rv_ b :: .int sp :: rv_ a :: rest)) := by
  refine p_acp (t := 100) (σ' := cI_ σ a sp.toNatClampNeg b dp.toNatClampNeg n.toNatClampNeg) X hP hL (by decide) (by decide) hta htb hlo h1 h2 h3 h4 h5 hlink hnat hstat hini hsize (fun T hT compD k cd _ _ _ vm' _ i hi => ⟨hfit i hi, trivial⟩) rfl rfl rfl rfl rfl rfl rfl (fun t' r j h => ?_) (fun j => ?_) hframes hW8 hlocals hdg kk
  · show (if t' ≤ 102 then Value.int (cp_ _ _ _ _ _ _ _ _) else _) = _
    simp [cp_, h, av_, aI_, aL_, aR_, cI_]
  · show Value.int (cp_ _ _ _ _ _ _ _ _) = _
    by_cases h : dp.toNatClampNeg ≤ j ∧ j < dp.toNatClampNeg + n.toNatClampNeg
    · rw [if_pos h]; simp [cp_, h, av_, aI_]
    · rw [if_neg h]; simp [cp_, h, av_, aI_]
theorem p_acpR (X : CX_ G p s m args c cc nL own) (hP : Pic_ G σ H) (hL : LO_ G locs) {a b index : Nat} {sp dp n : Int32} (hta : tg_ σ a = 104) (htb : tg_ σ b = 104) (hlo : lo_ σ < b) (h1 : ¬ sp < 0) (h2 : ¬ dp < 0) (h3 : ¬ n < 0) (h4 : sp.toNatClampNeg + n.toNatClampNeg ≤ ln_ σ a) (h5 : dp.toNatClampNeg + n.toNatClampNeg ≤ ln_ σ b)
    (hfit : ∀ i, i < n.toNatClampNeg → st_ σ 104 (aR_ σ a (sp.toNatClampNeg + i)))
    (hlink : Cond.methodLink own index arraycopyName ∈ lw_all) (hnat : Cond.native arraycopyName ∈ lw_all) (hstat : Cond.static arraycopyName ∈ lw_all) (hini : Cond.initialized "java/lang/System" ∈ lw_all) (hsize : ls.size = nL)
    (hframes : 1 ≤ R.frames) (hW8 : (rest.map fun v => v.category).sum ≤ 8) (hlocals : 40 ≤ R.locals) (hdg : decode cc pc = .ok (.invokestatic index, 3))
    (kk : ∀ (H1 : Heap) (locs1 : List Loc), Pic_ G (cR_ σ a sp.toNatClampNeg b dp.toNatClampNeg n.toNatClampNeg) H1 → LO_ G locs1 → W p l e R s m args below meth c H1 locs1 cells slots Q (F0 m (pc + 3) ls rest)) : W p l e R s m args below meth c H locs cells slots Q (F0 m pc ls (.int n :: .int dp :: rv_ b :: .int sp :: rv_ a :: rest)) := by
  refine p_acp (t := 104) (σ' := cR_ σ a sp.toNatClampNeg b dp.toNatClampNeg n.toNatClampNeg) X hP hL (by decide) (by decide) hta htb hlo h1 h2 h3 h4 h5 hlink hnat hstat hini hsize (fun T hT compD k cd hcd hk hkind vm' hal i hi => ?_) rfl rfl rfl rfl rfl rfl rfl (fun t' r j h => ?_) (fun j => ?_) hframes hW8 hlocals hdg kk
  · rw [av_r (by decide)]
    rcases hfit i hi with h0 | ⟨ci, hci, htv, -⟩
    · rw [h0]; exact ⟨rfl, trivial⟩
    · obtain ⟨y, hy⟩ := Pic_tag hP htv
      rw [hy] at htv ⊢
      obtain ⟨x, hc⟩ := kcl_at ci hci
      obtain ⟨cv, k1, k2, k3, -⟩ := hP.2.2.2.2.2.1 y ci x hc htv
      obtain ⟨qb, hqb, cd', b1, b2, b3, b4, b5, b6⟩ := p_arr hP htb (by decide) (by decide)
      subst hqb
      cases b1.symm.trans hcd
      obtain ⟨-, k0, comp, f1, f2, f3⟩ := b6 (by decide)
      obtain ⟨k0', hk0', he0⟩ := X.2.1.alike.2.2 _ _ f1
      cases hk.symm.trans hk0'
      rw [he0] at hkind
      have hcc : comp = compD := by
        have := f2.symm.trans hkind
        cases this
        rfl
      subst hcc
      obtain ⟨kC, hkC, -⟩ := (u_Kn_moved X.2.1.alike (X.2.2.2.1 ci x hc)).2.2
      obtain ⟨kE, hkE, -⟩ := Vm.findClass_spec f3
      obtain ⟨kE1, hkE1, -⟩ := X.2.1.alike.2.2 _ _ hkE
      obtain ⟨kC', hkC', -⟩ := hal.2.2 _ _ hkC
      obtain ⟨kE', hkE', -⟩ := hal.2.2 _ _ hkE1
      refine ⟨rfl, cv, (show T.heap[y]? = some cv by rw [hT]; exact k1), (VmData.ne_statics_of k3.2.1), ⟨kC', by rw [k2]; exact hkC'⟩, ⟨kE', hkE'⟩, ?_⟩
      show vm'.assignable _ _ = true
      rw [hal.assignable, k2]
      exact p_asg (t := 104) X.2.2 X.2.1 hc (by decide) (by decide) f3 (fun q => by cases q)
  · show (if t' ≤ 102 then _ else if t' = 103 then _ else rv_ (cp_ _ _ _ _ _ _ _ _)) = _
    simp [cp_, h, av_, aI_, aL_, aR_, cR_]
  · rw [av_r (by decide), av_r (by decide), av_r (by decide)]
    show rv_ (cp_ _ _ _ _ _ _ _ _) = _
    by_cases h : dp.toNatClampNeg ≤ j ∧ j < dp.toNatClampNeg + n.toNatClampNeg
    · rw [if_pos h]; simp [cp_, h, aR_]
    · rw [if_neg h]; simp [cp_, h, aR_]
/-! calls of nest mates, of superclasses' methods, of private methods of a superclass -/
section
variable {y : MethodName} {bytes : ByteArray} {maxL mc ms n index : Nat} {ret : Option FieldType} {ws : List Cond} {rm : Room} {Qc : Array Value → State → Outcome → State → Prop} {As st0 : List Value} {r ci N : Nat} {C host : String} {T : u_T} {ty : Nat → FieldType}
theorem p_nest (X : CX_ G p s m args c cc nL own) (hl : Cond.methodLinkNest own index y host ∈ lw_tbl) : va_Nw (.methodLinkNest own index y host) s := va_Nw.warmM X.2.1 (va_Nw.of rfl (X.2.2.1 _ hl))
theorem p_runIN (X : CX_ G p s m args c cc nL own) (hP : Pic_ G σ H) (ht : tg_ σ r = ci + 1) (hM : Met l y ws rm (PC_ G (rv_ r :: As) σ) Qc mc ms (FR_ G)) (cw : va_CN R s args own index y host bytes maxL none ws rm mc ms n ∧ y.name = "<init>" ∧ (Cond.instanceMethod y).before args s = true) (hn : As.length = n) (hsize : ls.size = nL) (hstack : st0 = As.reverse ++ rv_ r :: rest) (hW8 : (rest.map fun v => v.category).sum ≤ 8) (hdg : decode cc pc = .ok (.invokespecial index, 3)) (hf : cells + mc ≤ R.cells ∧ slots + ms ≤ R.slots) :
    va_Run p l e R s m args below meth c H locs cells slots mc ms (F0 m pc ls st0) rest (Qc (rv_ r :: As).toArray) (FR_ G) := by
  obtain ⟨q, rfl⟩ := Pic_tag hP ht
  exact va_runIN (b := q) X.1 hM cw ⟨PC_blind, fun U hU hW => PC_of hP X.2.1 hU hW⟩ rfl hn hsize hstack (lv_room hW8) hdg hf
theorem p_runSN (X : CX_ G p s m args c cc nL own) (hP : Pic_ G σ H) (hM : Met l y ws rm (PC_ G As σ) Qc mc ms (FR_ G)) (cw : va_CN R s args own index y host bytes maxL ret ws rm mc ms n ∧ (Cond.static y).before args s = true ∧ True) (hn : As.length = n) (hsize : ls.size = nL) (hstack : st0 = As.reverse ++ rest) (hW8 : (rest.map fun v => v.category).sum ≤ 8) (hdg : decode cc pc = .ok (.invokestatic index, 3)) (hf : cells + mc ≤ R.cells ∧ slots + ms ≤ R.slots) :
    va_Run p l e R s m args below meth c H locs cells slots mc ms (F0 m pc ls st0) rest (Qc As.toArray) (FR_ G) :=
  va_runSN X.1 hM cw ⟨PC_blind, fun U hU hW => PC_of hP X.2.1 hU hW⟩ rfl hn hsize hstack (lv_room hW8) hdg hf
/-- super.f(..) -/
theorem p_runSU (X : CX_ G p s m args c cc nL own) (cf : CF_ ci own T N ty) (hP : Pic_ G σ H) (ht : tg_ σ r = ci + 1) (hM : Met l y ws rm (PC_ G (rv_ r :: As) σ) Qc mc ms (FR_ G)) (cw : va_CS R s args own index y bytes maxL ret ws rm mc ms n) (hn : As.length = n) (hsize : ls.size = nL) (hstack : st0 = As.reverse ++ rv_ r :: rest) (hW8 : (rest.map fun v => v.category).sum ≤ 8) (hdg : decode cc pc = .ok (.invokespecial index, 3)) (hf : cells + mc ≤ R.cells ∧ slots + ms ≤ R.slots) :
    va_Run p l e R s m args below meth c H locs cells slots mc ms (F0 m pc ls st0) rest (Qc (rv_ r :: As).toArray) (FR_ G) := by
  obtain ⟨q, rfl⟩ := Pic_tag hP ht
  exact va_runSU (C := own) (b := q) (u_Kn_moved X.2.1.alike (X.2.2.2.1 ci _ cf.1)).2 X.1 hM cw ⟨PC_blind, p_recv hP X.2.1 X.2.2 cf ht, fun U hU hW => PC_of hP X.2.1 hU hW⟩ rfl hn hsize hstack (lv_room hW8) hdg hf
/-- an overriding method -/
theorem p_runU {x : MethodName} {owner : String} (X : CX_ G p s m args c cc nL own) (cf : CF_ ci C T N ty) (hP : Pic_ G σ H) (ht : tg_ σ r = ci + 1) (hM : Met l y ws rm (PC_ G (rv_ r :: As) σ) Qc mc ms (FR_ G)) (cw : va_CU R s args own C owner index x y bytes maxL ret ws rm mc ms n) (hn : As.length = n) (hsize : ls.size = nL) (hstack : st0 = As.reverse ++ rv_ r :: rest) (hW8 : (rest.map fun v => v.category).sum ≤ 8) (hdg : decode cc pc = .ok (.invokevirtual index, 3)) (hf : cells + mc ≤ R.cells ∧ slots + ms ≤ R.slots) :
    va_Run p l e R s m args below meth c H locs cells slots mc ms (F0 m pc ls st0) rest (Qc (rv_ r :: As).toArray) (FR_ G) := by
  obtain ⟨q, rfl⟩ := Pic_tag hP ht
  exact va_runU (C := C) (b := q) X.1 hM cw ⟨PC_blind, p_recv hP X.2.1 X.2.2 cf ht, fun U hU hW => PC_of hP X.2.1 hU hW⟩ rfl hn hsize hstack (lv_room hW8) hdg hf
/-- a private method of a superclass of the receiver's class -/
theorem p_selP (X : CX_ G p s m args c cc nL own) {k : Nat} (hy : y.cls ≠ "java/lang/invoke/MethodHandle" ∧ y.cls ≠ "java/lang/invoke/VarHandle") {y0 : MethodName} {C0 : String} (hs0 : Cond.selects C0 y0 y0 ∈ lw_all) (h0 : y0.cls = y.cls) (hins : Cond.instantiable C k ∈ lw_all) (hpriv : Cond.privateMethod y ∈ lw_tbl) (hinst : Cond.instanceMethod y ∈ lw_all) : (Cond.selects C y y).before args s = true := by
  have key : (Cond.selects C y y).before #[Value.ref G.2.1] G.1 = true := by
    obtain ⟨c, k, hc, hk, -, hniab, -, -⟩ := Cond.instantiable_spec (X.2.2.1 _ (lw_all_tbl hins))
    have hni : k.isInterface = false := (Bool.or_eq_false_iff.mp hniab).1
    obtain ⟨mk, methM, hnamed, hmethM, -, -⟩ := Cond.instanceMethod_spec (X.2.2.1 _ (lw_all_tbl hinst))
    have hfound : G.1.methodFound? y.cls y.name y.desc = some mk := State.methodFound?_of_named hnamed hy
    have hsel : selectMethod {} G.1.vm c mk = .method mk := selectMethod_private hmethM (Cond.privateMethod_at (X.2.2.1 _ hpriv) mk methM hnamed hmethM)
    obtain ⟨c2, r2, m2, q1, q2, q3, q4, kP, hkP, hkPi⟩ := Cond.selects_spec (X.2.2.1 _ (lw_all_tbl hs0))
    have hm2 : G.1.vm.findClass y0.cls = some m2.cls := findClass_of_methodNamed q3
    have hmk : G.1.vm.findClass y.cls = some mk.cls := findClass_of_methodNamed hnamed
    have hr2 : m2.cls = mk.cls := by rw [h0, hmk] at hm2; exact (Option.some.inj hm2).symm
    simp only [Cond.before, Cond.holds, Cond.value, hc, hfound, hnamed, hsel, hk]
    rw [hr2] at hkP
    simp [hkP, hkPi]
  exact word_at X.2.1 (Or.inl rfl) key
end
end
theorem lw_5 {a b c d e : Cond} (h1 : a ∈ lw_all) (h2 : b ∈ lw_all) (h3 : c ∈ lw_all) (h4 : d ∈ lw_all) (h5 : e ∈ lw_all) : ∀ w ∈ [a, b, c, d, e], w ∈ lw_all := by
  intro w hw
  simp only [List.mem_cons, List.not_mem_nil, or_false] at hw
  rcases hw with rfl | rfl | rfl | rfl | rfl <;> assumption
theorem lw_6 {a b c d e f : Cond} (h1 : a ∈ lw_all) (h2 : b ∈ lw_all) (h3 : c ∈ lw_all) (h4 : d ∈ lw_all) (h5 : e ∈ lw_all) (h6 : f ∈ lw_all) : ∀ w ∈ [a, b, c, d, e, f], w ∈ lw_all := by
  intro w hw
  simp only [List.mem_cons, List.not_mem_nil, or_false] at hw
  rcases hw with rfl | rfl | rfl | rfl | rfl | rfl <;> assumption
section
variable {p : Program} {l : Launch} {e : Env} {R : Room} {s : State} {m : MethodId} {args : Array Value} {below : List Frame} {meth : Method} {c : Code} {H : Heap} {locs : List Loc} {cells slots : Nat} {Q : State → Prop}
variable {cc : ByteArray} {pc : Nat} {ls : Array Slot} {rest : List Value} {G : GG_} {σ : Hp} {nL : Nat} {own : String}
theorem p_max (X : CX_ G p s m args c cc nL own) {index : Nat} (hlink : Cond.methodLink own index ⟨"java/lang/Math", "max", "(II)I"⟩ ∈ lw_all) (hsize : ls.size = nL) (hframes : 1 ≤ R.frames) (hW8 : (rest.map fun v => v.category).sum ≤ 8) (hlocals : 21 ≤ R.locals) (hc : cells + 0 ≤ R.cells ∧ slots + 0 ≤ R.slots) {x y : Int32} (hdg : decode cc pc = .ok (.invokestatic index, 3))
    (kk : W p l e R s m args below meth c H locs cells slots Q (F0 m (pc + 3) ls (.int (if x < y then y else x) :: rest))) : W p l e R s m args below meth c H locs cells slots Q (F0 m pc ls (.int y :: .int x :: rest)) :=
  va_mmax X.1.1 X.1.2.1 (by rw [X.1.2.2.1, hsize]) X.1.2.2.2.1 (X.1.2.2.2.2 _ hlink) (X.1.2.2.2.2 _ q277) (X.1.2.2.2.2 _ q99) (X.1.2.2.2.2 _ q278) hframes (by omega) hc.1 hc.2 hdg kk
theorem p_min (X : CX_ G p s m args c cc nL own) {index : Nat} (hlink : Cond.methodLink own index ⟨"java/lang/Math", "min", "(II)I"⟩ ∈ lw_all) (hsize : ls.size = nL) (hframes : 1 ≤ R.frames) (hW8 : (rest.map fun v => v.category).sum ≤ 8) (hlocals : 21 ≤ R.locals) (hc : cells + 0 ≤ R.cells ∧ slots + 0 ≤ R.slots) {x y : Int32} (hdg : decode cc pc = .ok (.invokestatic index, 3))
    (kk : W p l e R s m args below meth c H locs cells slots Q (F0 m (pc + 3) ls (.int (if y < x then y else x) :: rest))) : W p l e R s m args below meth c H locs cells slots Q (F0 m pc ls (.int y :: .int x :: rest)) :=
  va_mmin X.1.1 X.1.2.1 (by rw [X.1.2.2.1, hsize]) X.1.2.2.2.1 (X.1.2.2.2.2 _ hlink) (X.1.2.2.2.2 _ q295) (X.1.2.2.2.2 _ q99) (X.1.2.2.2.2 _ q296) hframes (by omega) hc.1 hc.2 hdg kk
end
theorem BU_keep {R : Room} {σ τ : Hp} {cells slots : Nat} (hB : BU_ R σ cells slots) : BU_ R (bu_ τ (bc_ σ) (bs_ σ)) (cells + 0) (slots + 0) := hB
