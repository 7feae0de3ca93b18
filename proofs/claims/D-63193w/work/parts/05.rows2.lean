/-! ROWS, second: references on the stack and in locals, new, calls, returns -/
section
variable {p : Program} {l : Launch} {e : Env} {R : Room} {s : State} {m : MethodId} {args : Array Value} {below : List Frame} {meth : Method} {c : Code} {H : Heap} {locs : List Loc} {cells slots : Nat} {Q : State → Prop}
variable {cc : ByteArray} {pc : Nat} {ls : Array Slot} {rest : List Value} {G : GG_} {σ : Hp} {nL : Nat} {own : String}
theorem p_aload_n (hexec : p.tables.exec = Jvm.exec) (hb : c.code = cc) {k : Fin 4} {i : Nat} {r : Nat} (hdg : decode cc pc = .ok (.aload_n k, 1)) (hi : (k : Nat) = i) (hl : ls[i]? = some (.val (rv_ r)))
    (kk : W p l e R s m args below meth c H locs cells slots Q (F0 m (pc + 1) ls (rv_ r :: rest))) : W p l e R s m args below meth c H locs cells slots Q (F0 m pc ls rest) := by
  cases r with
  | zero => exact lv_aload_nN hexec hb hdg hi hl kk
  | succ q => exact lv_aload_n hexec hb hdg hi hl kk
theorem p_aload (hexec : p.tables.exec = Jvm.exec) (hb : c.code = cc) {i : Nat} {r : Nat} (hdg : decode cc pc = .ok (.aload i, 2)) (hl : ls[i]? = some (.val (rv_ r)))
    (kk : W p l e R s m args below meth c H locs cells slots Q (F0 m (pc + 2) ls (rv_ r :: rest))) : W p l e R s m args below meth c H locs cells slots Q (F0 m pc ls rest) := by
  cases r with
  | zero => exact lv_aloadN hexec hb hdg hl kk
  | succ q => exact lv_aload hexec hb hdg hl kk
theorem p_istore_n (hexec : p.tables.exec = Jvm.exec) (hb : c.code = cc) {k : Fin 4} {i : Nat} {x : Int32} {lv : List (Nat × Value)} (hdg : decode cc pc = .ok (.istore_n k, 1)) (hi : (k : Nat) = i) (h : lv_has ls nL lv) (hn : i < nL) (hl : lc_ i lv)
    (kk : ∀ ls' : Array Slot, lv_has ls' nL ((i, Value.int x) :: lv) → W p l e R s m args below meth c H locs cells slots Q (F0 m (pc + 1) ls' rest)) : W p l e R s m args below meth c H locs cells slots Q (F0 m pc ls (.int x :: rest)) :=
  lv_istore_n hexec hb hdg hi h hn (by rw [lc_f hl]) kk
theorem p_istore (hexec : p.tables.exec = Jvm.exec) (hb : c.code = cc) {i : Nat} {x : Int32} {lv : List (Nat × Value)} (hdg : decode cc pc = .ok (.istore i, 2)) (h : lv_has ls nL lv) (hn : i < nL) (hl : lc_ i lv)
    (kk : ∀ ls' : Array Slot, lv_has ls' nL ((i, Value.int x) :: lv) → W p l e R s m args below meth c H locs cells slots Q (F0 m (pc + 2) ls' rest)) : W p l e R s m args below meth c H locs cells slots Q (F0 m pc ls (.int x :: rest)) :=
  lv_istore hexec hb hdg h hn (by rw [lc_f hl]) kk
theorem p_lstore_n (hexec : p.tables.exec = Jvm.exec) (hb : c.code = cc) {k : Fin 4} {i : Nat} {x : Int64} {lv : List (Nat × Value)} (hdg : decode cc pc = .ok (.lstore_n k, 1)) (hi : (k : Nat) = i) (h : lv_has ls nL lv) (hn : i + 1 < nL) (hl : lc2_ i lv)
    (kk : ∀ ls' : Array Slot, lv_has ls' nL ((i, Value.long x) :: lv) → W p l e R s m args below meth c H locs cells slots Q (F0 m (pc + 1) ls' rest)) : W p l e R s m args below meth c H locs cells slots Q (F0 m pc ls (.long x :: rest)) :=
  lv_lstore_n hexec hb hdg hi h hn (by rw [lc2_f hl]) kk
theorem p_lstore (hexec : p.tables.exec = Jvm.exec) (hb : c.code = cc) {i : Nat} {x : Int64} {lv : List (Nat × Value)} (hdg : decode cc pc = .ok (.lstore i, 2)) (h : lv_has ls nL lv) (hn : i + 1 < nL) (hl : lc2_ i lv)
    (kk : ∀ ls' : Array Slot, lv_has ls' nL ((i, Value.long x) :: lv) → W p l e R s m args below meth c H locs cells slots Q (F0 m (pc + 2) ls' rest)) : W p l e R s m args below meth c H locs cells slots Q (F0 m pc ls (.long x :: rest)) :=
  lv_lstore hexec hb hdg h hn (by rw [lc2_f hl]) kk
theorem p_astore_n (hexec : p.tables.exec = Jvm.exec) (hb : c.code = cc) {k : Fin 4} {i r : Nat} {lv : List (Nat × Value)} (hdg : decode cc pc = .ok (.astore_n k, 1)) (hi : (k : Nat) = i) (h : lv_has ls nL lv) (hn : i < nL) (hl : lc_ i lv)
    (kk : ∀ ls' : Array Slot, lv_has ls' nL ((i, rv_ r) :: lv) → W p l e R s m args below meth c H locs cells slots Q (F0 m (pc + 1) ls' rest)) : W p l e R s m args below meth c H locs cells slots Q (F0 m pc ls (rv_ r :: rest)) := by
  cases r with
  | zero => exact lv_astore_nN hexec hb hdg hi h hn (by rw [lc_f hl]; rfl) kk
  | succ q => exact lv_astore_n hexec hb hdg hi h hn (by rw [lc_f hl]; rfl) kk
theorem p_astore (hexec : p.tables.exec = Jvm.exec) (hb : c.code = cc) {i r : Nat} {lv : List (Nat × Value)} (hdg : decode cc pc = .ok (.astore i, 2)) (h : lv_has ls nL lv) (hn : i < nL) (hl : lc_ i lv)
    (kk : ∀ ls' : Array Slot, lv_has ls' nL ((i, rv_ r) :: lv) → W p l e R s m args below meth c H locs cells slots Q (F0 m (pc + 2) ls' rest)) : W p l e R s m args below meth c H locs cells slots Q (F0 m pc ls (rv_ r :: rest)) := by
  cases r with
  | zero => exact lv_astoreN hexec hb hdg h hn (by rw [lc_f hl]; rfl) kk
  | succ q => exact lv_astore hexec hb hdg h hn (by rw [lc_f hl]; rfl) kk
theorem p_iinc (hexec : p.tables.exec = Jvm.exec) (hb : c.code = cc) {i : Nat} {n : Int} {x v : Int32} {lv : List (Nat × Value)} (hdg : decode cc pc = .ok (.iinc i n, 3)) (h : lv_has ls nL ((i, .int x) :: lv)) (hv : x + Int32.ofInt n = v) (hn : i < nL) (hl : lc_ i lv)
    (kk : ∀ ls' : Array Slot, lv_has ls' nL ((i, Value.int v) :: lv) → W p l e R s m args below meth c H locs cells slots Q (F0 m (pc + 3) ls' rest)) : W p l e R s m args below meth c H locs cells slots Q (F0 m pc ls rest) := by
  refine lv_iinc (k := 0) hexec hb hdg h rfl hv hn ?_ kk
  rw [List.filter_cons, lc_f hl]
  simp
theorem p_null (hexec : p.tables.exec = Jvm.exec) (hb : c.code = cc) (hdg : decode cc pc = .ok (.aconst_null, 1)) (kk : W p l e R s m args below meth c H locs cells slots Q (F0 m (pc + 1) ls (rv_ 0 :: rest))) : W p l e R s m args below meth c H locs cells slots Q (F0 m pc ls rest) := lv_null hexec hb hdg kk
theorem p_ifnull (hexec : p.tables.exec = Jvm.exec) (hb : c.code = cc) {r : Nat} {off : Int} {tgt : Nat} (hdg : decode cc pc = .ok (.ifnull off, 3)) (ht : (pc : Int) + off = (tgt : Int)) (kt : r = 0 → W p l e R s m args below meth c H locs cells slots Q (F0 m tgt ls rest)) (kf : ¬ r = 0 → W p l e R s m args below meth c H locs cells slots Q (F0 m (pc + 3) ls rest)) : W p l e R s m args below meth c H locs cells slots Q (F0 m pc ls (rv_ r :: rest)) := by
  cases r with
  | zero => exact lv_ifnullN hexec hb hdg ht (kt rfl)
  | succ q => exact lv_ifnull hexec hb hdg (kf (by simp))
theorem p_ifnonnull (hexec : p.tables.exec = Jvm.exec) (hb : c.code = cc) {r : Nat} {off : Int} {tgt : Nat} (hdg : decode cc pc = .ok (.ifnonnull off, 3)) (ht : (pc : Int) + off = (tgt : Int)) (kt : ¬ r = 0 → W p l e R s m args below meth c H locs cells slots Q (F0 m tgt ls rest)) (kf : r = 0 → W p l e R s m args below meth c H locs cells slots Q (F0 m (pc + 3) ls rest)) : W p l e R s m args below meth c H locs cells slots Q (F0 m pc ls (rv_ r :: rest)) := by
  cases r with
  | zero => exact lv_ifnonnullN hexec hb hdg (kf rfl)
  | succ q => exact lv_ifnonnull hexec hb hdg ht (kt (by simp))
theorem p_rv (r : Nat) : ∃ o : Option Nat, rv_ r = va_rf o ∧ (r = match o with | none => 0 | some q => q + 1) := by
  cases r with
  | zero => exact ⟨none, rfl, rfl⟩
  | succ q => exact ⟨some q, rfl, rfl⟩
theorem p_rvi {x y : Nat} {a b : Option Nat} (ha : x = match a with | none => 0 | some q => q + 1) (hb : y = match b with | none => 0 | some q => q + 1) : x = y ↔ a = b := by
  cases a <;> cases b <;> simp at ha hb <;> simp [ha, hb]
theorem p_acmp_ne (hexec : p.tables.exec = Jvm.exec) (hb : c.code = cc) {x y : Nat} {off : Int} {tgt : Nat} (hdg : decode cc pc = .ok (.if_acmp .ne off, 3)) (ht : (pc : Int) + off = (tgt : Int))
    (kt : ¬ x = y → W p l e R s m args below meth c H locs cells slots Q (F0 m tgt ls rest)) (kf : x = y → W p l e R s m args below meth c H locs cells slots Q (F0 m (pc + 3) ls rest)) : W p l e R s m args below meth c H locs cells slots Q (F0 m pc ls (rv_ y :: rv_ x :: rest)) := by
  obtain ⟨a, ha, ha'⟩ := p_rv x
  obtain ⟨b, hb', hb''⟩ := p_rv y
  rw [ha, hb']
  exact lv_acmp_ne hexec hb hdg ht (fun h => kt (fun q => h ((p_rvi ha' hb'').mp q))) (fun h => kf ((p_rvi ha' hb'').mpr h))
theorem p_acmp_eq (hexec : p.tables.exec = Jvm.exec) (hb : c.code = cc) {x y : Nat} {off : Int} {tgt : Nat} (hdg : decode cc pc = .ok (.if_acmp .eq off, 3)) (ht : (pc : Int) + off = (tgt : Int))
    (kt : x = y → W p l e R s m args below meth c H locs cells slots Q (F0 m tgt ls rest)) (kf : ¬ x = y → W p l e R s m args below meth c H locs cells slots Q (F0 m (pc + 3) ls rest)) : W p l e R s m args below meth c H locs cells slots Q (F0 m pc ls (rv_ y :: rv_ x :: rest)) := by
  obtain ⟨a, ha, ha'⟩ := p_rv x
  obtain ⟨b, hb', hb''⟩ := p_rv y
  rw [ha, hb']
  exact lv_acmp_eq hexec hb hdg ht (fun h => kt ((p_rvi ha' hb'').mpr h)) (fun h => kf (fun q => h ((p_rvi ha' hb'').mp q)))
/-! new -/
theorem Pic_nx (hP : Pic_ G σ H) : nx_ σ = H.size + 1 := hP.2.1.symm
theorem Pic_bu (hP : Pic_ G σ H) (k n : Nat) : Pic_ G (bu_ σ k n) H := hP
theorem p_new (X : CX_ G p s m args c cc nL own) {ci N : Nat} {C : String} {T : u_T} {ty : Nat → FieldType} (cf : CF_ ci C T N ty) (hdf : ∀ k, k < N → dv_ (ty k) = defaultValue (ty k)) (hP : Pic_ G σ H) (hB : BU_ R σ cells slots) {index : Nat} {n : Nat} (hcl : Cond.classLink own index C ∈ lw_all) (hinst : Cond.instantiable C n ∈ lw_all) (hini : Cond.initialized C ∈ lw_all)
    (h1 : 1 ≤ bc_ σ) (h2 : n ≤ bs_ σ) (hdg : decode cc pc = .ok (.new index, 3))
    (kk : ∀ (H1 : Heap), Pic_ G (mO_ σ ci n) H1 → BU_ R (mO_ σ ci n) (cells + 1) (slots + n) → W p l e R s m args below meth c H1 locs (cells + 1) (slots + n) Q (F0 m (pc + 3) ls (rv_ (nx_ σ) :: rest))) : W p l e R s m args below meth c H locs cells slots Q (F0 m pc ls rest) := by
  obtain ⟨⟨hx, hb, -, hown, hts⟩, hW, hG⟩ := X
  obtain ⟨hc, hin, hty, hnm⟩ := cf
  have hKn := u_Kn_moved hW.alike (hG.2.1 ci _ hc)
  have hnx := Pic_nx hP
  have hb1 : cells + 1 ≤ R.cells := by have := hB.1; omega
  have hb2 : slots + n ≤ R.slots := by have := hB.2; omega
  refine W.newcK hx hb hown (hts _ hcl) (hts _ hinst) (hts _ hini) rfl hdg hb1 hb2 hKn.2.1 rfl fun H1 kC hkC e1 z1 o1 => ?_
  rw [show (Value.ref H.size :: rest) = (rv_ (nx_ σ) :: rest) by rw [hnx]; rfl]
  refine kk H1 ?_ ⟨by show cells + 1 + (bc_ σ - 1) ≤ _; have := hB.1; omega, by show slots + n + (bs_ σ - n) ≤ _; have := hB.2; omega⟩
  obtain ⟨g1, g2, g3, g4, g5, g6, g7, g8, g9, g10⟩ := hP
  have hci := kcl_lt hc
  have tgn : ∀ r, r ≠ nx_ σ → tg_ (mO_ σ ci n) r = tg_ σ r := fun r h => by show u1_ _ _ _ _ = _; simp [u1_, h]
  have tgs : tg_ (mO_ σ ci n) (nx_ σ) = ci + 1 := by show u1_ _ _ _ _ = _; simp [u1_]
  refine ⟨by rw [tgn 0 (by omega)]; exact g1, by show H1.size + 1 = nx_ σ + 1; omega, g3, by omega, fun q hq => (o1 q (by omega)).trans (g5 q hq), fun q => ?_, fun q => ?_, fun r hr => ?_, fun r hr => ?_, CS_to g10 (fun c' k => by show z3_ _ _ _ _ _ _ = _; simp [z3_, show ¬ (0 = nx_ σ) by omega])⟩
  · intro c' x' hc' ht'
    by_cases hq : q + 1 = nx_ σ
    · rw [hq, tgs] at ht'
      have hcc : c' = ci := by omega
      subst hcc
      cases hc.symm.trans hc'
      have hqs : q = H.size := by omega
      subst hqs
      refine (OB_.of (u_born ty hts hin hKn hkC e1 hty)).to (fun k hk => ?_)
      rw [← hdf k hk, hq]
      show dv_ (ty k) = fv_ _ _ _ _ (kd_ (ty k))
      unfold dv_ fv_
      match kd_ (ty k) with
      | 0 => show _ = Value.int (z3_ _ _ _ _ _ _); simp [z3_]
      | 1 => show _ = Value.long (z3_ _ _ _ _ _ _); simp [z3_]
      | _ + 2 => show _ = rv_ (z3_ _ _ _ _ _ _); simp [z3_, rv_]
    · rw [tgn _ hq] at ht'
      have hlt : q < H.size := by have := g8 (q + 1) (by omega); omega
      refine ((g6 q c' x' hc' ht').kept (o1 q hlt)).to (fun k _ => ?_)
      unfold fv_
      match kd_ (x'.2.2.2 k) with
      | 0 => show _ = Value.int (z3_ _ _ _ _ _ _); simp [z3_, hq]
      | 1 => show _ = Value.long (z3_ _ _ _ _ _ _); simp [z3_, hq]
      | _ + 2 => show _ = rv_ (z3_ _ _ _ _ _ _); simp [z3_, hq]
  · intro t ht1 ht2 ht3
    by_cases hq : q + 1 = nx_ σ
    · rw [hq, tgs] at ht3
      omega
    · rw [tgn _ hq] at ht3
      have hlt : q < H.size := by have := g8 (q + 1) (by omega); omega
      obtain ⟨cell, k1, k2, k3, k4, k5, k6⟩ := g7 q t ht1 ht2 ht3
      exact ⟨cell, (o1 q hlt).trans k1, k2, k3, k4, k5, k6⟩
  · show r < nx_ σ + 1
    by_cases hq : r = nx_ σ
    · omega
    · rw [tgn _ hq] at hr
      have := g8 r hr
      omega
  · show lo_ σ < r
    by_cases hq : r = nx_ σ
    · omega
    · rw [tgn _ hq] at hr
      exact g9 r hr
/-- a new array of numbers -/
theorem p_newa (X : CX_ G p s m args c cc nL own) {atype : ArrayType} {t : Nat} (hty : newarray.typeOf atype = aty_ t) (h100 : 100 ≤ t) (h103 : t ≤ 103) (harr : Cond.arrayClass (newarray.typeOf atype) ∈ lw_all) (hP : Pic_ G σ H) (hB : BU_ R σ cells slots) {n : Int32}
    (hn : ¬ n < 0) (hbig : n.toNatClampNeg ≤ 1000000) (h1 : 1 ≤ bc_ σ) (h2 : n.toNatClampNeg ≤ bs_ σ) (hdg : decode cc pc = .ok (.newarray atype, 2))
    (kk : ∀ (H1 : Heap), Pic_ G (mA_ σ t n.toNatClampNeg) H1 → BU_ R (mA_ σ t n.toNatClampNeg) (cells + 1) (slots + n.toNatClampNeg) → W p l e R s m args below meth c H1 locs (cells + 1) (slots + n.toNatClampNeg) Q (F0 m (pc + 2) ls (rv_ (nx_ σ) :: rest))) : W p l e R s m args below meth c H locs cells slots Q (F0 m pc ls (.int n :: rest)) := by
  obtain ⟨⟨hx, hb, -, hown, hts⟩, hW, hG⟩ := X
  have hnx := Pic_nx hP
  have hb1 : cells + 1 ≤ R.cells := by have := hB.1; omega
  have hb2 : slots + n.toNatClampNeg ≤ R.slots := by have := hB.2; omega
  refine va_newaK hx hb (hts _ harr) rfl hdg rfl hn rfl ?_ hb1 hb2 rfl fun H1 cA e1 z1 o1 hAr hNm => ?_
  · have : componentBytes (newarray.typeOf atype) ≤ 8 := by cases atype <;> decide
    have h3 := Nat.mul_le_mul hbig this
    omega
  rw [show (Value.ref H.size :: rest) = (rv_ (nx_ σ) :: rest) by rw [hnx]; rfl]
  refine kk H1 ?_ ⟨by show cells + 1 + (bc_ σ - 1) ≤ _; have := hB.1; omega, by show slots + n.toNatClampNeg + (bs_ σ - n.toNatClampNeg) ≤ _; have := hB.2; omega⟩
  obtain ⟨g1, g2, g3, g4, g5, g6, g7, g8, g9, g10⟩ := hP
  have tgn : ∀ r, r ≠ nx_ σ → tg_ (mA_ σ t n.toNatClampNeg) r = tg_ σ r := fun r h => by show u1_ _ _ _ _ = _; simp [u1_, h]
  have tgs : tg_ (mA_ σ t n.toNatClampNeg) (nx_ σ) = t := by show u1_ _ _ _ _ = _; simp [u1_]
  have lnn : ∀ r, r ≠ nx_ σ → ln_ (mA_ σ t n.toNatClampNeg) r = ln_ σ r := fun r h => by show u1_ _ _ _ _ = _; simp [u1_, h]
  have lns : ln_ (mA_ σ t n.toNatClampNeg) (nx_ σ) = n.toNatClampNeg := by show u1_ _ _ _ _ = _; simp [u1_]
  refine ⟨by rw [tgn 0 (by omega)]; exact g1, by show H1.size + 1 = nx_ σ + 1; omega, g3, by omega, fun q hq => (o1 q (by omega)).trans (g5 q hq), fun q => ?_, fun q => ?_, fun r hr => ?_, fun r hr => ?_, CS_to g10 (fun c' k => rfl)⟩
  · intro c' x' hc' ht'
    have := kcl_lt hc'
    by_cases hq : q + 1 = nx_ σ
    · rw [hq, tgs] at ht'
      omega
    · rw [tgn _ hq] at ht'
      have hlt : q < H.size := by have := g8 (q + 1) (by omega); omega
      exact (g6 q c' x' hc' ht').kept (o1 q hlt)
  · intro t' ht1 ht2 ht3
    by_cases hq : q + 1 = nx_ σ
    · rw [hq, tgs] at ht3
      subst ht3
      rw [hq, lns]
      have hqs : q = H.size := by omega
      subst hqs
      have hAs := State.isArrayOf_alike hW.alike.symm (hAr n.toNatClampNeg (fun _ => defaultValue (newarray.typeOf atype)))
      refine ⟨_, e1, by rw [← hty]; exact hAs, (fun h => by cases h), SZ_.eq (arrV_size _ _ _), fun j hj => ?_, fun h => absurd h (by omega)⟩
      rw [arrV_read _ _ hj, hty]
      have hav : av_ (mA_ σ t n.toNatClampNeg) t (nx_ σ) j = if t ≤ 102 then .int 0 else if t = 103 then .long 0 else rv_ 0 := by
        show (if t ≤ 102 then Value.int (z2_ _ _ _ _ _) else if t = 103 then Value.long (z2_ _ _ _ _ _) else rv_ (z2_ _ _ _ _ _)) = _
        simp [z2_]
      rw [hav]
      have : t = 100 ∨ t = 101 ∨ t = 102 ∨ t = 103 := by omega
      rcases this with rfl | rfl | rfl | rfl <;> rfl
    · rw [tgn _ hq] at ht3
      have hlt : q < H.size := by have := g8 (q + 1) (by omega); omega
      obtain ⟨cell, k1, k2, k3, k4, k5, k6⟩ := g7 q t' ht1 ht2 ht3
      refine ⟨cell, (o1 q hlt).trans k1, k2, k3, by rw [lnn _ hq]; exact k4, fun j hj => ?_, k6⟩
      rw [lnn _ hq] at hj
      rw [k5 j hj]
      show _ = some (if t' ≤ 102 then Value.int (z2_ _ _ _ _ _) else if t' = 103 then Value.long (z2_ _ _ _ _ _) else rv_ (z2_ _ _ _ _ _))
      simp [z2_, hq, av_]
  · show r < nx_ σ + 1
    by_cases hq : r = nx_ σ
    · omega
    · rw [tgn _ hq] at hr
      have := g8 r hr
      omega
  · show lo_ σ < r
    by_cases hq : r = nx_ σ
    · omega
    · rw [tgn _ hq] at hr
      exact g9 r hr
/-! calls -/
theorem p_recv (hP : Pic_ G σ H) (hW : G.1.WarmedH s.vm) (hG : GOK_ G) {ci N q : Nat} {C : String} {T : u_T} {ty : Nat → FieldType} (cf : CF_ ci C T N ty) (ht : tg_ σ (q + 1) = ci + 1) : ∃ cell : Cell, H[q]? = some cell ∧ cell.vm.isStatics = false ∧ s.vm.findClass C = some cell.cls := by
  obtain ⟨hc, -⟩ := cf
  obtain ⟨cell, q1, q2, q3, -⟩ := hP.2.2.2.2.2.1 q ci _ hc ht
  exact ⟨cell, q1, q3.2.1, by rw [q2]; exact (u_Kn_moved hW.alike (hG.2.1 ci _ hc)).2.1⟩
section
variable {y : MethodName} {bytes : ByteArray} {maxL mc ms n index : Nat} {ret : Option FieldType} {ws : List Cond} {rm : Room} {Qc : Array Value → State → Outcome → State → Prop} {As st0 : List Value} {r ci N : Nat} {C : String} {T : u_T} {ty : Nat → FieldType}
theorem p_runV (X : CX_ G p s m args c cc nL own) (cf : CF_ ci C T N ty) (hP : Pic_ G σ H) (ht : tg_ σ r = ci + 1) (hM : Met l y ws rm (PC_ G (rv_ r :: As) σ) Qc mc ms (FR_ G)) (cw : CallW R s args own C index y bytes maxL ret ws rm mc ms n) (hn : As.length = n) (hsize : ls.size = nL) (hstack : st0 = As.reverse ++ rv_ r :: rest) (hW8 : (rest.map fun v => v.category).sum ≤ 8) (hdg : decode cc pc = .ok (.invokevirtual index, 3)) (hf : cells + mc ≤ R.cells ∧ slots + ms ≤ R.slots) :
    va_Run p l e R s m args below meth c H locs cells slots mc ms (F0 m pc ls st0) rest (Qc (rv_ r :: As).toArray) (FR_ G) := by
  obtain ⟨q, rfl⟩ := Pic_tag hP ht
  exact va_runV (C := C) (b := q) X.1 hM cw ⟨PC_blind, p_recv hP X.2.1 X.2.2 cf ht, fun U hU hW => PC_of hP X.2.1 hU hW⟩ rfl hn hsize hstack (lv_room hW8) hdg hf
theorem p_runI (X : CX_ G p s m args c cc nL own) (hP : Pic_ G σ H) (ht : tg_ σ r = ci + 1) (hM : Met l y ws rm (PC_ G (rv_ r :: As) σ) Qc mc ms (FR_ G)) (cw : CallB R s args own index y bytes maxL none ws rm mc ms n ∧ y.name = "<init>" ∧ (Cond.instanceMethod y).before args s = true) (hn : As.length = n) (hsize : ls.size = nL) (hstack : st0 = As.reverse ++ rv_ r :: rest) (hW8 : (rest.map fun v => v.category).sum ≤ 8) (hdg : decode cc pc = .ok (.invokespecial index, 3)) (hf : cells + mc ≤ R.cells ∧ slots + ms ≤ R.slots) :
    va_Run p l e R s m args below meth c H locs cells slots mc ms (F0 m pc ls st0) rest (Qc (rv_ r :: As).toArray) (FR_ G) := by
  obtain ⟨q, rfl⟩ := Pic_tag hP ht
  exact va_runI (b := q) X.1 hM cw ⟨PC_blind, fun U hU hW => PC_of hP X.2.1 hU hW⟩ rfl hn hsize hstack (lv_room hW8) hdg hf
theorem p_runS (X : CX_ G p s m args c cc nL own) (hP : Pic_ G σ H) (hM : Met l y ws rm (PC_ G As σ) Qc mc ms (FR_ G)) (cw : CallB R s args own index y bytes maxL ret ws rm mc ms n ∧ (Cond.static y).before args s = true) (hn : As.length = n) (hsize : ls.size = nL) (hstack : st0 = As.reverse ++ rest) (hW8 : (rest.map fun v => v.category).sum ≤ 8) (hdg : decode cc pc = .ok (.invokestatic index, 3)) (hf : cells + mc ≤ R.cells ∧ slots + ms ≤ R.slots) :
    va_Run p l e R s m args below meth c H locs cells slots mc ms (F0 m pc ls st0) rest (Qc As.toArray) (FR_ G) :=
  va_runS X.1 hM cw ⟨PC_blind, fun U hU hW => PC_of hP X.2.1 hU hW⟩ rfl hn hsize hstack (lv_room hW8) hdg hf
end
section
variable {mc ms : Nat} {st0 : List Value} {a : Array Value}
theorem p_LO {L : List Loc} (hL : LO_ G locs) (h : ∀ q ∈ L, FR_ G q.base) : LO_ G (locs ++ L) := t_lL hL h
theorem p_calli {post : Int32 → Hp → Prop} (hL : LO_ G locs) (hr : va_Run p l e R s m args below meth c H locs cells slots mc ms (F0 m pc ls st0) rest (QI_ G post a) (FR_ G))
    (kk : ∀ (r : Int32) (σ1 : Hp) (H1 : Heap) (locs1 : List Loc), post r σ1 → Pic_ G σ1 H1 → LO_ G locs1 → W p l e R s m args below meth c H1 locs1 (cells + mc) (slots + ms) Q (F0 m (pc + 3) ls (.int r :: rest))) : W p l e R s m args below meth c H locs cells slots Q (F0 m pc ls st0) := by
  intro T hT X
  obtain ⟨v, st₀, t, T', L, h0, X', hL', e1, e2, ⟨r, σ1, hv, hp, hP, -⟩, st⟩ := hr T hT X
  cases hv
  obtain ⟨t2, a1, b1⟩ := kk r σ1 T'.heap (locs ++ L) hp (by rw [e1]; exact hP) (p_LO hL hL') T' rfl X'
  exact ⟨t2, st t2 a1, b1⟩
theorem p_calll {post : Int64 → Hp → Prop} (hL : LO_ G locs) (hr : va_Run p l e R s m args below meth c H locs cells slots mc ms (F0 m pc ls st0) rest (QL_ G post a) (FR_ G))
    (kk : ∀ (r : Int64) (σ1 : Hp) (H1 : Heap) (locs1 : List Loc), post r σ1 → Pic_ G σ1 H1 → LO_ G locs1 → W p l e R s m args below meth c H1 locs1 (cells + mc) (slots + ms) Q (F0 m (pc + 3) ls (.long r :: rest))) : W p l e R s m args below meth c H locs cells slots Q (F0 m pc ls st0) := by
  intro T hT X
  obtain ⟨v, st₀, t, T', L, h0, X', hL', e1, e2, ⟨r, σ1, hv, hp, hP, -⟩, st⟩ := hr T hT X
  cases hv
  obtain ⟨t2, a1, b1⟩ := kk r σ1 T'.heap (locs ++ L) hp (by rw [e1]; exact hP) (p_LO hL hL') T' rfl X'
  exact ⟨t2, st t2 a1, b1⟩
theorem p_callr {post : Nat → Hp → Prop} (hL : LO_ G locs) (hr : va_Run p l e R s m args below meth c H locs cells slots mc ms (F0 m pc ls st0) rest (QR_ G post a) (FR_ G))
    (kk : ∀ (r : Nat) (σ1 : Hp) (H1 : Heap) (locs1 : List Loc), post r σ1 → Pic_ G σ1 H1 → LO_ G locs1 → W p l e R s m args below meth c H1 locs1 (cells + mc) (slots + ms) Q (F0 m (pc + 3) ls (rv_ r :: rest))) : W p l e R s m args below meth c H locs cells slots Q (F0 m pc ls st0) := by
  intro T hT X
  obtain ⟨v, st₀, t, T', L, h0, X', hL', e1, e2, ⟨r, σ1, hv, hp, hP, -⟩, st⟩ := hr T hT X
  cases hv
  obtain ⟨t2, a1, b1⟩ := kk r σ1 T'.heap (locs ++ L) hp (by rw [e1]; exact hP) (p_LO hL hL') T' rfl X'
  exact ⟨t2, st t2 a1, b1⟩
theorem p_callv {post : Hp → Prop} (hL : LO_ G locs) (hr : va_Run p l e R s m args below meth c H locs cells slots mc ms (F0 m pc ls st0) rest (QV_ G post a) (FR_ G))
    (kk : ∀ (σ1 : Hp) (H1 : Heap) (locs1 : List Loc), post σ1 → Pic_ G σ1 H1 → LO_ G locs1 → W p l e R s m args below meth c H1 locs1 (cells + mc) (slots + ms) Q (F0 m (pc + 3) ls rest)) : W p l e R s m args below meth c H locs cells slots Q (F0 m pc ls st0) := by
  intro T hT X
  obtain ⟨v, st₀, t, T', L, h0, X', hL', e1, e2, ⟨σ1, hv, hp, hP, -⟩, st⟩ := hr T hT X
  cases hv
  obtain ⟨t2, a1, b1⟩ := kk σ1 T'.heap (locs ++ L) hp (by rw [e1]; exact hP) (p_LO hL hL') T' rfl X'
  exact ⟨t2, st t2 a1, b1⟩
end
/-! returns -/
section
theorem p_iret (X : CX_ G p s m args c cc nL own) (hlocks : meth.locks = false) (hP : Pic_ G σ H) (hL : LO_ G locs) {post : Int32 → Hp → Prop} {v : Int32} {mc ms : Nat} (h1 : cells ≤ mc) (h2 : slots ≤ ms) (hr : meth.sig.returnType = some .int) (hdg : decode cc pc = .ok (.ireturn, 1)) (hf : post v σ) : W p l e R s m args below meth c H locs cells slots (MQ below (QI_ G post) args s mc ms (FR_ G)) (F0 m pc ls [.int v]) :=
  W.widen h1 h2 (W.iret X.1.1 X.1.2.1 hr (fun t ht hW => ⟨v, σ, rfl, hf, by rw [ht]; exact hP, State.WarmedH.trans X.2.1 hW⟩) hL hdg hlocks)
theorem p_zret (X : CX_ G p s m args c cc nL own) (hlocks : meth.locks = false) (hP : Pic_ G σ H) (hL : LO_ G locs) {post : Int32 → Hp → Prop} {v : Int32} {mc ms : Nat} {ty : FieldType} (h1 : cells ≤ mc) (h2 : slots ≤ ms) (hr : meth.sig.returnType = some ty) (hn : narrow ty (.int v) = .int v) (hdg : decode cc pc = .ok (.ireturn, 1)) (hf : post v σ) : W p l e R s m args below meth c H locs cells slots (MQ below (QI_ G post) args s mc ms (FR_ G)) (F0 m pc ls [.int v]) :=
  W.widen h1 h2 (W.zret X.1.1 X.1.2.1 hr hn (fun t ht hW => ⟨v, σ, rfl, hf, by rw [ht]; exact hP, State.WarmedH.trans X.2.1 hW⟩) hL hdg hlocks)
theorem p_lret (X : CX_ G p s m args c cc nL own) (hlocks : meth.locks = false) (hP : Pic_ G σ H) (hL : LO_ G locs) {post : Int64 → Hp → Prop} {v : Int64} {mc ms : Nat} (h1 : cells ≤ mc) (h2 : slots ≤ ms) (hr : meth.sig.returnType = some .long) (hdg : decode cc pc = .ok (.lreturn, 1)) (hf : post v σ) : W p l e R s m args below meth c H locs cells slots (MQ below (QL_ G post) args s mc ms (FR_ G)) (F0 m pc ls [.long v]) :=
  W.widen h1 h2 (W.lret X.1.1 X.1.2.1 hr (fun t ht hW => ⟨v, σ, rfl, hf, by rw [ht]; exact hP, State.WarmedH.trans X.2.1 hW⟩) hL hdg hlocks)
theorem p_vret (X : CX_ G p s m args c cc nL own) (hlocks : meth.locks = false) (hP : Pic_ G σ H) (hL : LO_ G locs) {post : Hp → Prop} {mc ms : Nat} (h1 : cells ≤ mc) (h2 : slots ≤ ms) (hr : meth.sig.returnType = none) (hdg : decode cc pc = .ok (.return_, 1)) (hf : post σ) : W p l e R s m args below meth c H locs cells slots (MQ below (QV_ G post) args s mc ms (FR_ G)) (F0 m pc ls []) :=
  W.widen h1 h2 (W.vret X.1.1 X.1.2.1 hr (fun t ht hW => ⟨σ, rfl, hf, by rw [ht]; exact hP, State.WarmedH.trans X.2.1 hW⟩) hL hdg hlocks)
theorem p_aret (X : CX_ G p s m args c cc nL own) (hlocks : meth.locks = false) (hP : Pic_ G σ H) (hL : LO_ G locs) {post : Nat → Hp → Prop} {v : Nat} {mc ms : Nat} {rt : FieldType} (h1 : cells ≤ mc) (h2 : slots ≤ ms) (hr : meth.sig.returnType = some rt) (hrt : (∃ n, rt = .object n) ∨ ∃ t, rt = .array t) (hdg : decode cc pc = .ok (.areturn, 1)) (hf : post v σ) : W p l e R s m args below meth c H locs cells slots (MQ below (QR_ G post) args s mc ms (FR_ G)) (F0 m pc ls [rv_ v]) := by
  have hrv : rv_ v = .null ∨ ∃ a, rv_ v = .ref a := by
    cases v with
    | zero => exact Or.inl rfl
    | succ q => exact Or.inr ⟨q, rfl⟩
  exact W.widen h1 h2 (W.aret X.1.1 X.1.2.1 hr hrt hrv (fun t ht hW => ⟨v, σ, rfl, hf, by rw [ht]; exact hP, State.WarmedH.trans X.2.1 hW⟩) hL hdg hlocks)
end
end
